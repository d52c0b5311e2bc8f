/-! ===== the class: the tape fed; catalogue ===== -/
-- MODE X
set_option maxRecDepth 100000
section XG
variable {g : jjG} {d : Nat} {T : jjT} {Q : jjQ} {v : Int → Int → Int}
theorem xw_four {x : Int} (hT : PT T) (hV : PV v) (hS : inI x ∧ 0 ≤ v 400 3 ∧ v 400 3 ≤ 296) (hQ : Q (.inl none) (upA (upA v 400 (up1 (v 400) 3 (v 400 3 + 1 + 1 + 1 + 1))) 521 (fox (v 521) (v 400 3) x), T)) : jmet g (d + 1) 0 0 MX0_put [vR 400, vI x] (v, T) Q := by
  obtain ⟨hx, ht⟩ := hS
  have s1 := sgn_bd (x := x) (k := 24)
  have s2 := sgn_bd (x := x) (k := 16)
  have s3 := sgn_bd (x := x) (k := 8)
  have s4 := sgn_bd (x := x) (k := 0)
  refine jmet_of (ls := [some (vR 400), some (vI x), none]) sX0_put rfl (by decide +kernel) (by decide) rfl (by simp [jent]) ?_
  refine jW_step ?_
  simp (disch := (first | decide | omega)) only [bX0_put, jxs, hps, jtsw, jlsw, List.length_cons, List.length_nil, true_and, and_true, true_implies, false_implies, implies_true, not_true_eq_false, not_false_eq_true, false_and, and_false, if_true, if_false, or_true, true_or, or_false, false_or, Classical.not_not, and_self, Int.reduceAdd, Int.reduceMul, Int.reduceSub, Int.reduceNeg, Int.reduceLT, Int.reduceLE, Int.reduceEq, Int.reduceNe, Int.reduceToNat, Nat.reduceAdd, Nat.reduceMul, Nat.reduceSub, Nat.reduceLeDiff, Nat.reduceLT, Nat.reduceEqDiff, reduceIte, Nat.zero_le, Nat.le_refl, Nat.add_zero, Nat.zero_add, xwT hT, xwV hV]
  refine jW_step ?_
  simp (disch := (first | decide | omega)) only [bX0_put, jxs, hps, jtsw, jlsw, List.length_cons, List.length_nil, true_and, and_true, true_implies, false_implies, implies_true, not_true_eq_false, not_false_eq_true, false_and, and_false, if_true, if_false, or_true, true_or, or_false, false_or, Classical.not_not, and_self, Int.reduceAdd, Int.reduceMul, Int.reduceSub, Int.reduceNeg, Int.reduceLT, Int.reduceLE, Int.reduceEq, Int.reduceNe, Int.reduceToNat, Nat.reduceAdd, Nat.reduceMul, Nat.reduceSub, Nat.reduceLeDiff, Nat.reduceLT, Nat.reduceEqDiff, reduceIte, Nat.zero_le, Nat.le_refl, Nat.add_zero, Nat.zero_add, xwT hT, xwV hV]
  rw [sgn_byt hx (by omega) (by omega)]
  (repeat (refine And.intro (by (first | omega | assumption | trivial | (simp only [inI]; omega) | (simp only [inL]; omega) | (refine jb_01) | (exact jb_in))) ?_))
  refine jW_step ?_
  simp (disch := (first | decide | omega)) only [bX0_put, jxs, hps, jtsw, jlsw, List.length_cons, List.length_nil, true_and, and_true, true_implies, false_implies, implies_true, not_true_eq_false, not_false_eq_true, false_and, and_false, if_true, if_false, or_true, true_or, or_false, false_or, Classical.not_not, and_self, Int.reduceAdd, Int.reduceMul, Int.reduceSub, Int.reduceNeg, Int.reduceLT, Int.reduceLE, Int.reduceEq, Int.reduceNe, Int.reduceToNat, Nat.reduceAdd, Nat.reduceMul, Nat.reduceSub, Nat.reduceLeDiff, Nat.reduceLT, Nat.reduceEqDiff, reduceIte, Nat.zero_le, Nat.le_refl, Nat.add_zero, Nat.zero_add, xwT hT, xwV hV]
  rw [sgn_byt hx (by omega) (by omega)]
  (repeat (refine And.intro (by (first | omega | assumption | trivial | (simp only [inI]; omega) | (simp only [inL]; omega) | (refine jb_01) | (exact jb_in))) ?_))
  refine jW_step ?_
  simp (disch := (first | decide | omega)) only [bX0_put, jxs, hps, jtsw, jlsw, List.length_cons, List.length_nil, true_and, and_true, true_implies, false_implies, implies_true, not_true_eq_false, not_false_eq_true, false_and, and_false, if_true, if_false, or_true, true_or, or_false, false_or, Classical.not_not, and_self, Int.reduceAdd, Int.reduceMul, Int.reduceSub, Int.reduceNeg, Int.reduceLT, Int.reduceLE, Int.reduceEq, Int.reduceNe, Int.reduceToNat, Nat.reduceAdd, Nat.reduceMul, Nat.reduceSub, Nat.reduceLeDiff, Nat.reduceLT, Nat.reduceEqDiff, reduceIte, Nat.zero_le, Nat.le_refl, Nat.add_zero, Nat.zero_add, xwT hT, xwV hV]
  rw [sgn_byt hx (by omega) (by omega)]
  (repeat (refine And.intro (by (first | omega | assumption | trivial | (simp only [inI]; omega) | (simp only [inL]; omega) | (refine jb_01) | (exact jb_in))) ?_))
  refine jW_step ?_
  simp (disch := (first | decide | omega)) only [bX0_put, jxs, hps, jtsw, jlsw, List.length_cons, List.length_nil, true_and, and_true, true_implies, false_implies, implies_true, not_true_eq_false, not_false_eq_true, false_and, and_false, if_true, if_false, or_true, true_or, or_false, false_or, Classical.not_not, and_self, Int.reduceAdd, Int.reduceMul, Int.reduceSub, Int.reduceNeg, Int.reduceLT, Int.reduceLE, Int.reduceEq, Int.reduceNe, Int.reduceToNat, Nat.reduceAdd, Nat.reduceMul, Nat.reduceSub, Nat.reduceLeDiff, Nat.reduceLT, Nat.reduceEqDiff, reduceIte, Nat.zero_le, Nat.le_refl, Nat.add_zero, Nat.zero_add, xwT hT, xwV hV]
  rw [sgn_byt hx (by omega) (by omega)]
  (repeat (refine And.intro (by (first | omega | assumption | trivial | (simp only [inI]; omega) | (simp only [inL]; omega) | (refine jb_01) | (exact jb_in))) ?_))
  refine jW_step ?_
  simp (disch := (first | decide | omega)) only [bX0_put, jxs, hps, jtsw, jlsw, List.length_cons, List.length_nil, true_and, and_true, true_implies, false_implies, implies_true, not_true_eq_false, not_false_eq_true, false_and, and_false, if_true, if_false, or_true, true_or, or_false, false_or, Classical.not_not, and_self, Int.reduceAdd, Int.reduceMul, Int.reduceSub, Int.reduceNeg, Int.reduceLT, Int.reduceLE, Int.reduceEq, Int.reduceNe, Int.reduceToNat, Nat.reduceAdd, Nat.reduceMul, Nat.reduceSub, Nat.reduceLeDiff, Nat.reduceLT, Nat.reduceEqDiff, reduceIte, Nat.zero_le, Nat.le_refl, Nat.add_zero, Nat.zero_add, xwT hT, xwV hV]
  (repeat (refine And.intro (by (first | omega | assumption | trivial | (simp only [inI]; omega) | (simp only [inL]; omega) | (refine jb_01) | (exact jb_in))) ?_))
  exact hQ
/-- only the tape has grown -/
def jxt (v : Int → Int → Int) (t : Int) (f : Int → Int) (w : Int → Int → Int) : Prop := w 400 = up1 (v 400) 3 t ∧ w 521 = f ∧ ∀ a, a ≠ 400 → a ≠ 521 → w a = v a
theorem jxt.pv {v w : Int → Int → Int} {t : Int} {f : Int → Int} (h : jxt v t f w) (hV : PV v) : PV w := by
  intro q hq
  by_cases e : q.1 = 400
  · rw [e, h.1]
    exact (PV.r hV).up (by decide) q hq e
  · rw [h.2.2 q.1 e (fun e2 => by have := pvL_A q hq; rw [e2] at this; revert this; decide)]
    exact hV q hq
theorem jxt.tr {u v w : Int → Int → Int} {t t' : Int} {f f' : Int → Int} (h : jxt u t f v) (h2 : jxt v t' f' w) : jxt u t' f' w := ⟨by rw [h2.1, h.1, up1_same], h2.2.1, fun a a1 a2 => (h2.2.2 a a1 a2).trans (h.2.2 a a1 a2)⟩
theorem jxt.t {v w : Int → Int → Int} {t : Int} {f : Int → Int} (h : jxt v t f w) : w 400 3 = t := by rw [h.1, up1_eq]
theorem xw_four2 {x : Int} (hT : PT T) (hV : PV v) (hS : inI x ∧ 0 ≤ v 400 3 ∧ v 400 3 ≤ 296) (hQ : ∀ w, jxt v (v 400 3 + 4) (fox (v 521) (v 400 3) x) w → Q (.inl none) (w, T)) : jmet g (d + 1) 0 0 MX0_put [vR 400, vI x] (v, T) Q := by
  refine xw_four hT hV hS ?_
  refine hQ _ ⟨?_, ?_, ?_⟩
  · rw [upA_ne (by omega), upA_eq, show v 400 3 + 1 + 1 + 1 + 1 = v 400 3 + 4 by omega]
  · rw [upA_eq]
  · intro a h1 h2
    rw [upA_ne h2, upA_ne h1]
theorem xw_feed {a b c e h : Int} (hT : PT T) (hV : PV v) (hS : (inI a ∧ inI b ∧ inI c ∧ inI e ∧ inI h) ∧ 0 ≤ v 400 3 ∧ v 400 3 ≤ 300) (hQ : (v 400 3 + 20 ≤ 300 → ∀ w, jxt v (v 400 3 + 20) (fedX (v 521) (v 400 3) a b c e h) w → Q (.inl (some (vI (v 400 3 + 20)))) (w, T)) ∧ (¬ v 400 3 + 20 ≤ 300 → Q (.inl (some (vI (-1)))) (v, T))) : jmet g (d + 2) 0 0 MX0_feed [vR 400, vI a, vI b, vI c, vI e, vI h] (v, T) Q := by
  obtain ⟨⟨ha, hb, hc, he, hh⟩, ht⟩ := hS
  refine jmet_of (ls := [some (vR 400), some (vI a), some (vI b), some (vI c), some (vI e), some (vI h)]) sX0_feed rfl (by decide +kernel) (by decide) rfl (by simp [jent]) ?_
  refine jW_step ?_
  simp (disch := (first | decide | omega)) only [bX0_feed, jxs, hps, jtsw, jlsw, List.length_cons, List.length_nil, true_and, and_true, true_implies, false_implies, implies_true, not_true_eq_false, not_false_eq_true, false_and, and_false, if_true, if_false, or_true, true_or, or_false, false_or, Classical.not_not, and_self, Int.reduceAdd, Int.reduceMul, Int.reduceSub, Int.reduceNeg, Int.reduceLT, Int.reduceLE, Int.reduceEq, Int.reduceNe, Int.reduceToNat, Nat.reduceAdd, Nat.reduceMul, Nat.reduceSub, Nat.reduceLeDiff, Nat.reduceLT, Nat.reduceEqDiff, reduceIte, Nat.zero_le, Nat.le_refl, Nat.add_zero, Nat.zero_add, xwT hT, xwV hV]
  (repeat (refine And.intro (by (first | omega | assumption | trivial | (simp only [inI]; omega) | (simp only [inL]; omega) | (refine jb_01) | (exact jb_in))) ?_))
  refine ⟨fun h1 => ?_, fun h1 => ?_⟩
  · have hq := hQ.1 h1
    (repeat (refine And.intro (by (first | omega | assumption | trivial | (simp only [inI]; omega) | (simp only [inL]; omega) | (refine jb_01) | (exact jb_in))) ?_))
    refine ⟨0, 0, ⟨by omega, by omega⟩, xw_four2 hT hV ⟨ha, by omega, by omega⟩ ?_⟩
    intro w1 j1
    have t1 := j1.t
    have V1 := j1.pv hV
    simp (disch := (first | decide | omega)) only [jxs, hps, jtsw, jlsw, List.length_cons, List.length_nil, true_and, and_true, true_implies, false_implies, implies_true, not_true_eq_false, not_false_eq_true, false_and, and_false, if_true, if_false, or_true, true_or, or_false, false_or, Classical.not_not, and_self, Int.reduceAdd, Int.reduceMul, Int.reduceSub, Int.reduceNeg, Int.reduceLT, Int.reduceLE, Int.reduceEq, Int.reduceNe, Int.reduceToNat, Nat.reduceAdd, Nat.reduceMul, Nat.reduceSub, Nat.reduceLeDiff, Nat.reduceLT, Nat.reduceEqDiff, reduceIte, Nat.zero_le, Nat.le_refl, Nat.add_zero, Nat.zero_add, xwT hT, xwV hV]
    (repeat (refine And.intro (by (first | omega | assumption | trivial | (simp only [inI]; omega) | (simp only [inL]; omega) | (refine jb_01) | (exact jb_in))) ?_))
    refine ⟨0, 0, ⟨by omega, by omega⟩, xw_four2 hT V1 ⟨hb, by omega, by omega⟩ ?_⟩
    rw [t1, j1.2.1]
    intro w2 j2
    have t2 := j2.t
    have V2 := j2.pv V1
    simp (disch := (first | decide | omega)) only [jxs, hps, jtsw, jlsw, List.length_cons, List.length_nil, true_and, and_true, true_implies, false_implies, implies_true, not_true_eq_false, not_false_eq_true, false_and, and_false, if_true, if_false, or_true, true_or, or_false, false_or, Classical.not_not, and_self, Int.reduceAdd, Int.reduceMul, Int.reduceSub, Int.reduceNeg, Int.reduceLT, Int.reduceLE, Int.reduceEq, Int.reduceNe, Int.reduceToNat, Nat.reduceAdd, Nat.reduceMul, Nat.reduceSub, Nat.reduceLeDiff, Nat.reduceLT, Nat.reduceEqDiff, reduceIte, Nat.zero_le, Nat.le_refl, Nat.add_zero, Nat.zero_add, xwT hT, xwV hV]
    (repeat (refine And.intro (by (first | omega | assumption | trivial | (simp only [inI]; omega) | (simp only [inL]; omega) | (refine jb_01) | (exact jb_in))) ?_))
    refine ⟨0, 0, ⟨by omega, by omega⟩, xw_four2 hT V2 ⟨hc, by omega, by omega⟩ ?_⟩
    rw [t2, j2.2.1]
    intro w3 j3
    have t3 := j3.t
    have V3 := j3.pv V2
    simp (disch := (first | decide | omega)) only [jxs, hps, jtsw, jlsw, List.length_cons, List.length_nil, true_and, and_true, true_implies, false_implies, implies_true, not_true_eq_false, not_false_eq_true, false_and, and_false, if_true, if_false, or_true, true_or, or_false, false_or, Classical.not_not, and_self, Int.reduceAdd, Int.reduceMul, Int.reduceSub, Int.reduceNeg, Int.reduceLT, Int.reduceLE, Int.reduceEq, Int.reduceNe, Int.reduceToNat, Nat.reduceAdd, Nat.reduceMul, Nat.reduceSub, Nat.reduceLeDiff, Nat.reduceLT, Nat.reduceEqDiff, reduceIte, Nat.zero_le, Nat.le_refl, Nat.add_zero, Nat.zero_add, xwT hT, xwV hV]
    (repeat (refine And.intro (by (first | omega | assumption | trivial | (simp only [inI]; omega) | (simp only [inL]; omega) | (refine jb_01) | (exact jb_in))) ?_))
    refine ⟨0, 0, ⟨by omega, by omega⟩, xw_four2 hT V3 ⟨he, by omega, by omega⟩ ?_⟩
    rw [t3, j3.2.1]
    intro w4 j4
    have t4 := j4.t
    have V4 := j4.pv V3
    simp (disch := (first | decide | omega)) only [jxs, hps, jtsw, jlsw, List.length_cons, List.length_nil, true_and, and_true, true_implies, false_implies, implies_true, not_true_eq_false, not_false_eq_true, false_and, and_false, if_true, if_false, or_true, true_or, or_false, false_or, Classical.not_not, and_self, Int.reduceAdd, Int.reduceMul, Int.reduceSub, Int.reduceNeg, Int.reduceLT, Int.reduceLE, Int.reduceEq, Int.reduceNe, Int.reduceToNat, Nat.reduceAdd, Nat.reduceMul, Nat.reduceSub, Nat.reduceLeDiff, Nat.reduceLT, Nat.reduceEqDiff, reduceIte, Nat.zero_le, Nat.le_refl, Nat.add_zero, Nat.zero_add, xwT hT, xwV hV]
    (repeat (refine And.intro (by (first | omega | assumption | trivial | (simp only [inI]; omega) | (simp only [inL]; omega) | (refine jb_01) | (exact jb_in))) ?_))
    refine ⟨0, 0, ⟨by omega, by omega⟩, xw_four2 hT V4 ⟨hh, by omega, by omega⟩ ?_⟩
    rw [t4, j4.2.1]
    intro w5 j5
    have t5 := j5.t
    have hV := j5.pv V4
    have j := (((j1.tr j2).tr j3).tr j4).tr j5
    simp (disch := (first | decide | omega)) only [jxs, hps, jtsw, jlsw, List.length_cons, List.length_nil, true_and, and_true, true_implies, false_implies, implies_true, not_true_eq_false, not_false_eq_true, false_and, and_false, if_true, if_false, or_true, true_or, or_false, false_or, Classical.not_not, and_self, Int.reduceAdd, Int.reduceMul, Int.reduceSub, Int.reduceNeg, Int.reduceLT, Int.reduceLE, Int.reduceEq, Int.reduceNe, Int.reduceToNat, Nat.reduceAdd, Nat.reduceMul, Nat.reduceSub, Nat.reduceLeDiff, Nat.reduceLT, Nat.reduceEqDiff, reduceIte, Nat.zero_le, Nat.le_refl, Nat.add_zero, Nat.zero_add, xwT hT, xwV hV, t5]
    (repeat (refine And.intro (by (first | omega | assumption | trivial | (simp only [inI]; omega) | (simp only [inL]; omega) | (refine jb_01) | (exact jb_in))) ?_))
    have a4 : v 400 3 + 4 + 4 = v 400 3 + 8 := by omega
    have a5 : v 400 3 + 8 + 4 = v 400 3 + 12 := by omega
    have a6 : v 400 3 + 12 + 4 = v 400 3 + 16 := by omega
    have a7 : v 400 3 + 16 + 4 = v 400 3 + 20 := by omega
    rw [a4, a5, a6, a7] at j ⊢
    exact hq _ j
  · (repeat (refine And.intro (by (first | omega | assumption | trivial | (simp only [inI]; omega) | (simp only [inL]; omega) | (refine jb_01) | (exact jb_in))) ?_))
    exact hQ.2 h1
end XG
/-- a book stands in a row once -/
def ONE (f : Int → Int) (m b : Int) : Prop := ∃ q, (0 ≤ q ∧ q < m) ∧ f q = b ∧ ∀ i, 0 ≤ i → i < m → f i = b → i = q
theorem ONE.sw {f : Int → Int} {m b p : Int} (h : ONE f m b) (hp : 0 ≤ p ∧ p + 1 < m) : ONE (swp f p) m b := by
  obtain ⟨q, q1, q2, q3⟩ := h
  have e1 : swp f p (p + 1) = f p := by unfold swp; rw [up1_eq]
  have e2 : swp f p p = f (p + 1) := by unfold swp; rw [up1_ne (by omega), up1_eq]
  have e3 : ∀ i, i ≠ p → i ≠ p + 1 → swp f p i = f i := fun i a c => by unfold swp; rw [up1_ne c, up1_ne a]
  by_cases c1 : q = p
  · refine ⟨p + 1, by omega, by rw [e1, ← c1]; exact q2, fun i i0 i1 hi => ?_⟩
    by_cases a : i = p + 1
    · exact a
    · by_cases a2 : i = p
      · rw [a2, e2] at hi
        have := q3 (p + 1) (by omega) (by omega) hi
        omega
      · rw [e3 i a2 a] at hi
        have := q3 i i0 i1 hi
        omega
  · by_cases c2 : q = p + 1
    · refine ⟨p, by omega, by rw [e2, ← c2]; exact q2, fun i i0 i1 hi => ?_⟩
      by_cases a : i = p + 1
      · rw [a, e1] at hi
        have := q3 p (by omega) (by omega) hi
        omega
      · by_cases a2 : i = p
        · exact a2
        · rw [e3 i a2 a] at hi
          have := q3 i i0 i1 hi
          omega
    · refine ⟨q, q1, by rw [e3 q c1 c2]; exact q2, fun i i0 i1 hi => ?_⟩
      by_cases a : i = p + 1
      · rw [a, e1] at hi
        have := q3 p (by omega) (by omega) hi
        omega
      · by_cases a2 : i = p
        · rw [a2, e2] at hi
          have := q3 (p + 1) (by omega) (by omega) hi
          omega
        · rw [e3 i a2 a] at hi
          exact q3 i i0 i1 hi
theorem ONE.nit {c : Int → Int} {m b : Int} : ∀ (n : Nat) (p : Int) (f : Int → Int), 0 ≤ p → ONE f m b → ONE (nitL c m n p f) m b
  | 0, _, _, _, h => by unfold nitL; exact h
  | n + 1, p, f, hp, h => by
    unfold nitL
    split
    · exact h
    · refine ONE.nit n (p + 2) _ (by omega) ?_
      split
      · exact h
      · exact h.sw ⟨hp, by omega⟩
theorem ONE.cg {f f' : Int → Int} {m b : Int} (h : ONE f m b) (e : EQm m f f') : ONE f' m b := by
  obtain ⟨q, q1, q2, q3⟩ := h
  exact ⟨q, q1, by rw [← e q q1.1 q1.2]; exact q2, fun i i0 i1 hi => q3 i i0 i1 (by rw [e i i0 i1]; exact hi)⟩
theorem pwF_at {f : Int → Int} {b q : Int} (hq : f q = b) : ∀ (n : Nat) (k : Int), (k ≤ q ∧ q < k + n) → (∀ i, k ≤ i → i < q → ¬ f i = b) → pwF f b n k = q
  | 0, k, h, _ => by omega
  | n + 1, k, h, hn => by
    unfold pwF
    by_cases e : k = q
    · rw [if_pos (by rw [e]; exact hq), e]
    · rw [if_neg (hn k (by omega) (by omega))]
      exact pwF_at hq n (k + 1) (by omega) (fun i i0 i1 => hn i (by omega) i1)
theorem ctF_no {f th : Int → Int} {b : Int} : ∀ (n : Nat) (p : Int), (∀ i, p ≤ i → i < p + n → ¬ f i = b) → ctF f b n p th = th
  | 0, _, _ => rfl
  | n + 1, p, h => by
    unfold ctF
    rw [if_neg (h p (by omega) (by omega)), Int.add_zero, up1_id]
    exact ctF_no n (p + 1) (fun i i0 i1 => h i (by omega) (by omega))
theorem ctF_one {f : Int → Int} {b q : Int} (hq : f q = b) : ∀ (n : Nat) (p : Int) (th : Int → Int), (p ≤ q ∧ q < p + n) → (∀ i, p ≤ i → i < p + n → f i = b → i = q) → ctF f b n p th = up1 th q (th q + 1)
  | 0, p, th, h, _ => by omega
  | n + 1, p, th, h, hn => by
    unfold ctF
    by_cases e : p = q
    · rw [if_pos (by rw [e]; exact hq), ctF_no n (p + 1) (fun i i0 i1 hi => by have := hn i (by omega) (by omega) hi; omega), e]
    · rw [if_neg (fun hi => e (hn p (by omega) (by omega) hi)), Int.add_zero, up1_id]
      exact ctF_one hq n (p + 1) th (by omega) (fun i i0 i1 => hn i (by omega) (by omega))
theorem SH.one {A : Int → Int} {b : Int} (hB : TB A) (hH : SH A) (hb : 0 ≤ b ∧ b < A 0) (hs : A (46 + 6 * b + 5) < 3) : ONE (lrZ A (A (46 + 6 * b + 5)) (-1)).1 (A (13 + A (46 + 6 * b + 5))) b := by
  have h0 := hB.1
  have w0 := (hB.2.2.2.2.2.2 (46 + 6 * b + 5) (by omega) (by omega)).1
  have q := lrZ_all hB (s := A (46 + 6 * b + 5)) ⟨w0, hs⟩
  obtain ⟨p, p0, p1, p2⟩ := hH.2.2.1 b hb.1 hb.2 hs
  refine ONE.cg (f := fun p => A (16 + 10 * A (46 + 6 * b + 5) + p)) ⟨p, ⟨p0, p1⟩, p2, fun i i0 i1 hi => ?_⟩ (fun i i0 i1 => (q.2 i i0 i1).symm)
  exact hH.2.1 _ i p w0 hs i0 i1 p0 p1 (hi.trans p2.symm)
