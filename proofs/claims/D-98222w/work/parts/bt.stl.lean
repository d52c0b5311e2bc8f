/-! ===== the reference: what waits goes out ===== -/
set_option maxRecDepth 100000
def seM (least : Int) : List Int → List (Int × Int) → List Int × List (Int × Int)
  | [], acc => ([], acc)
  | x :: P, acc => if x < 40 ∧ least ≤ x then seM least P (acc ++ [(x, 0)]) else (x :: P, acc)
def whM : List Int → List (Int × Int) → Int → List Int × List (Int × Int) × Int
  | [], acc, o => ([], acc, o)
  | x :: P, acc, o => if x = 2 then whM P (acc ++ [(2, 0)]) (o - 1) else (x :: P, acc, o)
section TG
variable {g : jjG} {d : Nat} {T : jjT} {Q : jjQ} {B : Int → Int} {n k : Nat} {t z : Int}
theorem tw_settle_0 {l o : Int} : ∀ (P : List Int) (acc : List (Int × Int)) (v : Int → Int → Int), PT T → PV v → MS v B n k t P acc o z → acc.length + P.length ≤ 304 → (∀ w, XS t v w → MS w B n k t (seM l P acc).1 (seM l P acc).2 o z → Q (.inl none) (w, T)) → jW bX2_settle (g, d + 1, 0, 0, Q) 0 [some (vR 539), some (vI l)] [] (v, T) 0 0
  | [], acc, v, hT, hV, hS, hl, hQ => by
    have m1 : v 539 17 = 0 := hS.2.2.1.1
    refine jW_step ?_
    simp (disch := (first | decide | omega)) only [bX2_settle, jxs, hps, jtsw, jlsw, List.length_cons, List.length_nil, true_and, and_true, true_implies, false_implies, implies_true, not_true_eq_false, not_false_eq_true, false_and, and_false, if_true, if_false, or_true, true_or, or_false, false_or, Classical.not_not, and_self, Int.reduceAdd, Int.reduceMul, Int.reduceSub, Int.reduceNeg, Int.reduceLT, Int.reduceLE, Int.reduceEq, Int.reduceNe, Int.reduceToNat, Nat.reduceAdd, Nat.reduceMul, Nat.reduceSub, Nat.reduceLeDiff, Nat.reduceLT, Nat.reduceEqDiff, reduceIte, Nat.zero_le, Nat.le_refl, Nat.add_zero, Nat.zero_add, twT hT, twV hV, m1]
    refine jW_step ?_
    simp (disch := (first | decide | omega)) only [bX2_settle, jxs, hps, jtsw, jlsw, List.length_cons, List.length_nil, true_and, and_true, true_implies, false_implies, implies_true, not_true_eq_false, not_false_eq_true, false_and, and_false, if_true, if_false, or_true, true_or, or_false, false_or, Classical.not_not, and_self, Int.reduceAdd, Int.reduceMul, Int.reduceSub, Int.reduceNeg, Int.reduceLT, Int.reduceLE, Int.reduceEq, Int.reduceNe, Int.reduceToNat, Nat.reduceAdd, Nat.reduceMul, Nat.reduceSub, Nat.reduceLeDiff, Nat.reduceLT, Nat.reduceEqDiff, reduceIte, Nat.zero_le, Nat.le_refl, Nat.add_zero, Nat.zero_add, twT hT, twV hV]
    (repeat (refine And.intro (by (first | omega | assumption | trivial | (simp only [inI]; omega) | (simp only [inL]; omega) | (refine jb_01) | (exact jb_in))) ?_))
    exact hQ v XS.rf hS
  | x :: P, acc, v, hT, hV, hS, hl, hQ => by
    have m0 := hS.2.2.1.1
    have m2 := hS.2.2.1.2.1
    rw [List.length_cons] at m0 m2 hl
    have m1 : v 539 17 = (P.length : Int) + 1 := by rw [m0]; omega
    have hx : v 544 ((P.length : Int) + 1 - 1) = x := by rw [show (P.length : Int) + 1 - 1 = P.length by omega]; exact hS.2.2.1.2.2.1
    have hx2 : v 544 (P.length : Int) = x := hS.2.2.1.2.2.1
    have eo : v 539 18 = o := hS.2.2.2.1
    have k1 : ¬ (x < 40 ∧ l ≤ x) → jW bX2_settle (g, d + 1, 0, 0, Q) 1 [some (vR 539), some (vI l)] [] (v, T) 0 0 := by
      intro q
      unfold seM at hQ
      rw [if_neg q] at hQ
      refine jW_step ?_
      simp (disch := (first | decide | omega)) only [bX2_settle, jxs, hps, jtsw, jlsw, List.length_cons, List.length_nil, true_and, and_true, true_implies, false_implies, implies_true, not_true_eq_false, not_false_eq_true, false_and, and_false, if_true, if_false, or_true, true_or, or_false, false_or, Classical.not_not, and_self, Int.reduceAdd, Int.reduceMul, Int.reduceSub, Int.reduceNeg, Int.reduceLT, Int.reduceLE, Int.reduceEq, Int.reduceNe, Int.reduceToNat, Nat.reduceAdd, Nat.reduceMul, Nat.reduceSub, Nat.reduceLeDiff, Nat.reduceLT, Nat.reduceEqDiff, reduceIte, Nat.zero_le, Nat.le_refl, Nat.add_zero, Nat.zero_add, twT hT, twV hV]
      (repeat (refine And.intro (by (first | omega | assumption | trivial | (simp only [inI]; omega) | (simp only [inL]; omega) | (refine jb_01) | (exact jb_in))) ?_))
      exact hQ v XS.rf hS
    refine jW_step ?_
    simp (disch := (first | decide | omega)) only [bX2_settle, jxs, hps, jtsw, jlsw, List.length_cons, List.length_nil, true_and, and_true, true_implies, false_implies, implies_true, not_true_eq_false, not_false_eq_true, false_and, and_false, if_true, if_false, or_true, true_or, or_false, false_or, Classical.not_not, and_self, Int.reduceAdd, Int.reduceMul, Int.reduceSub, Int.reduceNeg, Int.reduceLT, Int.reduceLE, Int.reduceEq, Int.reduceNe, Int.reduceToNat, Nat.reduceAdd, Nat.reduceMul, Nat.reduceSub, Nat.reduceLeDiff, Nat.reduceLT, Nat.reduceEqDiff, reduceIte, Nat.zero_le, Nat.le_refl, Nat.add_zero, Nat.zero_add, twT hT, twV hV, m1, hx]
    (first | refine ⟨fun h9 => (by exfalso; omega), fun _ => ?_⟩ | intro _)
    (repeat (refine And.intro (by (first | omega | assumption | trivial | (simp only [inI]; omega) | (simp only [inL]; omega) | (refine jb_01) | (exact jb_in))) ?_))
    refine ⟨fun h1 => ?_, fun h1 => ?_⟩
    · exact k1 (fun q => by omega)
    · (repeat (refine And.intro (by (first | omega | assumption | trivial | (simp only [inI]; omega) | (simp only [inL]; omega) | (refine jb_01) | (exact jb_in))) ?_))
      refine ⟨fun h2 => ?_, fun h2 => ?_⟩
      · exact k1 (fun q => by omega)
      · unfold seM at hQ
        rw [if_pos (by omega)] at hQ
        have pp := hS.pop (w := upA v 539 (up1 (v 539) 17 ((P.length : Int) + 1 - 1))) (o' := o) (fun a ha => upA_ne ha) (by rw [upA_eq, up1_eq]; omega) (by rw [upA_eq, up1_ne (by decide)]; exact eo) (fun j j1 _ => by rw [upA_eq, up1_ne j1])
        (repeat (refine And.intro (by (first | omega | assumption | trivial | (simp only [inI]; omega) | (simp only [inL]; omega) | (refine jb_01) | (exact jb_in))) ?_))
        refine ⟨0, 0, ⟨by omega, by omega⟩, tw_emit (d := d) hT (pp.1.pv hV) pp.2 (by omega) ?_⟩
        intro w w1 w2
        simp (disch := (first | decide | omega)) only [jxs, hps, jtsw, jlsw, List.length_cons, List.length_nil, true_and, and_true, true_implies, false_implies, implies_true, not_true_eq_false, not_false_eq_true, false_and, and_false, if_true, if_false, or_true, true_or, or_false, false_or, Classical.not_not, and_self, Int.reduceAdd, Int.reduceMul, Int.reduceSub, Int.reduceNeg, Int.reduceLT, Int.reduceLE, Int.reduceEq, Int.reduceNe, Int.reduceToNat, Nat.reduceAdd, Nat.reduceMul, Nat.reduceSub, Nat.reduceLeDiff, Nat.reduceLT, Nat.reduceEqDiff, reduceIte, Nat.zero_le, Nat.le_refl, Nat.add_zero, Nat.zero_add, twT hT, twV hV]
        exact tw_settle_0 P (acc ++ [(x, 0)]) w hT (w1.pv (pp.1.pv hV)) w2 (by rw [List.length_append]; simp only [List.length_cons, List.length_nil]; omega) (fun u u1 u2 => hQ u ((pp.1.tr w1).tr u1) u2)
theorem tw_settle {l o : Int} {P : List Int} {acc : List (Int × Int)} {v : Int → Int → Int} (hT : PT T) (hV : PV v) (hS : MS v B n k t P acc o z) (hl : acc.length + P.length ≤ 304) (hQ : ∀ w, XS t v w → MS w B n k t (seM l P acc).1 (seM l P acc).2 o z → Q (.inl none) (w, T)) : jmet g (d + 2) 0 0 MX2_settle [vR 539, vI l] (v, T) Q := by
  refine jmet_of (ls := [some (vR 539), some (vI l)]) sX2_settle rfl (by decide +kernel) (by decide) rfl (by simp [jent]) ?_
  exact tw_settle_0 P acc v hT hV hS hl hQ
end TG
