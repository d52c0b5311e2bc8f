/-! ===== the reference works a clause ===== -/
set_option maxRecDepth 100000
theorem jcmp_le {a b : Int} : (jcmp a b ≤ 0) = (a ≤ b) := by
  unfold jcmp; apply propext; constructor <;> intro h <;> (repeat' split at h) <;> (repeat' split) <;> omega
theorem jcmp_ge {a b : Int} : (0 ≤ jcmp a b) = (b ≤ a) := by
  unfold jcmp; apply propext; constructor <;> intro h <;> (repeat' split at h) <;> (repeat' split) <;> omega
theorem jcmp_lt {a b : Int} : (jcmp a b < 0) = (a < b) := by
  unfold jcmp; apply propext; constructor <;> intro h <;> (repeat' split at h) <;> (repeat' split) <;> omega
theorem jcmp_gt {a b : Int} : (0 < jcmp a b) = (b < a) := by
  unfold jcmp; apply propext; constructor <;> intro h <;> (repeat' split at h) <;> (repeat' split) <;> omega
theorem jcmp_e0 {a b : Int} : (jcmp a b = 0) = (a = b) := by
  unfold jcmp; apply propext; constructor <;> intro h <;> (repeat' split at h) <;> (repeat' split) <;> omega
def jcs := And.intro @jcmp_le (And.intro @jcmp_ge (And.intro @jcmp_lt (And.intro @jcmp_gt @jcmp_e0)))
theorem tdiv_bd {x y : Int} (h : -1000000 ≤ x ∧ x ≤ 1000000) : -1000000 ≤ x.tdiv y ∧ x.tdiv y ≤ 1000000 := by
  have h1 : (x.tdiv y).natAbs ≤ x.natAbs := by
    rw [Int.natAbs_tdiv]
    exact Nat.div_le_self _ _
  omega
theorem mul_bd {x y : Int} (h : -1000000 ≤ x ∧ x ≤ 1000000) (h2 : -1000000 ≤ y ∧ y ≤ 1000000) : -1000000000000 ≤ x * y ∧ x * y ≤ 1000000000000 := by
  have h1 : (x * y).natAbs ≤ 1000000 * 1000000 := by
    rw [Int.natAbs_mul]
    exact Nat.mul_le_mul (by omega) (by omega)
  omega
section TG
variable {g : jjG} {d : Nat} {T : jjT} {Q : jjQ}
theorem tw_two {v : Int → Int → Int} {o x y : Int} (hT : PT T) (hV : PV v) (hS : (3 ≤ o ∧ o ≤ 6) ∧ (-1000000 ≤ x ∧ x ≤ 1000000) ∧ (-1000000 ≤ y ∧ y ≤ 1000000)) (hQ : Q (.inl (some (vL (twoz o x y)))) (v, T)) : jmet g (d + 2) 0 0 MX2_two [vI o, vL x, vL y] (v, T) Q := by
  refine jmet_of (ls := [some (vI o), some (vL x), none, some (vL y), none]) sX2_two rfl (by decide +kernel) (by decide) rfl (by simp [jent]) ?_
  unfold twoz at hQ
  obtain ⟨ho, hx, hy⟩ := hS
  have hm := mul_bd hx hy
  have hd := tdiv_bd (y := y) hx
  refine jW_step ?_
  simp (disch := omega) only [bX2_two, jxs, hps, jtsw, jlsw, List.length_cons, List.length_nil, true_and, and_true, true_implies, false_implies, implies_true, not_true_eq_false, not_false_eq_true, false_and, and_false, if_true, if_false, or_true, true_or, or_false, false_or, Classical.not_not, and_self, Int.reduceAdd, Int.reduceMul, Int.reduceSub, Int.reduceNeg, Int.reduceLT, Int.reduceLE, Int.reduceEq, Int.reduceNe, Int.reduceToNat, Nat.reduceAdd, Nat.reduceMul, Nat.reduceSub, Nat.reduceLeDiff, Nat.reduceLT, Nat.reduceEqDiff, reduceIte, Nat.zero_le, Nat.le_refl, Nat.add_zero, Nat.zero_add, twT hT, twV hV, jcs]
  refine ⟨⟨fun h => ?_, fun h => ?_, fun h => ?_⟩, fun h => ⟨fun h2 => ?_, fun h2 => ?_⟩⟩
  · rw [if_pos h] at hQ
    (repeat (refine And.intro (by (first | omega | assumption | trivial | (simp only [inI]; omega) | (simp only [inL]; omega) | (refine jb_01) | (exact jb_in))) ?_))
    refine ⟨0, 0, ⟨by omega, by omega⟩, tw_clip hT (by (first | assumption | (repeat (first | assumption | refine PV.A ?_ (by decide) | refine PV.F ?_ ?_ | refine twR.up ?_ (by decide) | refine PV.r ?_)))) (by (first | omega | assumption | trivial | (simp only [inI]; omega) | (simp only [inL]; omega) | (refine jb_01) | (exact jb_in))) ?_⟩
    simp (disch := omega) only [jxs, hps, jtsw, jlsw, List.length_cons, List.length_nil, true_and, and_true, true_implies, false_implies, implies_true, not_true_eq_false, not_false_eq_true, false_and, and_false, if_true, if_false, or_true, true_or, or_false, false_or, Classical.not_not, and_self, Int.reduceAdd, Int.reduceMul, Int.reduceSub, Int.reduceNeg, Int.reduceLT, Int.reduceLE, Int.reduceEq, Int.reduceNe, Int.reduceToNat, Nat.reduceAdd, Nat.reduceMul, Nat.reduceSub, Nat.reduceLeDiff, Nat.reduceLT, Nat.reduceEqDiff, reduceIte, Nat.zero_le, Nat.le_refl, Nat.add_zero, Nat.zero_add, twT hT, twV hV]
    (repeat (refine And.intro (by (first | omega | assumption | trivial | (simp only [inI]; omega) | (simp only [inL]; omega) | (refine jb_01) | (exact jb_in))) ?_))
    exact hQ
  · rw [if_neg (by omega), if_pos h] at hQ
    (repeat (refine And.intro (by (first | omega | assumption | trivial | (simp only [inI]; omega) | (simp only [inL]; omega) | (refine jb_01) | (exact jb_in))) ?_))
    refine ⟨0, 0, ⟨by omega, by omega⟩, tw_clip hT (by (first | assumption | (repeat (first | assumption | refine PV.A ?_ (by decide) | refine PV.F ?_ ?_ | refine twR.up ?_ (by decide) | refine PV.r ?_)))) (by (first | omega | assumption | trivial | (simp only [inI]; omega) | (simp only [inL]; omega) | (refine jb_01) | (exact jb_in))) ?_⟩
    simp (disch := omega) only [jxs, hps, jtsw, jlsw, List.length_cons, List.length_nil, true_and, and_true, true_implies, false_implies, implies_true, not_true_eq_false, not_false_eq_true, false_and, and_false, if_true, if_false, or_true, true_or, or_false, false_or, Classical.not_not, and_self, Int.reduceAdd, Int.reduceMul, Int.reduceSub, Int.reduceNeg, Int.reduceLT, Int.reduceLE, Int.reduceEq, Int.reduceNe, Int.reduceToNat, Nat.reduceAdd, Nat.reduceMul, Nat.reduceSub, Nat.reduceLeDiff, Nat.reduceLT, Nat.reduceEqDiff, reduceIte, Nat.zero_le, Nat.le_refl, Nat.add_zero, Nat.zero_add, twT hT, twV hV]
    (repeat (refine And.intro (by (first | omega | assumption | trivial | (simp only [inI]; omega) | (simp only [inL]; omega) | (refine jb_01) | (exact jb_in))) ?_))
    exact hQ
  · rw [if_neg (by omega), if_neg (by omega), if_pos h] at hQ
    (repeat (refine And.intro (by (first | omega | assumption | trivial | (simp only [inI]; omega) | (simp only [inL]; omega) | (refine jb_01) | (exact jb_in))) ?_))
    refine ⟨0, 0, ⟨by omega, by omega⟩, tw_clip hT (by (first | assumption | (repeat (first | assumption | refine PV.A ?_ (by decide) | refine PV.F ?_ ?_ | refine twR.up ?_ (by decide) | refine PV.r ?_)))) (by (first | omega | assumption | trivial | (simp only [inI]; omega) | (simp only [inL]; omega) | (refine jb_01) | (exact jb_in))) ?_⟩
    simp (disch := omega) only [jxs, hps, jtsw, jlsw, List.length_cons, List.length_nil, true_and, and_true, true_implies, false_implies, implies_true, not_true_eq_false, not_false_eq_true, false_and, and_false, if_true, if_false, or_true, true_or, or_false, false_or, Classical.not_not, and_self, Int.reduceAdd, Int.reduceMul, Int.reduceSub, Int.reduceNeg, Int.reduceLT, Int.reduceLE, Int.reduceEq, Int.reduceNe, Int.reduceToNat, Nat.reduceAdd, Nat.reduceMul, Nat.reduceSub, Nat.reduceLeDiff, Nat.reduceLT, Nat.reduceEqDiff, reduceIte, Nat.zero_le, Nat.le_refl, Nat.add_zero, Nat.zero_add, twT hT, twV hV]
    (repeat (refine And.intro (by (first | omega | assumption | trivial | (simp only [inI]; omega) | (simp only [inL]; omega) | (refine jb_01) | (exact jb_in))) ?_))
    exact hQ
  · rw [if_neg (by omega), if_neg (by omega), if_neg (by omega), if_neg h2] at hQ
    (repeat (refine And.intro (by (first | omega | assumption | trivial | (simp only [inI]; omega) | (simp only [inL]; omega) | (refine jb_01) | (exact jb_in))) ?_))
    refine ⟨0, 0, ⟨by omega, by omega⟩, tw_clip hT (by (first | assumption | (repeat (first | assumption | refine PV.A ?_ (by decide) | refine PV.F ?_ ?_ | refine twR.up ?_ (by decide) | refine PV.r ?_)))) (by (first | omega | assumption | trivial | (simp only [inI]; omega) | (simp only [inL]; omega) | (refine jb_01) | (exact jb_in))) ?_⟩
    simp (disch := omega) only [jxs, hps, jtsw, jlsw, List.length_cons, List.length_nil, true_and, and_true, true_implies, false_implies, implies_true, not_true_eq_false, not_false_eq_true, false_and, and_false, if_true, if_false, or_true, true_or, or_false, false_or, Classical.not_not, and_self, Int.reduceAdd, Int.reduceMul, Int.reduceSub, Int.reduceNeg, Int.reduceLT, Int.reduceLE, Int.reduceEq, Int.reduceNe, Int.reduceToNat, Nat.reduceAdd, Nat.reduceMul, Nat.reduceSub, Nat.reduceLeDiff, Nat.reduceLT, Nat.reduceEqDiff, reduceIte, Nat.zero_le, Nat.le_refl, Nat.add_zero, Nat.zero_add, twT hT, twV hV]
    refine jW_step ?_
    simp (disch := omega) only [bX2_two, jxs, hps, jtsw, jlsw, List.length_cons, List.length_nil, true_and, and_true, true_implies, false_implies, implies_true, not_true_eq_false, not_false_eq_true, false_and, and_false, if_true, if_false, or_true, true_or, or_false, false_or, Classical.not_not, and_self, Int.reduceAdd, Int.reduceMul, Int.reduceSub, Int.reduceNeg, Int.reduceLT, Int.reduceLE, Int.reduceEq, Int.reduceNe, Int.reduceToNat, Nat.reduceAdd, Nat.reduceMul, Nat.reduceSub, Nat.reduceLeDiff, Nat.reduceLT, Nat.reduceEqDiff, reduceIte, Nat.zero_le, Nat.le_refl, Nat.add_zero, Nat.zero_add, twT hT, twV hV]
    (repeat (refine And.intro (by (first | omega | assumption | trivial | (simp only [inI]; omega) | (simp only [inL]; omega) | (refine jb_01) | (exact jb_in))) ?_))
    exact hQ
  · rw [if_neg (by omega), if_neg (by omega), if_neg (by omega), if_pos h2] at hQ
    refine jW_step ?_
    simp (disch := omega) only [bX2_two, jxs, hps, jtsw, jlsw, List.length_cons, List.length_nil, true_and, and_true, true_implies, false_implies, implies_true, not_true_eq_false, not_false_eq_true, false_and, and_false, if_true, if_false, or_true, true_or, or_false, false_or, Classical.not_not, and_self, Int.reduceAdd, Int.reduceMul, Int.reduceSub, Int.reduceNeg, Int.reduceLT, Int.reduceLE, Int.reduceEq, Int.reduceNe, Int.reduceToNat, Nat.reduceAdd, Nat.reduceMul, Nat.reduceSub, Nat.reduceLeDiff, Nat.reduceLT, Nat.reduceEqDiff, reduceIte, Nat.zero_le, Nat.le_refl, Nat.add_zero, Nat.zero_add, twT hT, twV hV]
    (repeat (refine And.intro (by (first | omega | assumption | trivial | (simp only [inI]; omega) | (simp only [inL]; omega) | (refine jb_01) | (exact jb_in))) ?_))
    exact hQ
theorem tw_isAsked {v : Int → Int → Int} {o x y : Int} (hT : PT T) (hV : PV v) (hS : True) (hQ : Q (.inl (some (vI (askz o x y)))) (v, T)) : jmet g (d + 1) 0 0 MX2_isAsked [vI o, vL x, vL y] (v, T) Q := by
  refine jmet_of (ls := [some (vI o), some (vL x), none, some (vL y), none]) sX2_isAsked rfl (by decide +kernel) (by decide) rfl (by simp [jent]) ?_
  unfold askz at hQ
  have fin : ∀ z : Int, 0 ≤ z ∧ z ≤ 1 → Q (.inl (some (vI z))) (v, T) → jW bX2_isAsked (g, d, 0, 0, Q) 1 [some (vI o), some (vL x), none, some (vL y), none] [vI z] (v, T) 0 0 := by
    intro z hz hq
    refine jW_step ?_
    simp (disch := omega) only [bX2_isAsked, jxs, hps, jtsw, jlsw, List.length_cons, List.length_nil, true_and, and_true, true_implies, false_implies, implies_true, not_true_eq_false, not_false_eq_true, false_and, and_false, if_true, if_false, or_true, true_or, or_false, false_or, Classical.not_not, and_self, Int.reduceAdd, Int.reduceMul, Int.reduceSub, Int.reduceNeg, Int.reduceLT, Int.reduceLE, Int.reduceEq, Int.reduceNe, Int.reduceToNat, Nat.reduceAdd, Nat.reduceMul, Nat.reduceSub, Nat.reduceLeDiff, Nat.reduceLT, Nat.reduceEqDiff, reduceIte, Nat.zero_le, Nat.le_refl, Nat.add_zero, Nat.zero_add, twT hT, twV hV]
    (repeat (refine And.intro (by (first | omega | assumption | trivial | (simp only [inI]; omega) | (simp only [inL]; omega) | (refine jb_01) | (exact jb_in))) ?_))
    exact hq
  refine jW_step ?_
  simp (disch := omega) only [bX2_isAsked, jxs, hps, jtsw, jlsw, List.length_cons, List.length_nil, true_and, and_true, true_implies, false_implies, implies_true, not_true_eq_false, not_false_eq_true, false_and, and_false, if_true, if_false, or_true, true_or, or_false, false_or, Classical.not_not, and_self, Int.reduceAdd, Int.reduceMul, Int.reduceSub, Int.reduceNeg, Int.reduceLT, Int.reduceLE, Int.reduceEq, Int.reduceNe, Int.reduceToNat, Nat.reduceAdd, Nat.reduceMul, Nat.reduceSub, Nat.reduceLeDiff, Nat.reduceLT, Nat.reduceEqDiff, reduceIte, Nat.zero_le, Nat.le_refl, Nat.add_zero, Nat.zero_add, twT hT, twV hV, jcs]
  by_cases h10 : o = 10
  · rw [if_pos h10] at hQ
    refine ⟨fun h => absurd h10 h, fun _ => ⟨fun h => fin _ (by omega) (by rwa [jb_f (by omega)] at hQ), fun h => fin _ (by omega) (by rwa [jb_t (by omega)] at hQ)⟩⟩
  rw [if_neg h10] at hQ
  refine ⟨fun _ => ?_, fun h => absurd h h10⟩
  by_cases h11 : o = 11
  · rw [if_pos h11] at hQ
    refine ⟨fun h => absurd h11 h, fun _ => ⟨fun h => fin _ (by omega) (by rwa [jb_f (by omega)] at hQ), fun h => fin _ (by omega) (by rwa [jb_t (by omega)] at hQ)⟩⟩
  rw [if_neg h11] at hQ
  refine ⟨fun _ => ?_, fun h => absurd h h11⟩
  by_cases h12 : o = 12
  · rw [if_pos h12] at hQ
    refine ⟨fun h => absurd h12 h, fun _ => ⟨fun h => fin _ (by omega) (by rwa [jb_f (by omega)] at hQ), fun h => fin _ (by omega) (by rwa [jb_t (by omega)] at hQ)⟩⟩
  rw [if_neg h12] at hQ
  refine ⟨fun _ => ?_, fun h => absurd h h12⟩
  by_cases h13 : o = 13
  · rw [if_pos h13] at hQ
    refine ⟨fun h => absurd h13 h, fun _ => ⟨fun h => fin _ (by omega) (by rwa [jb_f (by omega)] at hQ), fun h => fin _ (by omega) (by rwa [jb_t (by omega)] at hQ)⟩⟩
  rw [if_neg h13] at hQ
  refine ⟨fun _ => ?_, fun h => absurd h h13⟩
  by_cases h14 : o = 14
  · rw [if_pos h14] at hQ
    refine ⟨fun h => absurd h14 h, fun _ => ⟨fun h => fin _ (by omega) (by rwa [jb_f (by omega)] at hQ), fun h => fin _ (by omega) (by rwa [jb_t (by omega)] at hQ)⟩⟩
  rw [if_neg h14] at hQ
  refine ⟨fun _ => ?_, fun h => absurd h h14⟩
  refine ⟨fun h => fin _ (by omega) (by rwa [jb_f (by omega)] at hQ), fun h => fin _ (by omega) (by rwa [jb_t (by omega)] at hQ)⟩
end TG
