/-! ===== the class: what questions come to ===== -/
-- MODE N
set_option maxRecDepth 100000
section XG
variable {g : jjG} {T : jjT} {v : Int → Int → Int}
theorem xw_ofD (hT : PT T) (hN : okN (v 522)) (n : Nat) (a : Int) (c : List (Int × Int)) (D : Nat) (hD : n + 4 ≤ D) (h : VR (v, T) n a c) :
    ∃ q ∈ [(8, MX8_of), (9, MX9_of), (10, MX10_of), (7, MX7_of)], jok T a q.1 ∧ ∀ Q : jjQ, (∀ z, RV (v 522) c z → bdM z → Q (.inl (some (vL z))) (v, T)) → jmet g D 0 0 q.2 [vR a, vR 522] (v, T) Q := by
  have e : D = (D - n - 4) + n + 4 := by omega
  rw [e]
  exact xw_of hT hN n a c _ h
theorem askz_60 {x y : Int} : askz (cmo 60) x y = jb (x < y) := by
  unfold askz
  rw [show cmo 60 = 10 from by decide, if_pos rfl]
theorem askz_303 {x y : Int} : askz (cmo 303) x y = jb (x ≤ y) := by
  unfold askz
  rw [show cmo 303 = 11 from by decide, if_neg (by decide), if_pos rfl]
theorem askz_62 {x y : Int} : askz (cmo 62) x y = jb (y < x) := by
  unfold askz
  rw [show cmo 62 = 12 from by decide, if_neg (by decide), if_neg (by decide), if_pos rfl]
theorem askz_304 {x y : Int} : askz (cmo 304) x y = jb (y ≤ x) := by
  unfold askz
  rw [show cmo 304 = 13 from by decide, if_neg (by decide), if_neg (by decide), if_neg (by decide), if_pos rfl]
theorem askz_61 {x y : Int} : askz (cmo 61) x y = jb (x = y) := by
  unfold askz
  rw [show cmo 61 = 14 from by decide, if_neg (by decide), if_neg (by decide), if_neg (by decide), if_neg (by decide), if_pos rfl]
theorem askz_35 {x y : Int} : askz (cmo 35) x y = jb (¬ x = y) := by
  unfold askz
  rw [show cmo 35 = 15 from by decide, if_neg (by decide), if_neg (by decide), if_neg (by decide), if_neg (by decide), if_neg (by decide)]
theorem cmo_bd (x : Int) : 10 ≤ cmo x ∧ cmo x < 20 := by
  unfold cmo
  repeat' split
  all_goals omega
theorem xw_cmp (hT : PT T) (hN : okN (v 522)) {n : Nat} {a : Int} {c1 c2 : List (Int × Int)} {D : Nat} (hD : n + 4 ≤ D) {Q : jjQ} (k : jok T a 11) (q1 : VR (v, T) n (v a 1) c1) (q2 : VR (v, T) n (v a 2) c2) (q3 : v a 0 = 60 ∨ v a 0 = 303 ∨ v a 0 = 62 ∨ v a 0 = 304 ∨ v a 0 = 61 ∨ v a 0 = 35)
    (hQ : ∀ b, RT (v 522) (c1 ++ (c2 ++ [(cmo (v a 0), 0)])) b → (0 ≤ b ∧ b ≤ 1) → Q (.inl (some (vI b))) (v, T)) : jmet g (D + 1) 0 0 MX11_is [vR a, vR 522] (v, T) Q := by
  obtain ⟨p, p1, p2, p3⟩ := xw_ofD (g := g) hT hN n _ _ D hD q1
  obtain ⟨p', p1', p2', p3'⟩ := xw_ofD (g := g) hT hN n _ _ D hD q2
  refine jmet_of (ls := [some (vR a), some (vR 522), none, none]) sX11_is rfl (by decide +kernel) (by decide) rfl (by simp [jent]) ?_
  refine jW_step ?_
  simp (disch := (first | decide | omega)) only [bX11_is, jxs, hps, jtsw, jlsw, List.length_cons, List.length_nil, true_and, and_true, true_implies, false_implies, implies_true, not_true_eq_false, not_false_eq_true, false_and, and_false, if_true, if_false, or_true, true_or, or_false, false_or, Classical.not_not, and_self, Int.reduceAdd, Int.reduceMul, Int.reduceSub, Int.reduceNeg, Int.reduceLT, Int.reduceLE, Int.reduceEq, Int.reduceNe, Int.reduceToNat, Nat.reduceAdd, Nat.reduceMul, Nat.reduceSub, Nat.reduceLeDiff, Nat.reduceLT, Nat.reduceEqDiff, reduceIte, Nat.zero_le, Nat.le_refl, Nat.add_zero, Nat.zero_add, k]
  refine ⟨p, p1, p2, 0, 0, ⟨by omega, by omega⟩, p3 _ ?_⟩
  intro x hx hxb
  simp (disch := (first | decide | omega)) only [jxs, hps, jtsw, jlsw, List.length_cons, List.length_nil, true_and, and_true, true_implies, false_implies, implies_true, not_true_eq_false, not_false_eq_true, false_and, and_false, if_true, if_false, or_true, true_or, or_false, false_or, Classical.not_not, and_self, Int.reduceAdd, Int.reduceMul, Int.reduceSub, Int.reduceNeg, Int.reduceLT, Int.reduceLE, Int.reduceEq, Int.reduceNe, Int.reduceToNat, Nat.reduceAdd, Nat.reduceMul, Nat.reduceSub, Nat.reduceLeDiff, Nat.reduceLT, Nat.reduceEqDiff, reduceIte, Nat.zero_le, Nat.le_refl, Nat.add_zero, Nat.zero_add, k]
  refine ⟨p', p1', p2', 0, 0, ⟨by omega, by omega⟩, p3' _ ?_⟩
  intro y hy hyb
  have hr := RT.cmp hx hy (cmo_bd (v a 0))
  have fin := hQ _ hr (askz_bd _ _ _)
  rcases q3 with e | e | e | e | e | e
  · rw [e, askz_60] at fin
    simp (disch := (first | decide | omega)) only [jxs, hps, jtsw, jlsw, List.length_cons, List.length_nil, true_and, and_true, true_implies, false_implies, implies_true, not_true_eq_false, not_false_eq_true, false_and, and_false, if_true, if_false, or_true, true_or, or_false, false_or, Classical.not_not, and_self, Int.reduceAdd, Int.reduceMul, Int.reduceSub, Int.reduceNeg, Int.reduceLT, Int.reduceLE, Int.reduceEq, Int.reduceNe, Int.reduceToNat, Nat.reduceAdd, Nat.reduceMul, Nat.reduceSub, Nat.reduceLeDiff, Nat.reduceLT, Nat.reduceEqDiff, reduceIte, Nat.zero_le, Nat.le_refl, Nat.add_zero, Nat.zero_add, k, e, jcs]
    (repeat (refine And.intro (by (first | omega | assumption | trivial | (simp only [inI]; omega) | (simp only [inL]; omega) | (refine jb_01) | (exact jb_in))) ?_))
    refine ⟨fun h => ?_, fun h => ?_⟩
    · refine jW_step ?_
      simp (disch := (first | decide | omega)) only [bX11_is, jxs, hps, jtsw, jlsw, List.length_cons, List.length_nil, true_and, and_true, true_implies, false_implies, implies_true, not_true_eq_false, not_false_eq_true, false_and, and_false, if_true, if_false, or_true, true_or, or_false, false_or, Classical.not_not, and_self, Int.reduceAdd, Int.reduceMul, Int.reduceSub, Int.reduceNeg, Int.reduceLT, Int.reduceLE, Int.reduceEq, Int.reduceNe, Int.reduceToNat, Nat.reduceAdd, Nat.reduceMul, Nat.reduceSub, Nat.reduceLeDiff, Nat.reduceLT, Nat.reduceEqDiff, reduceIte, Nat.zero_le, Nat.le_refl, Nat.add_zero, Nat.zero_add]
      (repeat (refine And.intro (by (first | omega | assumption | trivial | (simp only [inI]; omega) | (simp only [inL]; omega) | (refine jb_01) | (exact jb_in))) ?_))
      rwa [jb_f (by omega)] at fin
    · refine jW_step ?_
      simp (disch := (first | decide | omega)) only [bX11_is, jxs, hps, jtsw, jlsw, List.length_cons, List.length_nil, true_and, and_true, true_implies, false_implies, implies_true, not_true_eq_false, not_false_eq_true, false_and, and_false, if_true, if_false, or_true, true_or, or_false, false_or, Classical.not_not, and_self, Int.reduceAdd, Int.reduceMul, Int.reduceSub, Int.reduceNeg, Int.reduceLT, Int.reduceLE, Int.reduceEq, Int.reduceNe, Int.reduceToNat, Nat.reduceAdd, Nat.reduceMul, Nat.reduceSub, Nat.reduceLeDiff, Nat.reduceLT, Nat.reduceEqDiff, reduceIte, Nat.zero_le, Nat.le_refl, Nat.add_zero, Nat.zero_add]
      (repeat (refine And.intro (by (first | omega | assumption | trivial | (simp only [inI]; omega) | (simp only [inL]; omega) | (refine jb_01) | (exact jb_in))) ?_))
      rwa [jb_t (by omega)] at fin
  · rw [e, askz_303] at fin
    simp (disch := (first | decide | omega)) only [jxs, hps, jtsw, jlsw, List.length_cons, List.length_nil, true_and, and_true, true_implies, false_implies, implies_true, not_true_eq_false, not_false_eq_true, false_and, and_false, if_true, if_false, or_true, true_or, or_false, false_or, Classical.not_not, and_self, Int.reduceAdd, Int.reduceMul, Int.reduceSub, Int.reduceNeg, Int.reduceLT, Int.reduceLE, Int.reduceEq, Int.reduceNe, Int.reduceToNat, Nat.reduceAdd, Nat.reduceMul, Nat.reduceSub, Nat.reduceLeDiff, Nat.reduceLT, Nat.reduceEqDiff, reduceIte, Nat.zero_le, Nat.le_refl, Nat.add_zero, Nat.zero_add, k, e, jcs]
    (repeat (refine And.intro (by (first | omega | assumption | trivial | (simp only [inI]; omega) | (simp only [inL]; omega) | (refine jb_01) | (exact jb_in))) ?_))
    refine ⟨fun h => ?_, fun h => ?_⟩
    · refine jW_step ?_
      simp (disch := (first | decide | omega)) only [bX11_is, jxs, hps, jtsw, jlsw, List.length_cons, List.length_nil, true_and, and_true, true_implies, false_implies, implies_true, not_true_eq_false, not_false_eq_true, false_and, and_false, if_true, if_false, or_true, true_or, or_false, false_or, Classical.not_not, and_self, Int.reduceAdd, Int.reduceMul, Int.reduceSub, Int.reduceNeg, Int.reduceLT, Int.reduceLE, Int.reduceEq, Int.reduceNe, Int.reduceToNat, Nat.reduceAdd, Nat.reduceMul, Nat.reduceSub, Nat.reduceLeDiff, Nat.reduceLT, Nat.reduceEqDiff, reduceIte, Nat.zero_le, Nat.le_refl, Nat.add_zero, Nat.zero_add]
      (repeat (refine And.intro (by (first | omega | assumption | trivial | (simp only [inI]; omega) | (simp only [inL]; omega) | (refine jb_01) | (exact jb_in))) ?_))
      rwa [jb_f (by omega)] at fin
    · refine jW_step ?_
      simp (disch := (first | decide | omega)) only [bX11_is, jxs, hps, jtsw, jlsw, List.length_cons, List.length_nil, true_and, and_true, true_implies, false_implies, implies_true, not_true_eq_false, not_false_eq_true, false_and, and_false, if_true, if_false, or_true, true_or, or_false, false_or, Classical.not_not, and_self, Int.reduceAdd, Int.reduceMul, Int.reduceSub, Int.reduceNeg, Int.reduceLT, Int.reduceLE, Int.reduceEq, Int.reduceNe, Int.reduceToNat, Nat.reduceAdd, Nat.reduceMul, Nat.reduceSub, Nat.reduceLeDiff, Nat.reduceLT, Nat.reduceEqDiff, reduceIte, Nat.zero_le, Nat.le_refl, Nat.add_zero, Nat.zero_add]
      (repeat (refine And.intro (by (first | omega | assumption | trivial | (simp only [inI]; omega) | (simp only [inL]; omega) | (refine jb_01) | (exact jb_in))) ?_))
      rwa [jb_t (by omega)] at fin
  · rw [e, askz_62] at fin
    simp (disch := (first | decide | omega)) only [jxs, hps, jtsw, jlsw, List.length_cons, List.length_nil, true_and, and_true, true_implies, false_implies, implies_true, not_true_eq_false, not_false_eq_true, false_and, and_false, if_true, if_false, or_true, true_or, or_false, false_or, Classical.not_not, and_self, Int.reduceAdd, Int.reduceMul, Int.reduceSub, Int.reduceNeg, Int.reduceLT, Int.reduceLE, Int.reduceEq, Int.reduceNe, Int.reduceToNat, Nat.reduceAdd, Nat.reduceMul, Nat.reduceSub, Nat.reduceLeDiff, Nat.reduceLT, Nat.reduceEqDiff, reduceIte, Nat.zero_le, Nat.le_refl, Nat.add_zero, Nat.zero_add, k, e, jcs]
    (repeat (refine And.intro (by (first | omega | assumption | trivial | (simp only [inI]; omega) | (simp only [inL]; omega) | (refine jb_01) | (exact jb_in))) ?_))
    refine ⟨fun h => ?_, fun h => ?_⟩
    · refine jW_step ?_
      simp (disch := (first | decide | omega)) only [bX11_is, jxs, hps, jtsw, jlsw, List.length_cons, List.length_nil, true_and, and_true, true_implies, false_implies, implies_true, not_true_eq_false, not_false_eq_true, false_and, and_false, if_true, if_false, or_true, true_or, or_false, false_or, Classical.not_not, and_self, Int.reduceAdd, Int.reduceMul, Int.reduceSub, Int.reduceNeg, Int.reduceLT, Int.reduceLE, Int.reduceEq, Int.reduceNe, Int.reduceToNat, Nat.reduceAdd, Nat.reduceMul, Nat.reduceSub, Nat.reduceLeDiff, Nat.reduceLT, Nat.reduceEqDiff, reduceIte, Nat.zero_le, Nat.le_refl, Nat.add_zero, Nat.zero_add]
      (repeat (refine And.intro (by (first | omega | assumption | trivial | (simp only [inI]; omega) | (simp only [inL]; omega) | (refine jb_01) | (exact jb_in))) ?_))
      rwa [jb_f (by omega)] at fin
    · refine jW_step ?_
      simp (disch := (first | decide | omega)) only [bX11_is, jxs, hps, jtsw, jlsw, List.length_cons, List.length_nil, true_and, and_true, true_implies, false_implies, implies_true, not_true_eq_false, not_false_eq_true, false_and, and_false, if_true, if_false, or_true, true_or, or_false, false_or, Classical.not_not, and_self, Int.reduceAdd, Int.reduceMul, Int.reduceSub, Int.reduceNeg, Int.reduceLT, Int.reduceLE, Int.reduceEq, Int.reduceNe, Int.reduceToNat, Nat.reduceAdd, Nat.reduceMul, Nat.reduceSub, Nat.reduceLeDiff, Nat.reduceLT, Nat.reduceEqDiff, reduceIte, Nat.zero_le, Nat.le_refl, Nat.add_zero, Nat.zero_add]
      (repeat (refine And.intro (by (first | omega | assumption | trivial | (simp only [inI]; omega) | (simp only [inL]; omega) | (refine jb_01) | (exact jb_in))) ?_))
      rwa [jb_t (by omega)] at fin
  · rw [e, askz_304] at fin
    simp (disch := (first | decide | omega)) only [jxs, hps, jtsw, jlsw, List.length_cons, List.length_nil, true_and, and_true, true_implies, false_implies, implies_true, not_true_eq_false, not_false_eq_true, false_and, and_false, if_true, if_false, or_true, true_or, or_false, false_or, Classical.not_not, and_self, Int.reduceAdd, Int.reduceMul, Int.reduceSub, Int.reduceNeg, Int.reduceLT, Int.reduceLE, Int.reduceEq, Int.reduceNe, Int.reduceToNat, Nat.reduceAdd, Nat.reduceMul, Nat.reduceSub, Nat.reduceLeDiff, Nat.reduceLT, Nat.reduceEqDiff, reduceIte, Nat.zero_le, Nat.le_refl, Nat.add_zero, Nat.zero_add, k, e, jcs]
    (repeat (refine And.intro (by (first | omega | assumption | trivial | (simp only [inI]; omega) | (simp only [inL]; omega) | (refine jb_01) | (exact jb_in))) ?_))
    refine ⟨fun h => ?_, fun h => ?_⟩
    · refine jW_step ?_
      simp (disch := (first | decide | omega)) only [bX11_is, jxs, hps, jtsw, jlsw, List.length_cons, List.length_nil, true_and, and_true, true_implies, false_implies, implies_true, not_true_eq_false, not_false_eq_true, false_and, and_false, if_true, if_false, or_true, true_or, or_false, false_or, Classical.not_not, and_self, Int.reduceAdd, Int.reduceMul, Int.reduceSub, Int.reduceNeg, Int.reduceLT, Int.reduceLE, Int.reduceEq, Int.reduceNe, Int.reduceToNat, Nat.reduceAdd, Nat.reduceMul, Nat.reduceSub, Nat.reduceLeDiff, Nat.reduceLT, Nat.reduceEqDiff, reduceIte, Nat.zero_le, Nat.le_refl, Nat.add_zero, Nat.zero_add]
      (repeat (refine And.intro (by (first | omega | assumption | trivial | (simp only [inI]; omega) | (simp only [inL]; omega) | (refine jb_01) | (exact jb_in))) ?_))
      rwa [jb_f (by omega)] at fin
    · refine jW_step ?_
      simp (disch := (first | decide | omega)) only [bX11_is, jxs, hps, jtsw, jlsw, List.length_cons, List.length_nil, true_and, and_true, true_implies, false_implies, implies_true, not_true_eq_false, not_false_eq_true, false_and, and_false, if_true, if_false, or_true, true_or, or_false, false_or, Classical.not_not, and_self, Int.reduceAdd, Int.reduceMul, Int.reduceSub, Int.reduceNeg, Int.reduceLT, Int.reduceLE, Int.reduceEq, Int.reduceNe, Int.reduceToNat, Nat.reduceAdd, Nat.reduceMul, Nat.reduceSub, Nat.reduceLeDiff, Nat.reduceLT, Nat.reduceEqDiff, reduceIte, Nat.zero_le, Nat.le_refl, Nat.add_zero, Nat.zero_add]
      (repeat (refine And.intro (by (first | omega | assumption | trivial | (simp only [inI]; omega) | (simp only [inL]; omega) | (refine jb_01) | (exact jb_in))) ?_))
      rwa [jb_t (by omega)] at fin
  · rw [e, askz_61] at fin
    simp (disch := (first | decide | omega)) only [jxs, hps, jtsw, jlsw, List.length_cons, List.length_nil, true_and, and_true, true_implies, false_implies, implies_true, not_true_eq_false, not_false_eq_true, false_and, and_false, if_true, if_false, or_true, true_or, or_false, false_or, Classical.not_not, and_self, Int.reduceAdd, Int.reduceMul, Int.reduceSub, Int.reduceNeg, Int.reduceLT, Int.reduceLE, Int.reduceEq, Int.reduceNe, Int.reduceToNat, Nat.reduceAdd, Nat.reduceMul, Nat.reduceSub, Nat.reduceLeDiff, Nat.reduceLT, Nat.reduceEqDiff, reduceIte, Nat.zero_le, Nat.le_refl, Nat.add_zero, Nat.zero_add, k, e, jcs]
    (repeat (refine And.intro (by (first | omega | assumption | trivial | (simp only [inI]; omega) | (simp only [inL]; omega) | (refine jb_01) | (exact jb_in))) ?_))
    refine ⟨fun h => ?_, fun h => ?_⟩
    · refine jW_step ?_
      simp (disch := (first | decide | omega)) only [bX11_is, jxs, hps, jtsw, jlsw, List.length_cons, List.length_nil, true_and, and_true, true_implies, false_implies, implies_true, not_true_eq_false, not_false_eq_true, false_and, and_false, if_true, if_false, or_true, true_or, or_false, false_or, Classical.not_not, and_self, Int.reduceAdd, Int.reduceMul, Int.reduceSub, Int.reduceNeg, Int.reduceLT, Int.reduceLE, Int.reduceEq, Int.reduceNe, Int.reduceToNat, Nat.reduceAdd, Nat.reduceMul, Nat.reduceSub, Nat.reduceLeDiff, Nat.reduceLT, Nat.reduceEqDiff, reduceIte, Nat.zero_le, Nat.le_refl, Nat.add_zero, Nat.zero_add]
      (repeat (refine And.intro (by (first | omega | assumption | trivial | (simp only [inI]; omega) | (simp only [inL]; omega) | (refine jb_01) | (exact jb_in))) ?_))
      rwa [jb_f (by omega)] at fin
    · refine jW_step ?_
      simp (disch := (first | decide | omega)) only [bX11_is, jxs, hps, jtsw, jlsw, List.length_cons, List.length_nil, true_and, and_true, true_implies, false_implies, implies_true, not_true_eq_false, not_false_eq_true, false_and, and_false, if_true, if_false, or_true, true_or, or_false, false_or, Classical.not_not, and_self, Int.reduceAdd, Int.reduceMul, Int.reduceSub, Int.reduceNeg, Int.reduceLT, Int.reduceLE, Int.reduceEq, Int.reduceNe, Int.reduceToNat, Nat.reduceAdd, Nat.reduceMul, Nat.reduceSub, Nat.reduceLeDiff, Nat.reduceLT, Nat.reduceEqDiff, reduceIte, Nat.zero_le, Nat.le_refl, Nat.add_zero, Nat.zero_add]
      (repeat (refine And.intro (by (first | omega | assumption | trivial | (simp only [inI]; omega) | (simp only [inL]; omega) | (refine jb_01) | (exact jb_in))) ?_))
      rwa [jb_t (by omega)] at fin
  · rw [e, askz_35] at fin
    simp (disch := (first | decide | omega)) only [jxs, hps, jtsw, jlsw, List.length_cons, List.length_nil, true_and, and_true, true_implies, false_implies, implies_true, not_true_eq_false, not_false_eq_true, false_and, and_false, if_true, if_false, or_true, true_or, or_false, false_or, Classical.not_not, and_self, Int.reduceAdd, Int.reduceMul, Int.reduceSub, Int.reduceNeg, Int.reduceLT, Int.reduceLE, Int.reduceEq, Int.reduceNe, Int.reduceToNat, Nat.reduceAdd, Nat.reduceMul, Nat.reduceSub, Nat.reduceLeDiff, Nat.reduceLT, Nat.reduceEqDiff, reduceIte, Nat.zero_le, Nat.le_refl, Nat.add_zero, Nat.zero_add, k, e, jcs]
    (repeat (refine And.intro (by (first | omega | assumption | trivial | (simp only [inI]; omega) | (simp only [inL]; omega) | (refine jb_01) | (exact jb_in))) ?_))
    refine ⟨fun h => ?_, fun h => ?_⟩
    · refine jW_step ?_
      simp (disch := (first | decide | omega)) only [bX11_is, jxs, hps, jtsw, jlsw, List.length_cons, List.length_nil, true_and, and_true, true_implies, false_implies, implies_true, not_true_eq_false, not_false_eq_true, false_and, and_false, if_true, if_false, or_true, true_or, or_false, false_or, Classical.not_not, and_self, Int.reduceAdd, Int.reduceMul, Int.reduceSub, Int.reduceNeg, Int.reduceLT, Int.reduceLE, Int.reduceEq, Int.reduceNe, Int.reduceToNat, Nat.reduceAdd, Nat.reduceMul, Nat.reduceSub, Nat.reduceLeDiff, Nat.reduceLT, Nat.reduceEqDiff, reduceIte, Nat.zero_le, Nat.le_refl, Nat.add_zero, Nat.zero_add]
      (repeat (refine And.intro (by (first | omega | assumption | trivial | (simp only [inI]; omega) | (simp only [inL]; omega) | (refine jb_01) | (exact jb_in))) ?_))
      rwa [jb_f (by omega)] at fin
    · refine jW_step ?_
      simp (disch := (first | decide | omega)) only [bX11_is, jxs, hps, jtsw, jlsw, List.length_cons, List.length_nil, true_and, and_true, true_implies, false_implies, implies_true, not_true_eq_false, not_false_eq_true, false_and, and_false, if_true, if_false, or_true, true_or, or_false, false_or, Classical.not_not, and_self, Int.reduceAdd, Int.reduceMul, Int.reduceSub, Int.reduceNeg, Int.reduceLT, Int.reduceLE, Int.reduceEq, Int.reduceNe, Int.reduceToNat, Nat.reduceAdd, Nat.reduceMul, Nat.reduceSub, Nat.reduceLeDiff, Nat.reduceLT, Nat.reduceEqDiff, reduceIte, Nat.zero_le, Nat.le_refl, Nat.add_zero, Nat.zero_add]
      (repeat (refine And.intro (by (first | omega | assumption | trivial | (simp only [inI]; omega) | (simp only [inL]; omega) | (refine jb_01) | (exact jb_in))) ?_))
      rwa [jb_t (by omega)] at fin
theorem xw_is (hT : PT T) (hN : okN (v 522)) : ∀ (n : Nat) (a : Int) (c : List (Int × Int)) (D : Nat), n + 6 ≤ D → TR (v, T) n a c →
    ∃ q ∈ [(11, MX11_is), (6, MX6_is), (12, MX12_is)], jok T a q.1 ∧ ∀ Q : jjQ, (∀ b, RT (v 522) c b → (0 ≤ b ∧ b ≤ 1) → Q (.inl (some (vI b))) (v, T)) → jmet g D 0 0 q.2 [vR a, vR 522] (v, T) Q := by
  intro n
  induction n with
  | zero =>
    intro a c D hD q
    unfold TR at q
    exact q.elim
  | succ n ih =>
    intro a c D hD q
    unfold TR at q
    obtain ⟨z0, q⟩ := q
    obtain ⟨D, rfl⟩ : ∃ D', D = D' + 1 := ⟨D - 1, by omega⟩
    rcases q with ⟨k, c1, c2, q1, q2, q3, q4⟩ | ⟨k, c', q1, q2⟩ | ⟨k, m, cs, q1, q2, q3, q4⟩
    · dsimp only at k q1 q2 q3 q4
      refine ⟨(11, MX11_is), .head _, k, fun Q hQ => ?_⟩
      refine xw_cmp hT hN (n := n) (by omega) k q1 q2 q3 ?_
      rw [← q4]
      exact hQ
    · dsimp only at k q1 q2
      refine ⟨(6, MX6_is), .tail _ (.head _), k, fun Q hQ => ?_⟩
      obtain ⟨q, p1, p2, p3⟩ := ih _ _ D (by omega) q1
      refine jmet_of (ls := [some (vR a), some (vR 522)]) sX6_is rfl (by decide +kernel) (by decide) rfl (by simp [jent]) ?_
      refine jW_step ?_
      simp (disch := (first | decide | omega)) only [bX6_is, jxs, hps, jtsw, jlsw, List.length_cons, List.length_nil, true_and, and_true, true_implies, false_implies, implies_true, not_true_eq_false, not_false_eq_true, false_and, and_false, if_true, if_false, or_true, true_or, or_false, false_or, Classical.not_not, and_self, Int.reduceAdd, Int.reduceMul, Int.reduceSub, Int.reduceNeg, Int.reduceLT, Int.reduceLE, Int.reduceEq, Int.reduceNe, Int.reduceToNat, Nat.reduceAdd, Nat.reduceMul, Nat.reduceSub, Nat.reduceLeDiff, Nat.reduceLT, Nat.reduceEqDiff, reduceIte, Nat.zero_le, Nat.le_refl, Nat.add_zero, Nat.zero_add, k]
      refine ⟨q, p1, p2, 0, 0, ⟨by omega, by omega⟩, p3 _ ?_⟩
      intro b hb hb2
      have fin := hQ _ (by rw [q2]; exact hb.not) jb_01
      simp (disch := (first | decide | omega)) only [jxs, hps, jtsw, jlsw, List.length_cons, List.length_nil, true_and, and_true, true_implies, false_implies, implies_true, not_true_eq_false, not_false_eq_true, false_and, and_false, if_true, if_false, or_true, true_or, or_false, false_or, Classical.not_not, and_self, Int.reduceAdd, Int.reduceMul, Int.reduceSub, Int.reduceNeg, Int.reduceLT, Int.reduceLE, Int.reduceEq, Int.reduceNe, Int.reduceToNat, Nat.reduceAdd, Nat.reduceMul, Nat.reduceSub, Nat.reduceLeDiff, Nat.reduceLT, Nat.reduceEqDiff, reduceIte, Nat.zero_le, Nat.le_refl, Nat.add_zero, Nat.zero_add]
      refine ⟨fun h => ?_, fun h => ?_⟩
      · refine jW_step ?_
        simp (disch := (first | decide | omega)) only [bX6_is, jxs, hps, jtsw, jlsw, List.length_cons, List.length_nil, true_and, and_true, true_implies, false_implies, implies_true, not_true_eq_false, not_false_eq_true, false_and, and_false, if_true, if_false, or_true, true_or, or_false, false_or, Classical.not_not, and_self, Int.reduceAdd, Int.reduceMul, Int.reduceSub, Int.reduceNeg, Int.reduceLT, Int.reduceLE, Int.reduceEq, Int.reduceNe, Int.reduceToNat, Nat.reduceAdd, Nat.reduceMul, Nat.reduceSub, Nat.reduceLeDiff, Nat.reduceLT, Nat.reduceEqDiff, reduceIte, Nat.zero_le, Nat.le_refl, Nat.add_zero, Nat.zero_add]
        (repeat (refine And.intro (by (first | omega | assumption | trivial | (simp only [inI]; omega) | (simp only [inL]; omega) | (refine jb_01) | (exact jb_in))) ?_))
        rwa [jb_f (by omega)] at fin
      · refine jW_step ?_
        simp (disch := (first | decide | omega)) only [bX6_is, jxs, hps, jtsw, jlsw, List.length_cons, List.length_nil, true_and, and_true, true_implies, false_implies, implies_true, not_true_eq_false, not_false_eq_true, false_and, and_false, if_true, if_false, or_true, true_or, or_false, false_or, Classical.not_not, and_self, Int.reduceAdd, Int.reduceMul, Int.reduceSub, Int.reduceNeg, Int.reduceLT, Int.reduceLE, Int.reduceEq, Int.reduceNe, Int.reduceToNat, Nat.reduceAdd, Nat.reduceMul, Nat.reduceSub, Nat.reduceLeDiff, Nat.reduceLT, Nat.reduceEqDiff, reduceIte, Nat.zero_le, Nat.le_refl, Nat.add_zero, Nat.zero_add]
        (repeat (refine And.intro (by (first | omega | assumption | trivial | (simp only [inI]; omega) | (simp only [inL]; omega) | (refine jb_01) | (exact jb_in))) ?_))
        rwa [jb_t (by omega)] at fin
    · dsimp only at k q1 q2 q3 q4
      refine ⟨(12, MX12_is), .tail _ (.tail _ (.head _)), k, fun Q hQ => ?_⟩
      have hm := q1.1.2.2.1
      have k3 : ∀ (z so j : Int), Q (.inl (some (vI z))) (v, T) → (0 ≤ z ∧ z ≤ 1) → jW bX12_is (g, D, 0, 0, Q) 3 [some (vR a), some (vR 522), some (vI so), some (vI j)] [vI z] (v, T) 0 0 := by
        intro z so j hq hz
        refine jW_step ?_
        simp (disch := (first | decide | omega)) only [bX12_is, jxs, hps, jtsw, jlsw, List.length_cons, List.length_nil, true_and, and_true, true_implies, false_implies, implies_true, not_true_eq_false, not_false_eq_true, false_and, and_false, if_true, if_false, or_true, true_or, or_false, false_or, Classical.not_not, and_self, Int.reduceAdd, Int.reduceMul, Int.reduceSub, Int.reduceNeg, Int.reduceLT, Int.reduceLE, Int.reduceEq, Int.reduceNe, Int.reduceToNat, Nat.reduceAdd, Nat.reduceMul, Nat.reduceSub, Nat.reduceLeDiff, Nat.reduceLT, Nat.reduceEqDiff, reduceIte, Nat.zero_le, Nat.le_refl, Nat.add_zero, Nat.zero_add]
        (repeat (refine And.intro (by (first | omega | assumption | trivial | (simp only [inI]; omega) | (simp only [inL]; omega) | (refine jb_01) | (exact jb_in))) ?_))
        exact hq
      have key : ∀ (r j : Nat) (so : Int), j + r = m + 1 → (0 ≤ so ∧ so ≤ j) → (1 ≤ j → RT (v 522) (alc cs (if v a 0 = 0 then 22 else 21) (j - 1)) (if v a 0 = 0 then jb (0 < so) else jb (so = j))) → jW bX12_is (g, D, 0, 0, Q) 1 [some (vR a), some (vR 522), some (vI so), some (vI (j : Int))] [] (v, T) 0 0 := by
        intro r
        induction r with
        | zero =>
          intro j so hj hso hR
          have hR := hR (by omega)
          rw [show j - 1 = m by omega, ← q4] at hR
          obtain ⟨D, rfl⟩ : ∃ D', D = D' + 1 := ⟨D - 1, by omega⟩
          refine jW_step ?_
          simp (disch := (first | decide | omega)) only [bX12_is, jxs, hps, jtsw, jlsw, List.length_cons, List.length_nil, true_and, and_true, true_implies, false_implies, implies_true, not_true_eq_false, not_false_eq_true, false_and, and_false, if_true, if_false, or_true, true_or, or_false, false_or, Classical.not_not, and_self, Int.reduceAdd, Int.reduceMul, Int.reduceSub, Int.reduceNeg, Int.reduceLT, Int.reduceLE, Int.reduceEq, Int.reduceNe, Int.reduceToNat, Nat.reduceAdd, Nat.reduceMul, Nat.reduceSub, Nat.reduceLeDiff, Nat.reduceLT, Nat.reduceEqDiff, reduceIte, Nat.zero_le, Nat.le_refl, Nat.add_zero, Nat.zero_add, k]
          refine ⟨q1.1.1, 0, 0, ⟨by omega, by omega⟩, xj_size q1.1 ?_⟩
          simp (disch := (first | decide | omega)) only [jxs, hps, jtsw, jlsw, List.length_cons, List.length_nil, true_and, and_true, true_implies, false_implies, implies_true, not_true_eq_false, not_false_eq_true, false_and, and_false, if_true, if_false, or_true, true_or, or_false, false_or, Classical.not_not, and_self, Int.reduceAdd, Int.reduceMul, Int.reduceSub, Int.reduceNeg, Int.reduceLT, Int.reduceLE, Int.reduceEq, Int.reduceNe, Int.reduceToNat, Nat.reduceAdd, Nat.reduceMul, Nat.reduceSub, Nat.reduceLeDiff, Nat.reduceLT, Nat.reduceEqDiff, reduceIte, Nat.zero_le, Nat.le_refl, Nat.add_zero, Nat.zero_add, k]
          (try refine ⟨fun _ => ?_, fun h9 => (by exfalso; omega)⟩)
          rcases q3 with e | e
          · rw [if_pos e] at hR
            have fin := hQ _ hR jb_01
            rw [e]
            refine ⟨fun _ => ?_, fun h => absurd rfl h⟩
            refine ⟨fun h2 => ?_, fun h2 => ?_⟩
            · refine k3 0 _ _ ?_ (by omega)
              rwa [jb_f (by omega)] at fin
            · refine k3 1 _ _ ?_ (by omega)
              rwa [jb_t (by omega)] at fin
          · rw [if_neg (by omega)] at hR
            have fin := hQ _ hR jb_01
            rw [e]
            refine ⟨fun h => absurd h (by decide), fun _ => ?_⟩
            refine ⟨q1.1.1, 0, 0, ⟨by omega, by omega⟩, xj_size q1.1 ?_⟩
            simp (disch := (first | decide | omega)) only [jxs, hps, jtsw, jlsw, List.length_cons, List.length_nil, true_and, and_true, true_implies, false_implies, implies_true, not_true_eq_false, not_false_eq_true, false_and, and_false, if_true, if_false, or_true, true_or, or_false, false_or, Classical.not_not, and_self, Int.reduceAdd, Int.reduceMul, Int.reduceSub, Int.reduceNeg, Int.reduceLT, Int.reduceLE, Int.reduceEq, Int.reduceNe, Int.reduceToNat, Nat.reduceAdd, Nat.reduceMul, Nat.reduceSub, Nat.reduceLeDiff, Nat.reduceLT, Nat.reduceEqDiff, reduceIte, Nat.zero_le, Nat.le_refl, Nat.add_zero, Nat.zero_add]
            refine ⟨fun h2 => ?_, fun h2 => ?_⟩
            · refine k3 0 _ _ ?_ (by omega)
              rwa [jb_f (by omega)] at fin
            · refine k3 1 _ _ ?_ (by omega)
              rwa [jb_t (by omega)] at fin
        | succ r ihr =>
          intro j so hj hso hR
          have w := q2 j (by omega)
          obtain ⟨q, p1, p2, p3⟩ := ih _ _ D (by omega) w
          have k2 : ∀ z, (0 ≤ z ∧ z ≤ 1) → (1 ≤ j + 1 → RT (v 522) (alc cs (if v a 0 = 0 then 22 else 21) (j + 1 - 1)) (if v a 0 = 0 then jb (0 < so + z) else jb (so + z = ((j + 1 : Nat) : Int)))) → jW bX12_is (g, D, 0, 0, Q) 2 [some (vR a), some (vR 522), some (vI so), some (vI (j : Int))] [vI z, vI so] (v, T) 0 0 := by
            intro z hz hRz
            have nx := ihr (j + 1) (so + z) (by omega) (by omega) hRz
            rw [show ((j + 1 : Nat) : Int) = (j : Int) + 1 by omega] at nx
            refine jW_step ?_
            simp (disch := (first | decide | omega)) only [bX12_is, jxs, hps, jtsw, jlsw, List.length_cons, List.length_nil, true_and, and_true, true_implies, false_implies, implies_true, not_true_eq_false, not_false_eq_true, false_and, and_false, if_true, if_false, or_true, true_or, or_false, false_or, Classical.not_not, and_self, Int.reduceAdd, Int.reduceMul, Int.reduceSub, Int.reduceNeg, Int.reduceLT, Int.reduceLE, Int.reduceEq, Int.reduceNe, Int.reduceToNat, Nat.reduceAdd, Nat.reduceMul, Nat.reduceSub, Nat.reduceLeDiff, Nat.reduceLT, Nat.reduceEqDiff, reduceIte, Nat.zero_le, Nat.le_refl, Nat.add_zero, Nat.zero_add]
            (repeat (refine And.intro (by (first | omega | assumption | trivial | (simp only [inI]; omega) | (simp only [inL]; omega) | (refine jb_01) | (exact jb_in))) ?_))
            exact nx
          obtain ⟨D, rfl⟩ : ∃ D', D = D' + 3 := ⟨D - 3, by omega⟩
          refine jW_step ?_
          simp (disch := (first | decide | omega)) only [bX12_is, jxs, hps, jtsw, jlsw, List.length_cons, List.length_nil, true_and, and_true, true_implies, false_implies, implies_true, not_true_eq_false, not_false_eq_true, false_and, and_false, if_true, if_false, or_true, true_or, or_false, false_or, Classical.not_not, and_self, Int.reduceAdd, Int.reduceMul, Int.reduceSub, Int.reduceNeg, Int.reduceLT, Int.reduceLE, Int.reduceEq, Int.reduceNe, Int.reduceToNat, Nat.reduceAdd, Nat.reduceMul, Nat.reduceSub, Nat.reduceLeDiff, Nat.reduceLT, Nat.reduceEqDiff, reduceIte, Nat.zero_le, Nat.le_refl, Nat.add_zero, Nat.zero_add, k]
          refine ⟨q1.1.1, 0, 0, ⟨by omega, by omega⟩, xj_size q1.1 ?_⟩
          simp (disch := (first | decide | omega)) only [jxs, hps, jtsw, jlsw, List.length_cons, List.length_nil, true_and, and_true, true_implies, false_implies, implies_true, not_true_eq_false, not_false_eq_true, false_and, and_false, if_true, if_false, or_true, true_or, or_false, false_or, Classical.not_not, and_self, Int.reduceAdd, Int.reduceMul, Int.reduceSub, Int.reduceNeg, Int.reduceLT, Int.reduceLE, Int.reduceEq, Int.reduceNe, Int.reduceToNat, Nat.reduceAdd, Nat.reduceMul, Nat.reduceSub, Nat.reduceLeDiff, Nat.reduceLT, Nat.reduceEqDiff, reduceIte, Nat.zero_le, Nat.le_refl, Nat.add_zero, Nat.zero_add, k]
          (first | refine ⟨fun h9 => (by exfalso; omega), fun _ => ?_⟩ | intro _)
          refine ⟨q1.1.1, 0, 0, ⟨by omega, by omega⟩, xj_get q1.1 ⟨by omega, by omega⟩ ?_⟩
          simp (disch := (first | decide | omega)) only [jxs, hps, jtsw, jlsw, List.length_cons, List.length_nil, true_and, and_true, true_implies, false_implies, implies_true, not_true_eq_false, not_false_eq_true, false_and, and_false, if_true, if_false, or_true, true_or, or_false, false_or, Classical.not_not, and_self, Int.reduceAdd, Int.reduceMul, Int.reduceSub, Int.reduceNeg, Int.reduceLT, Int.reduceLE, Int.reduceEq, Int.reduceNe, Int.reduceToNat, Nat.reduceAdd, Nat.reduceMul, Nat.reduceSub, Nat.reduceLeDiff, Nat.reduceLT, Nat.reduceEqDiff, reduceIte, Nat.zero_le, Nat.le_refl, Nat.add_zero, Nat.zero_add]
          refine ⟨Or.inr w.isa, ?_⟩
          refine ⟨q, p1, p2, 0, 0, ⟨by omega, by omega⟩, p3 _ ?_⟩
          intro b hb hb2
          have nxt : ∀ z, z = b → (1 ≤ j + 1 → RT (v 522) (alc cs (if v a 0 = 0 then 22 else 21) (j + 1 - 1)) (if v a 0 = 0 then jb (0 < so + z) else jb (so + z = ((j + 1 : Nat) : Int)))) := by
            intro z hz _
            rw [hz, Nat.add_sub_cancel]
            by_cases j0 : j = 0
            · subst j0
              have : (if v a 0 = 0 then jb (0 < so + b) else jb (so + b = ((0 + 1 : Nat) : Int))) = b := by
                have : b = 0 ∨ b = 1 := by omega
                have so0 : so = 0 := by omega
                rw [so0]
                rcases this with rfl | rfl
                · rw [jb_f (by omega), jb_f (by omega)]; split <;> rfl
                · rw [jb_t (by omega), jb_t (by omega)]; split <;> rfl
              rw [this]
              exact hb
            · have hRj := hR (by omega)
              have ej : j = (j - 1) + 1 := by omega
              rw [ej] at hb ⊢
              show RT (v 522) (alc cs _ (j - 1) ++ (cs (j - 1 + 1) ++ [(_, 0)])) _
              by_cases e : v a 0 = 0
              · rw [if_pos e, if_pos e] at hRj
                rw [if_pos e, if_pos e]
                have := hRj.or hb
                have e9 : jb (¬ jb (0 < so) = 0 ∨ ¬ b = 0) = jb (0 < so + b) := by
                  by_cases h1 : 0 < so
                  · rw [jb_t h1, jb_t (Or.inl (by omega)), jb_t (by omega)]
                  · rw [jb_f h1]
                    by_cases h2 : b = 0
                    · rw [jb_f (by omega), jb_f (by omega)]
                    · rw [jb_t (Or.inr h2), jb_t (by omega)]
                rw [e9] at this
                exact this
              · rw [if_neg e, if_neg e] at hRj
                rw [if_neg e, if_neg e]
                have := hRj.and hb
                have e9 : jb (¬ jb (so = (j : Int)) = 0 ∧ ¬ b = 0) = jb (so + b = ((j - 1 + 1 + 1 : Nat) : Int)) := by
                  by_cases h1 : so = (j : Int)
                  · rw [jb_t h1]
                    by_cases h2 : b = 0
                    · rw [jb_f (by omega), jb_f (by omega)]
                    · rw [jb_t ⟨by omega, h2⟩, jb_t (by omega)]
                  · rw [jb_f h1, jb_f (by omega), jb_f (by omega)]
                rw [e9] at this
                exact this
          simp (disch := (first | decide | omega)) only [jxs, hps, jtsw, jlsw, List.length_cons, List.length_nil, true_and, and_true, true_implies, false_implies, implies_true, not_true_eq_false, not_false_eq_true, false_and, and_false, if_true, if_false, or_true, true_or, or_false, false_or, Classical.not_not, and_self, Int.reduceAdd, Int.reduceMul, Int.reduceSub, Int.reduceNeg, Int.reduceLT, Int.reduceLE, Int.reduceEq, Int.reduceNe, Int.reduceToNat, Nat.reduceAdd, Nat.reduceMul, Nat.reduceSub, Nat.reduceLeDiff, Nat.reduceLT, Nat.reduceEqDiff, reduceIte, Nat.zero_le, Nat.le_refl, Nat.add_zero, Nat.zero_add]
          refine ⟨fun h => ?_, fun h => ?_⟩
          · exact k2 0 (by omega) (nxt 0 (by omega))
          · exact k2 1 (by omega) (nxt 1 (by omega))
      refine jmet_of (ls := [some (vR a), some (vR 522), none, none]) sX12_is rfl (by decide +kernel) (by decide) rfl (by simp [jent]) ?_
      refine jW_step ?_
      simp (disch := (first | decide | omega)) only [bX12_is, jxs, hps, jtsw, jlsw, List.length_cons, List.length_nil, true_and, and_true, true_implies, false_implies, implies_true, not_true_eq_false, not_false_eq_true, false_and, and_false, if_true, if_false, or_true, true_or, or_false, false_or, Classical.not_not, and_self, Int.reduceAdd, Int.reduceMul, Int.reduceSub, Int.reduceNeg, Int.reduceLT, Int.reduceLE, Int.reduceEq, Int.reduceNe, Int.reduceToNat, Nat.reduceAdd, Nat.reduceMul, Nat.reduceSub, Nat.reduceLeDiff, Nat.reduceLT, Nat.reduceEqDiff, reduceIte, Nat.zero_le, Nat.le_refl, Nat.add_zero, Nat.zero_add]
      exact key (m + 1) 0 0 (by omega) (by omega) (fun h => by omega)
end XG
