/-! ===== the reference: behind a whole one ===== -/
set_option maxRecDepth 100000
theorem seM_len {l : Int} : ∀ (P : List Int) (acc : List (Int × Int)), (seM l P acc).1.length + (seM l P acc).2.length = P.length + acc.length ∧ (seM l P acc).1.length ≤ P.length ∧ (40 ∈ P → 40 ∈ (seM l P acc).1)
  | [], acc => ⟨rfl, Nat.le_refl _, fun q => q⟩
  | x :: P, acc => by
    unfold seM
    by_cases c : x < 40 ∧ l ≤ x
    · rw [if_pos c]
      have ih := seM_len (l := l) P (acc ++ [(x, 0)])
      rw [List.length_append] at ih
      simp only [List.length_cons, List.length_nil] at ih ⊢
      refine ⟨by omega, by omega, fun q => ih.2.2 ?_⟩
      rcases List.mem_cons.1 q with q | q
      · omega
      · exact q
    · rw [if_neg c]
      exact ⟨rfl, Nat.le_refl _, fun q => q⟩
section TG
variable {g : jjG} {d : Nat} {T : jjT} {Q : jjQ} {B : Int → Int} {n k : Nat} {t o : Int} {P : List Int} {acc : List (Int × Int)} {v : Int → Int → Int}
theorem tw_behindOne (hT : PT T) (hV : PV v) (hS : MS v B n k t P acc o 1) (hg : goM (stT B n k) P) (hl : acc.length + P.length ≤ 304 ∧ P.length < 100) (ho : (P.length : Int) - 1000 ≤ o ∧ o ≤ 8)
    (hQ : ∀ w, XS t v w → MS w B n (behM B n k P acc o).2.1 t (behM B n k P acc o).2.2.1 (behM B n k P acc o).2.2.2.1 (behM B n k P acc o).2.2.2.2 (behM B n k P acc o).1 → Q (.inl (some (vI 0))) (w, T)) : jmet g (d + 6) 0 0 MX2_behindOne [vR 539] (v, T) Q := by
  have hR := hS.1
  have hk := hR.2.2.2.2.2
  have kd2 := hR.2.2.1
  unfold KD2 at kd2
  have et : v 539 9 = stT B n k := by unfold goM at hg; omega
  have k5 : ∀ (w : Int → Int → Int) (P' : List Int) (acc' : List (Int × Int)) (o' z' : Int), XS t v w → MS w B n k t P' acc' o' z' → behM B n k P acc o = (z', nxT B n k, P', acc', o') → jW bX2_behindOne (g, d + 5, 0, 0, Q) 5 [some (vR 539), some (vI (stT B n k))] [] (w, T) 0 0 := by
    intro w P' acc' o' z' w1 w2 eb
    rw [eb] at hQ
    have hVw := w1.pv hV
    refine jW_step ?_
    simp (disch := (first | decide | omega)) only [bX2_behindOne, jxs, hps, jtsw, jlsw, List.length_cons, List.length_nil, true_and, and_true, true_implies, false_implies, implies_true, not_true_eq_false, not_false_eq_true, false_and, and_false, if_true, if_false, or_true, true_or, or_false, false_or, Classical.not_not, and_self, Int.reduceAdd, Int.reduceMul, Int.reduceSub, Int.reduceNeg, Int.reduceLT, Int.reduceLE, Int.reduceEq, Int.reduceNe, Int.reduceToNat, Nat.reduceAdd, Nat.reduceMul, Nat.reduceSub, Nat.reduceLeDiff, Nat.reduceLT, Nat.reduceEqDiff, reduceIte, Nat.zero_le, Nat.le_refl, Nat.add_zero, Nat.zero_add, twT hT, twV hVw]
    refine ⟨0, 0, ⟨by omega, by omega⟩, tw_next (d := d) hT hVw w2 ?_⟩
    intro u u1 u2
    simp (disch := (first | decide | omega)) only [jxs, hps, jtsw, jlsw, List.length_cons, List.length_nil, true_and, and_true, true_implies, false_implies, implies_true, not_true_eq_false, not_false_eq_true, false_and, and_false, if_true, if_false, or_true, true_or, or_false, false_or, Classical.not_not, and_self, Int.reduceAdd, Int.reduceMul, Int.reduceSub, Int.reduceNeg, Int.reduceLT, Int.reduceLE, Int.reduceEq, Int.reduceNe, Int.reduceToNat, Nat.reduceAdd, Nat.reduceMul, Nat.reduceSub, Nat.reduceLeDiff, Nat.reduceLT, Nat.reduceEqDiff, reduceIte, Nat.zero_le, Nat.le_refl, Nat.add_zero, Nat.zero_add]
    (repeat (refine And.intro (by (first | omega | assumption | trivial | (simp only [inI]; omega) | (simp only [inL]; omega) | (refine jb_01) | (exact jb_in))) ?_))
    exact hQ u (w1.tr u1) u2
  -- an operation waits
  have push : ∀ (b : Nat) (x : Int) (l : Int), ((b = 2 ∧ l = 3) ∨ (b = 4 ∧ l = 5)) → ∀ w, XS t v w → MS w B n k t (seM l P acc).1 (seM l P acc).2 o 1 → behM B n k P acc o = (0, nxT B n k, x :: (seM l P acc).1, (seM l P acc).2, o) → jW bX2_behindOne (g, d + 5, 0, 0, Q) b [some (vR 539), some (vI (stT B n k))] [vI x, vR 539] (w, T) 0 0 := by
    intro b x l hb w w1 w2 eb
    have sl := (seM_len (l := l) P acc).2.1
    have hVw := w1.pv hV
    have fin : ∀ u, XS t w u → MS u B n k t (x :: (seM l P acc).1) (seM l P acc).2 o 1 → jW bX2_behindOne (g, d + 5, 0, 0, Q) 5 [some (vR 539), some (vI (stT B n k))] [] (upA u 539 (up1 (u 539) 19 0), T) 0 0 := by
      intro u u1 u2
      have ej : ∀ j, j ≠ 19 → (upA u 539 (up1 (u 539) 19 0)) 539 j = u 539 j := fun j hj => by rw [upA_eq, up1_ne hj]
      have xs : XS t u (upA u 539 (up1 (u 539) 19 0)) := ⟨fun a a1 _ _ => upA_ne a1, fun j hj => ej j (by omega), fun i _ => by rw [upA_ne (by decide)]⟩
      exact k5 _ _ _ o 0 ((w1.tr u1).tr xs) (u2.pl xs (fun j hj => ej j (by omega)) (upA_ne (by decide)) (u2.2.2.1.fr (ej 17 (by decide)) (upA_ne (by decide))) ((ej 18 (by decide)).trans u2.2.2.2.1) (by rw [upA_eq, up1_eq])) eb
    rcases hb with ⟨e1, e2⟩ | ⟨e1, e2⟩
    · subst e1
      refine jW_step ?_
      simp (disch := (first | decide | omega)) only [bX2_behindOne, jxs, hps, jtsw, jlsw, List.length_cons, List.length_nil, true_and, and_true, true_implies, false_implies, implies_true, not_true_eq_false, not_false_eq_true, false_and, and_false, if_true, if_false, or_true, true_or, or_false, false_or, Classical.not_not, and_self, Int.reduceAdd, Int.reduceMul, Int.reduceSub, Int.reduceNeg, Int.reduceLT, Int.reduceLE, Int.reduceEq, Int.reduceNe, Int.reduceToNat, Nat.reduceAdd, Nat.reduceMul, Nat.reduceSub, Nat.reduceLeDiff, Nat.reduceLT, Nat.reduceEqDiff, reduceIte, Nat.zero_le, Nat.le_refl, Nat.add_zero, Nat.zero_add, twT hT, twV hVw]
      refine ⟨0, 0, ⟨by omega, by omega⟩, tw_push (d := d + 4) hT hVw w2 (by omega) ?_⟩
      intro u u1 u2
      have hVu := u1.pv hVw
      simp (disch := (first | decide | omega)) only [jxs, hps, jtsw, jlsw, List.length_cons, List.length_nil, true_and, and_true, true_implies, false_implies, implies_true, not_true_eq_false, not_false_eq_true, false_and, and_false, if_true, if_false, or_true, true_or, or_false, false_or, Classical.not_not, and_self, Int.reduceAdd, Int.reduceMul, Int.reduceSub, Int.reduceNeg, Int.reduceLT, Int.reduceLE, Int.reduceEq, Int.reduceNe, Int.reduceToNat, Nat.reduceAdd, Nat.reduceMul, Nat.reduceSub, Nat.reduceLeDiff, Nat.reduceLT, Nat.reduceEqDiff, reduceIte, Nat.zero_le, Nat.le_refl, Nat.add_zero, Nat.zero_add, twT hT, twV hVu]
      (repeat (refine And.intro (by (first | omega | assumption | trivial | (simp only [inI]; omega) | (simp only [inL]; omega) | (refine jb_01) | (exact jb_in))) ?_))
      exact fin u u1 u2
    · subst e1
      refine jW_step ?_
      simp (disch := (first | decide | omega)) only [bX2_behindOne, jxs, hps, jtsw, jlsw, List.length_cons, List.length_nil, true_and, and_true, true_implies, false_implies, implies_true, not_true_eq_false, not_false_eq_true, false_and, and_false, if_true, if_false, or_true, true_or, or_false, false_or, Classical.not_not, and_self, Int.reduceAdd, Int.reduceMul, Int.reduceSub, Int.reduceNeg, Int.reduceLT, Int.reduceLE, Int.reduceEq, Int.reduceNe, Int.reduceToNat, Nat.reduceAdd, Nat.reduceMul, Nat.reduceSub, Nat.reduceLeDiff, Nat.reduceLT, Nat.reduceEqDiff, reduceIte, Nat.zero_le, Nat.le_refl, Nat.add_zero, Nat.zero_add, twT hT, twV hVw]
      refine ⟨0, 0, ⟨by omega, by omega⟩, tw_push (d := d + 4) hT hVw w2 (by omega) ?_⟩
      intro u u1 u2
      have hVu := u1.pv hVw
      simp (disch := (first | decide | omega)) only [jxs, hps, jtsw, jlsw, List.length_cons, List.length_nil, true_and, and_true, true_implies, false_implies, implies_true, not_true_eq_false, not_false_eq_true, false_and, and_false, if_true, if_false, or_true, true_or, or_false, false_or, Classical.not_not, and_self, Int.reduceAdd, Int.reduceMul, Int.reduceSub, Int.reduceNeg, Int.reduceLT, Int.reduceLE, Int.reduceEq, Int.reduceNe, Int.reduceToNat, Nat.reduceAdd, Nat.reduceMul, Nat.reduceSub, Nat.reduceLeDiff, Nat.reduceLT, Nat.reduceEqDiff, reduceIte, Nat.zero_le, Nat.le_refl, Nat.add_zero, Nat.zero_add, twT hT, twV hVu]
      (repeat (refine And.intro (by (first | omega | assumption | trivial | (simp only [inI]; omega) | (simp only [inL]; omega) | (refine jb_01) | (exact jb_in))) ?_))
      exact fin u u1 u2
  have k1 : (stT B n k = 43 ∨ stT B n k = 45) → jW bX2_behindOne (g, d + 5, 0, 0, Q) 1 [some (vR 539), some (vI (stT B n k))] [] (v, T) 0 0 := by
    intro h
    have eb : behM B n k P acc o = (0, nxT B n k, (if stT B n k = 43 then 3 else 4) :: (seM 3 P acc).1, (seM 3 P acc).2, o) := by
      unfold behM
      rw [if_pos h]
    refine jW_step ?_
    simp (disch := (first | decide | omega)) only [bX2_behindOne, jxs, hps, jtsw, jlsw, List.length_cons, List.length_nil, true_and, and_true, true_implies, false_implies, implies_true, not_true_eq_false, not_false_eq_true, false_and, and_false, if_true, if_false, or_true, true_or, or_false, false_or, Classical.not_not, and_self, Int.reduceAdd, Int.reduceMul, Int.reduceSub, Int.reduceNeg, Int.reduceLT, Int.reduceLE, Int.reduceEq, Int.reduceNe, Int.reduceToNat, Nat.reduceAdd, Nat.reduceMul, Nat.reduceSub, Nat.reduceLeDiff, Nat.reduceLT, Nat.reduceEqDiff, reduceIte, Nat.zero_le, Nat.le_refl, Nat.add_zero, Nat.zero_add, twT hT, twV hV]
    refine ⟨0, 0, ⟨by omega, by omega⟩, tw_settle (d := d + 3) hT hV hS hl.1 ?_⟩
    intro w w1 w2
    simp (disch := (first | decide | omega)) only [jxs, hps, jtsw, jlsw, List.length_cons, List.length_nil, true_and, and_true, true_implies, false_implies, implies_true, not_true_eq_false, not_false_eq_true, false_and, and_false, if_true, if_false, or_true, true_or, or_false, false_or, Classical.not_not, and_self, Int.reduceAdd, Int.reduceMul, Int.reduceSub, Int.reduceNeg, Int.reduceLT, Int.reduceLE, Int.reduceEq, Int.reduceNe, Int.reduceToNat, Nat.reduceAdd, Nat.reduceMul, Nat.reduceSub, Nat.reduceLeDiff, Nat.reduceLT, Nat.reduceEqDiff, reduceIte, Nat.zero_le, Nat.le_refl, Nat.add_zero, Nat.zero_add, twT hT, twV hV]
    refine ⟨fun c => ?_, fun c => ?_⟩
    · rw [if_neg c] at eb
      exact push 2 4 3 (Or.inl ⟨rfl, rfl⟩) w w1 w2 eb
    · rw [if_pos (by omega)] at eb
      exact push 2 3 3 (Or.inl ⟨rfl, rfl⟩) w w1 w2 eb
  have k3 : (stT B n k = 42 ∨ stT B n k = 47) → jW bX2_behindOne (g, d + 5, 0, 0, Q) 3 [some (vR 539), some (vI (stT B n k))] [] (v, T) 0 0 := by
    intro h
    have eb : behM B n k P acc o = (0, nxT B n k, (if stT B n k = 42 then 5 else 6) :: (seM 5 P acc).1, (seM 5 P acc).2, o) := by
      unfold behM
      rw [if_neg (by omega), if_pos h]
    refine jW_step ?_
    simp (disch := (first | decide | omega)) only [bX2_behindOne, jxs, hps, jtsw, jlsw, List.length_cons, List.length_nil, true_and, and_true, true_implies, false_implies, implies_true, not_true_eq_false, not_false_eq_true, false_and, and_false, if_true, if_false, or_true, true_or, or_false, false_or, Classical.not_not, and_self, Int.reduceAdd, Int.reduceMul, Int.reduceSub, Int.reduceNeg, Int.reduceLT, Int.reduceLE, Int.reduceEq, Int.reduceNe, Int.reduceToNat, Nat.reduceAdd, Nat.reduceMul, Nat.reduceSub, Nat.reduceLeDiff, Nat.reduceLT, Nat.reduceEqDiff, reduceIte, Nat.zero_le, Nat.le_refl, Nat.add_zero, Nat.zero_add, twT hT, twV hV]
    refine ⟨0, 0, ⟨by omega, by omega⟩, tw_settle (d := d + 3) hT hV hS hl.1 ?_⟩
    intro w w1 w2
    simp (disch := (first | decide | omega)) only [jxs, hps, jtsw, jlsw, List.length_cons, List.length_nil, true_and, and_true, true_implies, false_implies, implies_true, not_true_eq_false, not_false_eq_true, false_and, and_false, if_true, if_false, or_true, true_or, or_false, false_or, Classical.not_not, and_self, Int.reduceAdd, Int.reduceMul, Int.reduceSub, Int.reduceNeg, Int.reduceLT, Int.reduceLE, Int.reduceEq, Int.reduceNe, Int.reduceToNat, Nat.reduceAdd, Nat.reduceMul, Nat.reduceSub, Nat.reduceLeDiff, Nat.reduceLT, Nat.reduceEqDiff, reduceIte, Nat.zero_le, Nat.le_refl, Nat.add_zero, Nat.zero_add, twT hT, twV hV]
    refine ⟨fun c => ?_, fun c => ?_⟩
    · rw [if_neg c] at eb
      exact push 4 6 5 (Or.inr ⟨rfl, rfl⟩) w w1 w2 eb
    · rw [if_pos (by omega)] at eb
      exact push 4 5 5 (Or.inr ⟨rfl, rfl⟩) w w1 w2 eb
  refine jmet_of (ls := [some (vR 539), none]) sX2_behindOne rfl (by decide +kernel) (by decide) rfl (by simp [jent]) ?_
  refine jW_step ?_
  simp (disch := (first | decide | omega)) only [bX2_behindOne, jxs, hps, jtsw, jlsw, List.length_cons, List.length_nil, true_and, and_true, true_implies, false_implies, implies_true, not_true_eq_false, not_false_eq_true, false_and, and_false, if_true, if_false, or_true, true_or, or_false, false_or, Classical.not_not, and_self, Int.reduceAdd, Int.reduceMul, Int.reduceSub, Int.reduceNeg, Int.reduceLT, Int.reduceLE, Int.reduceEq, Int.reduceNe, Int.reduceToNat, Nat.reduceAdd, Nat.reduceMul, Nat.reduceSub, Nat.reduceLeDiff, Nat.reduceLT, Nat.reduceEqDiff, reduceIte, Nat.zero_le, Nat.le_refl, Nat.add_zero, Nat.zero_add, twT hT, twV hV, et]
  refine ⟨fun a1 => ?_, fun a1 => ?_⟩
  · exact k1 (Or.inl (by omega))
  · refine ⟨fun a2 => ?_, fun a2 => ?_⟩
    · refine ⟨fun a3 => ?_, fun a3 => ?_⟩
      · exact k3 (Or.inl (by omega))
      · refine ⟨fun a4 => ?_, fun a4 => ?_⟩
        · have h40 : 40 ∈ P := by
            unfold goM at hg
            rcases hg with q | q | q | q | q
            · omega
            · omega
            · omega
            · omega
            · exact q.2
          have eb : behM B n k P acc o = (1, nxT B n k, whM (seM 3 P acc).1.tail (seM 3 P acc).2 (o - 1)) := by
            unfold behM
            rw [if_neg (by omega), if_neg (by omega)]
          have sl := seM_len (l := 3) P acc
          refine ⟨0, 0, ⟨by omega, by omega⟩, tw_settle (d := d + 3) hT hV hS hl.1 ?_⟩
          intro w w1 w2
          have hVw := w1.pv hV
          have s40 := sl.2.2 h40
          generalize (seM 3 P acc).1 = P1 at *
          generalize (seM 3 P acc).2 = acc1 at *
          cases P1 with
          | nil => cases s40
          | cons x P1 =>
            rw [List.length_cons] at sl
            have m0 := w2.2.2.1.1
            rw [List.length_cons] at m0
            have m1 : w 539 17 = (P1.length : Int) + 1 := by rw [m0]; omega
            have eo : w 539 18 = o := w2.2.2.2.1
            have pp := w2.pop (w := upA w 539 (up1 (up1 (w 539) 17 ((P1.length : Int) + 1 - 1)) 18 (o - 1))) (o' := o - 1) (fun a ha => upA_ne ha) (by rw [upA_eq, up1_ne (by decide), up1_eq]; omega) (by rw [upA_eq, up1_eq]) (fun j j1 j2 => by rw [upA_eq, up1_ne j2, up1_ne j1])
            simp (disch := (first | decide | omega)) only [jxs, hps, jtsw, jlsw, List.length_cons, List.length_nil, true_and, and_true, true_implies, false_implies, implies_true, not_true_eq_false, not_false_eq_true, false_and, and_false, if_true, if_false, or_true, true_or, or_false, false_or, Classical.not_not, and_self, Int.reduceAdd, Int.reduceMul, Int.reduceSub, Int.reduceNeg, Int.reduceLT, Int.reduceLE, Int.reduceEq, Int.reduceNe, Int.reduceToNat, Nat.reduceAdd, Nat.reduceMul, Nat.reduceSub, Nat.reduceLeDiff, Nat.reduceLT, Nat.reduceEqDiff, reduceIte, Nat.zero_le, Nat.le_refl, Nat.add_zero, Nat.zero_add, twT hT, twV hVw, m1, eo]
            (repeat (refine And.intro (by (first | omega | assumption | trivial | (simp only [inI]; omega) | (simp only [inL]; omega) | (refine jb_01) | (exact jb_in))) ?_))
            refine ⟨0, 0, ⟨by omega, by omega⟩, tw_whole (d := d + 3) hT (pp.1.pv hVw) pp.2 (by omega) (by omega) ?_⟩
            intro u u1 u2
            simp (disch := (first | decide | omega)) only [jxs, hps, jtsw, jlsw, List.length_cons, List.length_nil, true_and, and_true, true_implies, false_implies, implies_true, not_true_eq_false, not_false_eq_true, false_and, and_false, if_true, if_false, or_true, true_or, or_false, false_or, Classical.not_not, and_self, Int.reduceAdd, Int.reduceMul, Int.reduceSub, Int.reduceNeg, Int.reduceLT, Int.reduceLE, Int.reduceEq, Int.reduceNe, Int.reduceToNat, Nat.reduceAdd, Nat.reduceMul, Nat.reduceSub, Nat.reduceLeDiff, Nat.reduceLT, Nat.reduceEqDiff, reduceIte, Nat.zero_le, Nat.le_refl, Nat.add_zero, Nat.zero_add]
            exact k5 u _ _ _ 1 ((w1.tr pp.1).tr u1) u2 eb
        · exact k3 (Or.inr (by omega))
    · exact k1 (Or.inr (by omega))
end TG
