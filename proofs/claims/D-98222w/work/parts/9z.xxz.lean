/-! ===== the class: calm, basin, never, trouble ===== -/
-- MODE X
set_option maxRecDepth 100000
theorem elZ_RN {N s : Int} (hN : 0 ≤ N) : RN (elZ N s).1 (elZ N s).2 N := (elZ_sp hN).1
theorem elZ_MON {N s : Int} (hN : 0 ≤ N) : MON (elZ N s).1 (elZ N s).2 := (elZ_sp hN).2.1
theorem jkK.o27 {v w : Int → Int → Int} (hV : PV v) (h : okN (v 522)) (h2 : ∀ a, a ≠ 527 → w a = v a) : jkK v w := jkK.of1 hV h (b := 527) (by omega) h2
section XG
variable {g : jjG} {d : Nat} {T : jjT} {Q : jjQ} {A X : Int → Int}
theorem xw_calm {s i pl : Int} {v : Int → Int → Int} (hT : PT T) (hV : PV v) (hC : CI (v, T) A X) (hQ : ∀ w, jkK v w → Q (.inl (some (vI (clmA A X s i pl)))) (w, T)) : jmet g (d + 114) 0 0 MX0_calm [vR 400, vI s, vI i, vI pl] (v, T) Q := by
  have h0 := hC.tb.1
  refine jmet_of (ls := [some (vR 400), some (vI s), some (vI i), some (vI pl), none]) sX0_calm rfl (by decide +kernel) (by decide) rfl (by simp [jent]) ?_
  have k1 : clmA A X s i pl = -1 → ∀ w, jkK v w → jW bX0_calm (g, d + 113, 0, 0, Q) 1 [some (vR 400), some (vI s), some (vI i), some (vI pl), none] [] (w, T) 0 0 := by
    intro e w hw
    rw [e] at hQ
    have hV := hw.pv
    refine jW_step ?_
    simp (disch := (first | decide | omega)) only [bX0_calm, jxs, hps, jtsw, jlsw, List.length_cons, List.length_nil, true_and, and_true, true_implies, false_implies, implies_true, not_true_eq_false, not_false_eq_true, false_and, and_false, if_true, if_false, or_true, true_or, or_false, false_or, Classical.not_not, and_self, Int.reduceAdd, Int.reduceMul, Int.reduceSub, Int.reduceNeg, Int.reduceLT, Int.reduceLE, Int.reduceEq, Int.reduceNe, Int.reduceToNat, Nat.reduceAdd, Nat.reduceMul, Nat.reduceSub, Nat.reduceLeDiff, Nat.reduceLT, Nat.reduceEqDiff, reduceIte, Nat.zero_le, Nat.le_refl, Nat.add_zero, Nat.zero_add, xwT hT, xwV hV]
    (repeat (refine And.intro (by (first | omega | assumption | trivial | (simp only [inI]; omega) | (simp only [inL]; omega) | (refine jb_01) | (exact jb_in))) ?_))
    exact hQ w hw
  refine jW_step ?_
  simp (disch := (first | decide | omega)) only [bX0_calm, jxs, hps, jtsw, jlsw, List.length_cons, List.length_nil, true_and, and_true, true_implies, false_implies, implies_true, not_true_eq_false, not_false_eq_true, false_and, and_false, if_true, if_false, or_true, true_or, or_false, false_or, Classical.not_not, and_self, Int.reduceAdd, Int.reduceMul, Int.reduceSub, Int.reduceNeg, Int.reduceLT, Int.reduceLE, Int.reduceEq, Int.reduceNe, Int.reduceToNat, Nat.reduceAdd, Nat.reduceMul, Nat.reduceSub, Nat.reduceLeDiff, Nat.reduceLT, Nat.reduceEqDiff, reduceIte, Nat.zero_le, Nat.le_refl, Nat.add_zero, Nat.zero_add, xwT hT, xwV hV]
  refine ⟨fun h => ?_, fun h => ?_⟩
  · refine k1 ?_ v (jkK.rf hV hC.nm)
    unfold clmA
    split
    · rw [if_neg (by omega)]
    · rfl
  · refine ⟨0, 0, ⟨by omega, by omega⟩, xw_choose hT hV hC ⟨fun hs w hw e23 hO => ?_, fun hs w hw e23 => ?_⟩⟩
    · have sm := setC_m h0 hs
      have hCw := hw.ci hC
      have hV0 := hV
      have hV := hw.pv
      simp (disch := (first | decide | omega)) only [jxs, hps, jtsw, jlsw, List.length_cons, List.length_nil, true_and, and_true, true_implies, false_implies, implies_true, not_true_eq_false, not_false_eq_true, false_and, and_false, if_true, if_false, or_true, true_or, or_false, false_or, Classical.not_not, and_self, Int.reduceAdd, Int.reduceMul, Int.reduceSub, Int.reduceNeg, Int.reduceLT, Int.reduceLE, Int.reduceEq, Int.reduceNe, Int.reduceToNat, Nat.reduceAdd, Nat.reduceMul, Nat.reduceSub, Nat.reduceLeDiff, Nat.reduceLT, Nat.reduceEqDiff, reduceIte, Nat.zero_le, Nat.le_refl, Nat.add_zero, Nat.zero_add, xwT hT, xwV hV]
      refine ⟨0, 0, ⟨by omega, by omega⟩, xw_laysChange hT hV hCw ?_⟩
      intro u hu hB
      have hVw := hV
      have hV := hu.pv hVw
      have hCu := hu.ci hCw
      have ju := hw.tr (hu.K hVw)
      have hOu : CHO u (elZ (A 0) s).2 (elZ (A 0) s).1 := hO.fr (by rw [hu.1 400 (by omega) (by omega)]) (hu.1 526 (by omega) (by omega))
      have qe : clmA A X s i pl = clmS A X s i pl := by
        unfold clmA
        rw [if_pos hs, if_pos (by omega)]
      rw [qe] at hQ
      unfold clmS tbS at hQ
      have rn := elZ_RN (s := s) h0.1
      generalize (elZ (A 0) s).2 = m at *
      generalize (elZ (A 0) s).1 = el at *
      have hf := fac_bd sm.2.2.2
      simp (disch := (first | decide | omega)) only [jxs, hps, jtsw, jlsw, List.length_cons, List.length_nil, true_and, and_true, true_implies, false_implies, implies_true, not_true_eq_false, not_false_eq_true, false_and, and_false, if_true, if_false, or_true, true_or, or_false, false_or, Classical.not_not, and_self, Int.reduceAdd, Int.reduceMul, Int.reduceSub, Int.reduceNeg, Int.reduceLT, Int.reduceLE, Int.reduceEq, Int.reduceNe, Int.reduceToNat, Nat.reduceAdd, Nat.reduceMul, Nat.reduceSub, Nat.reduceLeDiff, Nat.reduceLT, Nat.reduceEqDiff, reduceIte, Nat.zero_le, Nat.le_refl, Nat.add_zero, Nat.zero_add, xwT hT, xwV hV]
      refine ⟨0, 0, ⟨by omega, by omega⟩, xw_calmNumber (A := A) (X := X) (el := el) hT hV hOu ⟨sm.2.2, rn, h0⟩ hB ?_⟩
      intro y z y1 y2 y3 y4
      have bd := cmF_bd (cm := clE (tbE (tbl A X) el) m) (i := i) (al := fac m) (fac m).toNat 0 0 (by omega) (by omega)
      have jy : jkK v y := ju.tr (jkK.of hV hCu.nm (Or.inr (Or.inr rfl)) (b := 527) (by omega) y1 y2)
      have hVu := hV
      have hV := jy.pv
      have y13 : y 400 13 = m := by rw [y1, up1_ne (by omega)]; exact hOu.1
      have y14 : y 400 14 = z := by rw [y1, up1_eq]
      have k3 : ∀ x, Q (.inl (some (vI x))) (y, T) → jW bX0_calm (g, d + 113, 0, 0, Q) 3 [some (vR 400), some (vI s), some (vI i), some (vI pl), some (vI (cmF (clE (tbE (tbl A X) el) m) i (fac m).toNat 0 0))] [vI x] (y, T) 0 0 := by
        intro x hx
        refine jW_step ?_
        simp (disch := (first | decide | omega)) only [bX0_calm, jxs, hps, jtsw, jlsw, List.length_cons, List.length_nil, true_and, and_true, true_implies, false_implies, implies_true, not_true_eq_false, not_false_eq_true, false_and, and_false, if_true, if_false, or_true, true_or, or_false, false_or, Classical.not_not, and_self, Int.reduceAdd, Int.reduceMul, Int.reduceSub, Int.reduceNeg, Int.reduceLT, Int.reduceLE, Int.reduceEq, Int.reduceNe, Int.reduceToNat, Nat.reduceAdd, Nat.reduceMul, Nat.reduceSub, Nat.reduceLeDiff, Nat.reduceLT, Nat.reduceEqDiff, reduceIte, Nat.zero_le, Nat.le_refl, Nat.add_zero, Nat.zero_add, xwT hT, xwV hV]
        (repeat (refine And.intro (by (first | omega | assumption | trivial | (simp only [inI]; omega) | (simp only [inL]; omega) | (refine jb_01) | (exact jb_in))) ?_))
        exact hx
      have k2 : Q (.inl (some (vI (-1)))) (y, T) → jW bX0_calm (g, d + 113, 0, 0, Q) 2 [some (vR 400), some (vI s), some (vI i), some (vI pl), some (vI (cmF (clE (tbE (tbl A X) el) m) i (fac m).toNat 0 0))] [] (y, T) 0 0 := by
        intro hx
        refine jW_step ?_
        simp (disch := (first | decide | omega)) only [bX0_calm, jxs, hps, jtsw, jlsw, List.length_cons, List.length_nil, true_and, and_true, true_implies, false_implies, implies_true, not_true_eq_false, not_false_eq_true, false_and, and_false, if_true, if_false, or_true, true_or, or_false, false_or, Classical.not_not, and_self, Int.reduceAdd, Int.reduceMul, Int.reduceSub, Int.reduceNeg, Int.reduceLT, Int.reduceLE, Int.reduceEq, Int.reduceNe, Int.reduceToNat, Nat.reduceAdd, Nat.reduceMul, Nat.reduceSub, Nat.reduceLeDiff, Nat.reduceLT, Nat.reduceEqDiff, reduceIte, Nat.zero_le, Nat.le_refl, Nat.add_zero, Nat.zero_add, xwT hT, xwV hV]
        exact k3 _ hx
      simp (disch := (first | decide | omega)) only [jxs, hps, jtsw, jlsw, List.length_cons, List.length_nil, true_and, and_true, true_implies, false_implies, implies_true, not_true_eq_false, not_false_eq_true, false_and, and_false, if_true, if_false, or_true, true_or, or_false, false_or, Classical.not_not, and_self, Int.reduceAdd, Int.reduceMul, Int.reduceSub, Int.reduceNeg, Int.reduceLT, Int.reduceLE, Int.reduceEq, Int.reduceNe, Int.reduceToNat, Nat.reduceAdd, Nat.reduceMul, Nat.reduceSub, Nat.reduceLeDiff, Nat.reduceLT, Nat.reduceEqDiff, reduceIte, Nat.zero_le, Nat.le_refl, Nat.add_zero, Nat.zero_add, xwT hT, xwV hV]
      refine ⟨fun h2 => ?_, fun h2 => ?_⟩
      · rw [if_neg h2] at hQ
        refine ⟨fun h3 => ?_, fun h3 => ?_⟩
        · rw [if_neg (by omega)] at hQ
          exact k2 (hQ y jy)
        · have h4 : 0 ≤ cmF (clE (tbE (tbl A X) el) m) i (fac m).toNat 0 0 := by omega
          simp (disch := (first | decide | omega)) only [jxs, hps, jtsw, jlsw, List.length_cons, List.length_nil, true_and, and_true, true_implies, false_implies, implies_true, not_true_eq_false, not_false_eq_true, false_and, and_false, if_true, if_false, or_true, true_or, or_false, false_or, Classical.not_not, and_self, Int.reduceAdd, Int.reduceMul, Int.reduceSub, Int.reduceNeg, Int.reduceLT, Int.reduceLE, Int.reduceEq, Int.reduceNe, Int.reduceToNat, Nat.reduceAdd, Nat.reduceMul, Nat.reduceSub, Nat.reduceLeDiff, Nat.reduceLT, Nat.reduceEqDiff, reduceIte, Nat.zero_le, Nat.le_refl, Nat.add_zero, Nat.zero_add, xwT hT, xwV hV, y13]
          (repeat (refine And.intro (by (first | omega | assumption | trivial | (simp only [inI]; omega) | (simp only [inL]; omega) | (refine jb_01) | (exact jb_in))) ?_))
          refine ⟨0, 0, ⟨by omega, by omega⟩, xw_in ?_⟩
          simp (disch := (first | decide | omega)) only [jxs, hps, jtsw, jlsw, List.length_cons, List.length_nil, true_and, and_true, true_implies, false_implies, implies_true, not_true_eq_false, not_false_eq_true, false_and, and_false, if_true, if_false, or_true, true_or, or_false, false_or, Classical.not_not, and_self, Int.reduceAdd, Int.reduceMul, Int.reduceSub, Int.reduceNeg, Int.reduceLT, Int.reduceLE, Int.reduceEq, Int.reduceNe, Int.reduceToNat, Nat.reduceAdd, Nat.reduceMul, Nat.reduceSub, Nat.reduceLeDiff, Nat.reduceLT, Nat.reduceEqDiff, reduceIte, Nat.zero_le, Nat.le_refl, Nat.add_zero, Nat.zero_add, xwT hT, xwV hV]
          refine ⟨fun h5 => ?_, fun h5 => ?_⟩
          · rw [if_pos ⟨h4, h5⟩] at hQ
            (repeat (refine And.intro (by (first | omega | assumption | trivial | (simp only [inI]; omega) | (simp only [inL]; omega) | (refine jb_01) | (exact jb_in))) ?_))
            refine k3 _ ?_
            rw [y4 h4 pl h5.1 (by omega)]
            exact hQ y jy
          · rw [if_neg (fun q => h5 q.2)] at hQ
            exact k2 (hQ y jy)
      · rw [if_pos (by omega)] at hQ
        simp (disch := (first | decide | omega)) only [jxs, hps, jtsw, jlsw, List.length_cons, List.length_nil, true_and, and_true, true_implies, false_implies, implies_true, not_true_eq_false, not_false_eq_true, false_and, and_false, if_true, if_false, or_true, true_or, or_false, false_or, Classical.not_not, and_self, Int.reduceAdd, Int.reduceMul, Int.reduceSub, Int.reduceNeg, Int.reduceLT, Int.reduceLE, Int.reduceEq, Int.reduceNe, Int.reduceToNat, Nat.reduceAdd, Nat.reduceMul, Nat.reduceSub, Nat.reduceLeDiff, Nat.reduceLT, Nat.reduceEqDiff, reduceIte, Nat.zero_le, Nat.le_refl, Nat.add_zero, Nat.zero_add, xwT hT, xwV hV, y14]
        (repeat (refine And.intro (by (first | omega | assumption | trivial | (simp only [inI]; omega) | (simp only [inL]; omega) | (refine jb_01) | (exact jb_in))) ?_))
        rw [y3 (by omega)]
        exact hQ y jy
    · have hV := hw.pv
      simp (disch := (first | decide | omega)) only [jxs, hps, jtsw, jlsw, List.length_cons, List.length_nil, true_and, and_true, true_implies, false_implies, implies_true, not_true_eq_false, not_false_eq_true, false_and, and_false, if_true, if_false, or_true, true_or, or_false, false_or, Classical.not_not, and_self, Int.reduceAdd, Int.reduceMul, Int.reduceSub, Int.reduceNeg, Int.reduceLT, Int.reduceLE, Int.reduceEq, Int.reduceNe, Int.reduceToNat, Nat.reduceAdd, Nat.reduceMul, Nat.reduceSub, Nat.reduceLeDiff, Nat.reduceLT, Nat.reduceEqDiff, reduceIte, Nat.zero_le, Nat.le_refl, Nat.add_zero, Nat.zero_add, xwT hT, xwV hV]
      refine k1 ?_ w hw
      unfold clmA
      exact if_neg hs
theorem xw_basin {s i : Int} {v : Int → Int → Int} (hT : PT T) (hV : PV v) (hC : CI (v, T) A X) (hQ : ∀ w, jkK v w → Q (.inl (some (vI (bsnA A X s i)))) (w, T)) : jmet g (d + 114) 0 0 MX0_basin [vR 400, vI s, vI i] (v, T) Q := by
  have h0 := hC.tb.1
  refine jmet_of (ls := [some (vR 400), some (vI s), some (vI i), none]) sX0_basin rfl (by decide +kernel) (by decide) rfl (by simp [jent]) ?_
  have k1 : bsnA A X s i = -1 → ∀ w, jkK v w → jW bX0_basin (g, d + 113, 0, 0, Q) 1 [some (vR 400), some (vI s), some (vI i), none] [] (w, T) 0 0 := by
    intro e w hw
    rw [e] at hQ
    have hV := hw.pv
    refine jW_step ?_
    simp (disch := (first | decide | omega)) only [bX0_basin, jxs, hps, jtsw, jlsw, List.length_cons, List.length_nil, true_and, and_true, true_implies, false_implies, implies_true, not_true_eq_false, not_false_eq_true, false_and, and_false, if_true, if_false, or_true, true_or, or_false, false_or, Classical.not_not, and_self, Int.reduceAdd, Int.reduceMul, Int.reduceSub, Int.reduceNeg, Int.reduceLT, Int.reduceLE, Int.reduceEq, Int.reduceNe, Int.reduceToNat, Nat.reduceAdd, Nat.reduceMul, Nat.reduceSub, Nat.reduceLeDiff, Nat.reduceLT, Nat.reduceEqDiff, reduceIte, Nat.zero_le, Nat.le_refl, Nat.add_zero, Nat.zero_add, xwT hT, xwV hV]
    (repeat (refine And.intro (by (first | omega | assumption | trivial | (simp only [inI]; omega) | (simp only [inL]; omega) | (refine jb_01) | (exact jb_in))) ?_))
    exact hQ w hw
  refine jW_step ?_
  simp (disch := (first | decide | omega)) only [bX0_basin, jxs, hps, jtsw, jlsw, List.length_cons, List.length_nil, true_and, and_true, true_implies, false_implies, implies_true, not_true_eq_false, not_false_eq_true, false_and, and_false, if_true, if_false, or_true, true_or, or_false, false_or, Classical.not_not, and_self, Int.reduceAdd, Int.reduceMul, Int.reduceSub, Int.reduceNeg, Int.reduceLT, Int.reduceLE, Int.reduceEq, Int.reduceNe, Int.reduceToNat, Nat.reduceAdd, Nat.reduceMul, Nat.reduceSub, Nat.reduceLeDiff, Nat.reduceLT, Nat.reduceEqDiff, reduceIte, Nat.zero_le, Nat.le_refl, Nat.add_zero, Nat.zero_add, xwT hT, xwV hV]
  refine ⟨fun h => ?_, fun h => ?_⟩
  · refine k1 ?_ v (jkK.rf hV hC.nm)
    unfold bsnA
    split
    · rw [if_neg (by omega)]
    · rfl
  · refine ⟨0, 0, ⟨by omega, by omega⟩, xw_choose hT hV hC ⟨fun hs w hw e23 hO => ?_, fun hs w hw e23 => ?_⟩⟩
    · have sm := setC_m h0 hs
      have hCw := hw.ci hC
      have hV0 := hV
      have hV := hw.pv
      simp (disch := (first | decide | omega)) only [jxs, hps, jtsw, jlsw, List.length_cons, List.length_nil, true_and, and_true, true_implies, false_implies, implies_true, not_true_eq_false, not_false_eq_true, false_and, and_false, if_true, if_false, or_true, true_or, or_false, false_or, Classical.not_not, and_self, Int.reduceAdd, Int.reduceMul, Int.reduceSub, Int.reduceNeg, Int.reduceLT, Int.reduceLE, Int.reduceEq, Int.reduceNe, Int.reduceToNat, Nat.reduceAdd, Nat.reduceMul, Nat.reduceSub, Nat.reduceLeDiff, Nat.reduceLT, Nat.reduceEqDiff, reduceIte, Nat.zero_le, Nat.le_refl, Nat.add_zero, Nat.zero_add, xwT hT, xwV hV]
      refine ⟨0, 0, ⟨by omega, by omega⟩, xw_laysChange hT hV hCw ?_⟩
      intro u hu hB
      have hVw := hV
      have hV := hu.pv hVw
      have hCu := hu.ci hCw
      have ju := hw.tr (hu.K hVw)
      have hOu : CHO u (elZ (A 0) s).2 (elZ (A 0) s).1 := hO.fr (by rw [hu.1 400 (by omega) (by omega)]) (hu.1 526 (by omega) (by omega))
      have qe : bsnA A X s i = bsnS A X s i := by
        unfold bsnA
        rw [if_pos hs, if_pos (by omega)]
      rw [qe] at hQ
      unfold bsnS tbS at hQ
      have rn := elZ_RN (s := s) h0.1
      have mn := elZ_MON (s := s) h0.1
      generalize (elZ (A 0) s).2 = m at *
      generalize (elZ (A 0) s).1 = el at *
      have hf := fac_bd sm.2.2.2
      simp (disch := (first | decide | omega)) only [jxs, hps, jtsw, jlsw, List.length_cons, List.length_nil, true_and, and_true, true_implies, false_implies, implies_true, not_true_eq_false, not_false_eq_true, false_and, and_false, if_true, if_false, or_true, true_or, or_false, false_or, Classical.not_not, and_self, Int.reduceAdd, Int.reduceMul, Int.reduceSub, Int.reduceNeg, Int.reduceLT, Int.reduceLE, Int.reduceEq, Int.reduceNe, Int.reduceToNat, Nat.reduceAdd, Nat.reduceMul, Nat.reduceSub, Nat.reduceLeDiff, Nat.reduceLT, Nat.reduceEqDiff, reduceIte, Nat.zero_le, Nat.le_refl, Nat.add_zero, Nat.zero_add, xwT hT, xwV hV]
      refine ⟨0, 0, ⟨by omega, by omega⟩, xw_calmNumber (A := A) (X := X) (el := el) hT hV hOu ⟨sm.2.2, rn, h0⟩ hB ?_⟩
      intro y z y1 y2 y3 y4
      have bd := cmF_bd (cm := clE (tbE (tbl A X) el) m) (i := i) (al := fac m) (fac m).toNat 0 0 (by omega) (by omega)
      have jy : jkK v y := ju.tr (jkK.of hV hCu.nm (Or.inr (Or.inr rfl)) (b := 527) (by omega) y1 y2)
      have hVu := hV
      have hV := jy.pv
      have hOy : CHO y m el := hOu.fr (by rw [y1, up1_ne (by omega)]) (y2 526 (by omega) (by omega))
      have k2 : ∀ x w, PV w → Q (.inl (some (vI x))) (w, T) → jW bX0_basin (g, d + 113, 0, 0, Q) 2 [some (vR 400), some (vI s), some (vI i), some (vI (cmF (clE (tbE (tbl A X) el) m) i (fac m).toNat 0 0))] [vI x] (w, T) 0 0 := by
        intro x w hV hx
        refine jW_step ?_
        simp (disch := (first | decide | omega)) only [bX0_basin, jxs, hps, jtsw, jlsw, List.length_cons, List.length_nil, true_and, and_true, true_implies, false_implies, implies_true, not_true_eq_false, not_false_eq_true, false_and, and_false, if_true, if_false, or_true, true_or, or_false, false_or, Classical.not_not, and_self, Int.reduceAdd, Int.reduceMul, Int.reduceSub, Int.reduceNeg, Int.reduceLT, Int.reduceLE, Int.reduceEq, Int.reduceNe, Int.reduceToNat, Nat.reduceAdd, Nat.reduceMul, Nat.reduceSub, Nat.reduceLeDiff, Nat.reduceLT, Nat.reduceEqDiff, reduceIte, Nat.zero_le, Nat.le_refl, Nat.add_zero, Nat.zero_add, xwT hT, xwV hV]
        (repeat (refine And.intro (by (first | omega | assumption | trivial | (simp only [inI]; omega) | (simp only [inL]; omega) | (refine jb_01) | (exact jb_in))) ?_))
        exact hx
      simp (disch := (first | decide | omega)) only [jxs, hps, jtsw, jlsw, List.length_cons, List.length_nil, true_and, and_true, true_implies, false_implies, implies_true, not_true_eq_false, not_false_eq_true, false_and, and_false, if_true, if_false, or_true, true_or, or_false, false_or, Classical.not_not, and_self, Int.reduceAdd, Int.reduceMul, Int.reduceSub, Int.reduceNeg, Int.reduceLT, Int.reduceLE, Int.reduceEq, Int.reduceNe, Int.reduceToNat, Nat.reduceAdd, Nat.reduceMul, Nat.reduceSub, Nat.reduceLeDiff, Nat.reduceLT, Nat.reduceEqDiff, reduceIte, Nat.zero_le, Nat.le_refl, Nat.add_zero, Nat.zero_add, xwT hT, xwV hV]
      refine ⟨fun h2 => ?_, fun h2 => ?_⟩
      · rw [if_neg (by omega)] at hQ
        refine ⟨0, 0, ⟨by omega, by omega⟩, xw_leadTo (A := A) (X := X) (el := el) hT hV hOy ⟨sm.2.2, mn, rn, h0⟩ (by rw [y2 523 (by omega) (by omega)]; exact hB) ?_⟩
        intro x hx
        have jx := jy.tr (jkK.o27 hV (jy.ci hC).nm hx)
        have hV := jx.pv
        simp (disch := (first | decide | omega)) only [jxs, hps, jtsw, jlsw, List.length_cons, List.length_nil, true_and, and_true, true_implies, false_implies, implies_true, not_true_eq_false, not_false_eq_true, false_and, and_false, if_true, if_false, or_true, true_or, or_false, false_or, Classical.not_not, and_self, Int.reduceAdd, Int.reduceMul, Int.reduceSub, Int.reduceNeg, Int.reduceLT, Int.reduceLE, Int.reduceEq, Int.reduceNe, Int.reduceToNat, Nat.reduceAdd, Nat.reduceMul, Nat.reduceSub, Nat.reduceLeDiff, Nat.reduceLT, Nat.reduceEqDiff, reduceIte, Nat.zero_le, Nat.le_refl, Nat.add_zero, Nat.zero_add, xwT hT, xwV hV]
        exact k2 _ x hV (hQ x jx)
      · rw [if_pos (by omega)] at hQ
        exact k2 _ y hV (hQ y jy)
    · have hV := hw.pv
      simp (disch := (first | decide | omega)) only [jxs, hps, jtsw, jlsw, List.length_cons, List.length_nil, true_and, and_true, true_implies, false_implies, implies_true, not_true_eq_false, not_false_eq_true, false_and, and_false, if_true, if_false, or_true, true_or, or_false, false_or, Classical.not_not, and_self, Int.reduceAdd, Int.reduceMul, Int.reduceSub, Int.reduceNeg, Int.reduceLT, Int.reduceLE, Int.reduceEq, Int.reduceNe, Int.reduceToNat, Nat.reduceAdd, Nat.reduceMul, Nat.reduceSub, Nat.reduceLeDiff, Nat.reduceLT, Nat.reduceEqDiff, reduceIte, Nat.zero_le, Nat.le_refl, Nat.add_zero, Nat.zero_add, xwT hT, xwV hV]
      refine k1 ?_ w hw
      unfold bsnA
      exact if_neg hs
theorem xw_never {s : Int} {v : Int → Int → Int} (hT : PT T) (hV : PV v) (hC : CI (v, T) A X) (hQ : ∀ w, jkK v w → Q (.inl (some (vI (nvrA A X s)))) (w, T)) : jmet g (d + 114) 0 0 MX0_never [vR 400, vI s] (v, T) Q := by
  have h0 := hC.tb.1
  refine jmet_of (ls := [some (vR 400), some (vI s)]) sX0_never rfl (by decide +kernel) (by decide) rfl (by simp [jent]) ?_
  refine jW_step ?_
  simp (disch := (first | decide | omega)) only [bX0_never, jxs, hps, jtsw, jlsw, List.length_cons, List.length_nil, true_and, and_true, true_implies, false_implies, implies_true, not_true_eq_false, not_false_eq_true, false_and, and_false, if_true, if_false, or_true, true_or, or_false, false_or, Classical.not_not, and_self, Int.reduceAdd, Int.reduceMul, Int.reduceSub, Int.reduceNeg, Int.reduceLT, Int.reduceLE, Int.reduceEq, Int.reduceNe, Int.reduceToNat, Nat.reduceAdd, Nat.reduceMul, Nat.reduceSub, Nat.reduceLeDiff, Nat.reduceLT, Nat.reduceEqDiff, reduceIte, Nat.zero_le, Nat.le_refl, Nat.add_zero, Nat.zero_add, xwT hT, xwV hV]
  refine ⟨0, 0, ⟨by omega, by omega⟩, xw_choose hT hV hC ⟨fun hs w hw e23 hO => ?_, fun hs w hw e23 => ?_⟩⟩
  · have sm := setC_m h0 hs
    have hCw := hw.ci hC
    have hV0 := hV
    have hV := hw.pv
    simp (disch := (first | decide | omega)) only [jxs, hps, jtsw, jlsw, List.length_cons, List.length_nil, true_and, and_true, true_implies, false_implies, implies_true, not_true_eq_false, not_false_eq_true, false_and, and_false, if_true, if_false, or_true, true_or, or_false, false_or, Classical.not_not, and_self, Int.reduceAdd, Int.reduceMul, Int.reduceSub, Int.reduceNeg, Int.reduceLT, Int.reduceLE, Int.reduceEq, Int.reduceNe, Int.reduceToNat, Nat.reduceAdd, Nat.reduceMul, Nat.reduceSub, Nat.reduceLeDiff, Nat.reduceLT, Nat.reduceEqDiff, reduceIte, Nat.zero_le, Nat.le_refl, Nat.add_zero, Nat.zero_add, xwT hT, xwV hV]
    refine ⟨0, 0, ⟨by omega, by omega⟩, xw_laysChange hT hV hCw ?_⟩
    intro u hu hB
    have hVw := hV
    have hV := hu.pv hVw
    have hCu := hu.ci hCw
    have ju := hw.tr (hu.K hVw)
    have hOu : CHO u (elZ (A 0) s).2 (elZ (A 0) s).1 := hO.fr (by rw [hu.1 400 (by omega) (by omega)]) (hu.1 526 (by omega) (by omega))
    unfold nvrA tbS at hQ
    rw [if_pos hs] at hQ
    have rn := elZ_RN (s := s) h0.1
    have mn := elZ_MON (s := s) h0.1
    generalize (elZ (A 0) s).2 = m at *
    generalize (elZ (A 0) s).1 = el at *
    have hf := fac_bd sm.2.2.2
    rw [nvF_bs (ldJ_LD sm.2.2) (fac m).toNat 0 (by omega) (by omega)] at hQ
    simp (disch := (first | decide | omega)) only [jxs, hps, jtsw, jlsw, List.length_cons, List.length_nil, true_and, and_true, true_implies, false_implies, implies_true, not_true_eq_false, not_false_eq_true, false_and, and_false, if_true, if_false, or_true, true_or, or_false, false_or, Classical.not_not, and_self, Int.reduceAdd, Int.reduceMul, Int.reduceSub, Int.reduceNeg, Int.reduceLT, Int.reduceLE, Int.reduceEq, Int.reduceNe, Int.reduceToNat, Nat.reduceAdd, Nat.reduceMul, Nat.reduceSub, Nat.reduceLeDiff, Nat.reduceLT, Nat.reduceEqDiff, reduceIte, Nat.zero_le, Nat.le_refl, Nat.add_zero, Nat.zero_add, xwT hT, xwV hV]
    refine ⟨0, 0, ⟨by omega, by omega⟩, xw_leadTo (A := A) (X := X) (el := el) hT hV hOu ⟨sm.2.2, mn, rn, h0⟩ hB ?_⟩
    intro x hx
    have jx := ju.tr (jkK.o27 hV hCu.nm hx)
    have hV := jx.pv
    simp (disch := (first | decide | omega)) only [jxs, hps, jtsw, jlsw, List.length_cons, List.length_nil, true_and, and_true, true_implies, false_implies, implies_true, not_true_eq_false, not_false_eq_true, false_and, and_false, if_true, if_false, or_true, true_or, or_false, false_or, Classical.not_not, and_self, Int.reduceAdd, Int.reduceMul, Int.reduceSub, Int.reduceNeg, Int.reduceLT, Int.reduceLE, Int.reduceEq, Int.reduceNe, Int.reduceToNat, Nat.reduceAdd, Nat.reduceMul, Nat.reduceSub, Nat.reduceLeDiff, Nat.reduceLT, Nat.reduceEqDiff, reduceIte, Nat.zero_le, Nat.le_refl, Nat.add_zero, Nat.zero_add, xwT hT, xwV hV]
    (repeat (refine And.intro (by (first | omega | assumption | trivial | (simp only [inI]; omega) | (simp only [inL]; omega) | (refine jb_01) | (exact jb_in))) ?_))
    exact hQ x jx
  · have hV := hw.pv
    unfold nvrA at hQ
    rw [if_neg hs] at hQ
    simp (disch := (first | decide | omega)) only [jxs, hps, jtsw, jlsw, List.length_cons, List.length_nil, true_and, and_true, true_implies, false_implies, implies_true, not_true_eq_false, not_false_eq_true, false_and, and_false, if_true, if_false, or_true, true_or, or_false, false_or, Classical.not_not, and_self, Int.reduceAdd, Int.reduceMul, Int.reduceSub, Int.reduceNeg, Int.reduceLT, Int.reduceLE, Int.reduceEq, Int.reduceNe, Int.reduceToNat, Nat.reduceAdd, Nat.reduceMul, Nat.reduceSub, Nat.reduceLeDiff, Nat.reduceLT, Nat.reduceEqDiff, reduceIte, Nat.zero_le, Nat.le_refl, Nat.add_zero, Nat.zero_add, xwT hT, xwV hV]
    (repeat (refine And.intro (by (first | omega | assumption | trivial | (simp only [inI]; omega) | (simp only [inL]; omega) | (refine jb_01) | (exact jb_in))) ?_))
    exact hQ w hw
theorem xw_trb_2 {n N : Int} (hT : PT T) (hN : 0 ≤ N ∧ N ≤ 10) (h0 : A 0 = N) (hn : 2 ≤ n ∧ n ≤ 5) : ∀ (r : Nat) (s : Int) (v : Int → Int → Int), PV v → CI (v, T) A X → CHB (v 523) A X → 1 ≤ s → s + r = 2 ^ N.toNat →
    (∀ u, jkK v u → CHB (u 523) A X → (trF2 A X n r s < 0 → jW bX0_trouble (g, d + 113, 0, 0, Q) 1 [some (vR 400), some (vI (n + 1)), none] [] (u, T) 0 0) ∧ (0 ≤ trF2 A X n r s → Q (.inl (some (vI (trF2 A X n r s)))) (u, T))) →
    jW bX0_trouble (g, d + 113, 0, 0, Q) 2 [some (vR 400), some (vI n), some (vI s)] [] (v, T) 0 0 := by
  have p := pow_bd hN
  intro r
  induction r with
  | zero =>
    intro s v hV hC hB hs hr hQ
    unfold trF2 at hQ
    have a0 : v 402 0 = N := by rw [← h0]; exact hC.n0
    refine jW_step ?_
    simp (disch := (first | decide | omega)) only [bX0_trouble, jxs, hps, jtsw, jlsw, List.length_cons, List.length_nil, true_and, and_true, true_implies, false_implies, implies_true, not_true_eq_false, not_false_eq_true, false_and, and_false, if_true, if_false, or_true, true_or, or_false, false_or, Classical.not_not, and_self, Int.reduceAdd, Int.reduceMul, Int.reduceSub, Int.reduceNeg, Int.reduceLT, Int.reduceLE, Int.reduceEq, Int.reduceNe, Int.reduceToNat, Nat.reduceAdd, Nat.reduceMul, Nat.reduceSub, Nat.reduceLeDiff, Nat.reduceLT, Nat.reduceEqDiff, reduceIte, Nat.zero_le, Nat.le_refl, Nat.add_zero, Nat.zero_add, xwT hT, xwV hV, a0]
    (repeat (refine And.intro (by (first | omega | assumption | trivial | (simp only [inI]; omega) | (simp only [inL]; omega) | (refine jb_01) | (exact jb_in))) ?_))
    rw [jshl_1 hN.1 (by omega)]
    (try refine ⟨fun _ => ?_, fun h9 => (by exfalso; omega)⟩)
    (repeat (refine And.intro (by (first | omega | assumption | trivial | (simp only [inI]; omega) | (simp only [inL]; omega) | (refine jb_01) | (exact jb_in))) ?_))
    exact jW_sub (by simp [jsub]) ((hQ v (jkK.rf hV hC.nm) hB).1 (by omega))
  | succ r ih =>
    intro s v hV hC hB hs hr hQ
    unfold trF2 at hQ
    have a0 : v 402 0 = N := by rw [← h0]; exact hC.n0
    have h00 := hC.tb.1
    have bb := bc_bd (s := s)
    have k3 : ∀ w, jkK v w → CHB (w 523) A X → (∀ u, jkK w u → CHB (u 523) A X → (trF2 A X n r (s + 1) < 0 → jW bX0_trouble (g, d + 113, 0, 0, Q) 1 [some (vR 400), some (vI (n + 1)), none] [] (u, T) 0 0) ∧ (0 ≤ trF2 A X n r (s + 1) → Q (.inl (some (vI (trF2 A X n r (s + 1))))) (u, T))) → jW bX0_trouble (g, d + 113, 0, 0, Q) 3 [some (vR 400), some (vI n), some (vI s)] [] (w, T) 0 0 := by
      intro w hw hBw hq
      have hV := hw.pv
      refine jW_step ?_
      simp (disch := (first | decide | omega)) only [bX0_trouble, jxs, hps, jtsw, jlsw, List.length_cons, List.length_nil, true_and, and_true, true_implies, false_implies, implies_true, not_true_eq_false, not_false_eq_true, false_and, and_false, if_true, if_false, or_true, true_or, or_false, false_or, Classical.not_not, and_self, Int.reduceAdd, Int.reduceMul, Int.reduceSub, Int.reduceNeg, Int.reduceLT, Int.reduceLE, Int.reduceEq, Int.reduceNe, Int.reduceToNat, Nat.reduceAdd, Nat.reduceMul, Nat.reduceSub, Nat.reduceLeDiff, Nat.reduceLT, Nat.reduceEqDiff, reduceIte, Nat.zero_le, Nat.le_refl, Nat.add_zero, Nat.zero_add, xwT hT, xwV hV]
      (repeat (refine And.intro (by (first | omega | assumption | trivial | (simp only [inI]; omega) | (simp only [inL]; omega) | (refine jb_01) | (exact jb_in))) ?_))
      exact ih (s + 1) w hV (hw.ci hC) hBw (by omega) (by omega) hq
    refine jW_step ?_
    simp (disch := (first | decide | omega)) only [bX0_trouble, jxs, hps, jtsw, jlsw, List.length_cons, List.length_nil, true_and, and_true, true_implies, false_implies, implies_true, not_true_eq_false, not_false_eq_true, false_and, and_false, if_true, if_false, or_true, true_or, or_false, false_or, Classical.not_not, and_self, Int.reduceAdd, Int.reduceMul, Int.reduceSub, Int.reduceNeg, Int.reduceLT, Int.reduceLE, Int.reduceEq, Int.reduceNe, Int.reduceToNat, Nat.reduceAdd, Nat.reduceMul, Nat.reduceSub, Nat.reduceLeDiff, Nat.reduceLT, Nat.reduceEqDiff, reduceIte, Nat.zero_le, Nat.le_refl, Nat.add_zero, Nat.zero_add, xwT hT, xwV hV, a0]
    (repeat (refine And.intro (by (first | omega | assumption | trivial | (simp only [inI]; omega) | (simp only [inL]; omega) | (refine jb_01) | (exact jb_in))) ?_))
    rw [jshl_1 hN.1 (by omega)]
    (first | refine ⟨fun h9 => (by exfalso; omega), fun _ => ?_⟩ | intro _)
    refine ⟨0, 0, ⟨by omega, by omega⟩, xj_bitCount (by omega) ?_⟩
    simp (disch := (first | decide | omega)) only [jxs, hps, jtsw, jlsw, List.length_cons, List.length_nil, true_and, and_true, true_implies, false_implies, implies_true, not_true_eq_false, not_false_eq_true, false_and, and_false, if_true, if_false, or_true, true_or, or_false, false_or, Classical.not_not, and_self, Int.reduceAdd, Int.reduceMul, Int.reduceSub, Int.reduceNeg, Int.reduceLT, Int.reduceLE, Int.reduceEq, Int.reduceNe, Int.reduceToNat, Nat.reduceAdd, Nat.reduceMul, Nat.reduceSub, Nat.reduceLeDiff, Nat.reduceLT, Nat.reduceEqDiff, reduceIte, Nat.zero_le, Nat.le_refl, Nat.add_zero, Nat.zero_add, xwT hT, xwV hV]
    refine ⟨fun h => ?_, fun h => ?_⟩
    · rw [if_neg h] at hQ
      exact k3 v (jkK.rf hV hC.nm) hB hQ
    · have h' : bc s = n := by omega
      rw [if_pos h'] at hQ
      have hs : ((1 ≤ s ∧ s ≤ 2 ^ (A 0).toNat - 1) ∧ bc s ≤ 6) := ⟨by rw [h0]; omega, by omega⟩
      have sm := setC_m h00 hs
      refine ⟨0, 0, ⟨by omega, by omega⟩, xw_choose hT hV hC ⟨fun _ w hw e23 hO => ?_, fun hs2 w hw e23 => absurd hs hs2⟩⟩
      have hV0 := hV
      have hV := hw.pv
      have hCw := hw.ci hC
      have hBw : CHB (w 523) A X := by rw [e23]; exact hB
      simp (disch := (first | decide | omega)) only [jxs, hps, jtsw, jlsw, List.length_cons, List.length_nil, true_and, and_true, true_implies, false_implies, implies_true, not_true_eq_false, not_false_eq_true, false_and, and_false, if_true, if_false, or_true, true_or, or_false, false_or, Classical.not_not, and_self, Int.reduceAdd, Int.reduceMul, Int.reduceSub, Int.reduceNeg, Int.reduceLT, Int.reduceLE, Int.reduceEq, Int.reduceNe, Int.reduceToNat, Nat.reduceAdd, Nat.reduceMul, Nat.reduceSub, Nat.reduceLeDiff, Nat.reduceLT, Nat.reduceEqDiff, reduceIte, Nat.zero_le, Nat.le_refl, Nat.add_zero, Nat.zero_add, xwT hT, xwV hV]
      refine ⟨0, 0, ⟨by omega, by omega⟩, xw_isTrouble (A := A) (X := X) (el := (elZ (A 0) s).1) hT hV hO ⟨sm.2.2, elZ_MON h00.1, elZ_RN h00.1, h00⟩ hBw ?_⟩
      intro x hx
      have jx := hw.tr (jkK.o27 hV hCw.nm hx)
      have hBx : CHB (x 523) A X := by rw [hx 523 (by omega)]; exact hBw
      have eh : hnF (ldJ (tbE (tbl A X) (elZ (A 0) s).1) (elZ (A 0) s).2) (clE (tbE (tbl A X) (elZ (A 0) s).1) (elZ (A 0) s).2) (fac (elZ (A 0) s).2) (fac (elZ (A 0) s).2).toNat 0 = hnS A X s := rfl
      rw [eh]
      have hV := jx.pv
      simp (disch := (first | decide | omega)) only [jxs, hps, jtsw, jlsw, List.length_cons, List.length_nil, true_and, and_true, true_implies, false_implies, implies_true, not_true_eq_false, not_false_eq_true, false_and, and_false, if_true, if_false, or_true, true_or, or_false, false_or, Classical.not_not, and_self, Int.reduceAdd, Int.reduceMul, Int.reduceSub, Int.reduceNeg, Int.reduceLT, Int.reduceLE, Int.reduceEq, Int.reduceNe, Int.reduceToNat, Nat.reduceAdd, Nat.reduceMul, Nat.reduceSub, Nat.reduceLeDiff, Nat.reduceLT, Nat.reduceEqDiff, reduceIte, Nat.zero_le, Nat.le_refl, Nat.add_zero, Nat.zero_add, xwT hT, xwV hV]
      refine ⟨fun h2 => ?_, fun h2 => ?_⟩
      · rw [if_pos h2] at hQ
        exact k3 x jx hBx (fun u hu hBu => hQ u (jx.tr hu) hBu)
      · rw [if_neg h2] at hQ
        (repeat (refine And.intro (by (first | omega | assumption | trivial | (simp only [inI]; omega) | (simp only [inL]; omega) | (refine jb_01) | (exact jb_in))) ?_))
        exact (hQ x jx hBx).2 (by omega)
theorem xw_trb_1 {N : Int} (hT : PT T) (hN : 0 ≤ N ∧ N ≤ 10) (h0 : A 0 = N) : ∀ (r : Nat) (n : Int) (v : Int → Int → Int), PV v → CI (v, T) A X → CHB (v 523) A X → 2 ≤ n → n + r = 6 →
    (∀ u, jkK v u → Q (.inl (some (vI (trF1 A X r n)))) (u, T)) →
    jW bX0_trouble (g, d + 113, 0, 0, Q) 1 [some (vR 400), some (vI n), none] [] (v, T) 0 0 := by
  have p := pow_bd hN
  intro r
  induction r with
  | zero =>
    intro n v hV hC hB hn hr hQ
    unfold trF1 at hQ
    refine jW_step ?_
    simp (disch := (first | decide | omega)) only [bX0_trouble, jxs, hps, jtsw, jlsw, List.length_cons, List.length_nil, true_and, and_true, true_implies, false_implies, implies_true, not_true_eq_false, not_false_eq_true, false_and, and_false, if_true, if_false, or_true, true_or, or_false, false_or, Classical.not_not, and_self, Int.reduceAdd, Int.reduceMul, Int.reduceSub, Int.reduceNeg, Int.reduceLT, Int.reduceLE, Int.reduceEq, Int.reduceNe, Int.reduceToNat, Nat.reduceAdd, Nat.reduceMul, Nat.reduceSub, Nat.reduceLeDiff, Nat.reduceLT, Nat.reduceEqDiff, reduceIte, Nat.zero_le, Nat.le_refl, Nat.add_zero, Nat.zero_add, xwT hT, xwV hV]
    (try refine ⟨fun _ => ?_, fun h9 => (by exfalso; omega)⟩)
    (repeat (refine And.intro (by (first | omega | assumption | trivial | (simp only [inI]; omega) | (simp only [inL]; omega) | (refine jb_01) | (exact jb_in))) ?_))
    exact hQ v (jkK.rf hV hC.nm)
  | succ r ih =>
    intro n v hV hC hB hn hr hQ
    unfold trF1 at hQ
    have e0 : trF2 A X n (2 ^ (A 0).toNat : Int).toNat 0 = trF2 A X n (2 ^ N.toNat - 1 : Int).toNat 1 := by
      rw [h0, show (2 ^ N.toNat : Int).toNat = (2 ^ N.toNat - 1 : Int).toNat + 1 by omega]
      show (if bc 0 = n then _ else _) = _
      have b0 : bc 0 = 0 := by decide +kernel
      rw [b0, if_neg (by omega)]
      rfl
    rw [e0] at hQ
    refine jW_step ?_
    simp (disch := (first | decide | omega)) only [bX0_trouble, jxs, hps, jtsw, jlsw, List.length_cons, List.length_nil, true_and, and_true, true_implies, false_implies, implies_true, not_true_eq_false, not_false_eq_true, false_and, and_false, if_true, if_false, or_true, true_or, or_false, false_or, Classical.not_not, and_self, Int.reduceAdd, Int.reduceMul, Int.reduceSub, Int.reduceNeg, Int.reduceLT, Int.reduceLE, Int.reduceEq, Int.reduceNe, Int.reduceToNat, Nat.reduceAdd, Nat.reduceMul, Nat.reduceSub, Nat.reduceLeDiff, Nat.reduceLT, Nat.reduceEqDiff, reduceIte, Nat.zero_le, Nat.le_refl, Nat.add_zero, Nat.zero_add, xwT hT, xwV hV]
    (first | refine ⟨fun h9 => (by exfalso; omega), fun _ => ?_⟩ | intro _)
    refine xw_trb_2 (A := A) (X := X) hT hN h0 (by omega) (2 ^ N.toNat - 1 : Int).toNat 1 v hV hC hB (by omega) (by omega) ?_
    intro u hu hBu
    refine ⟨fun q => ?_, fun q => ?_⟩
    · rw [if_pos q] at hQ
      exact ih (n + 1) u hu.pv (hu.ci hC) hBu (by omega) (by omega) (fun y hy => hQ y (hu.tr hy))
    · rw [if_neg (by omega)] at hQ
      exact hQ u hu
theorem xw_trouble {v : Int → Int → Int} (hT : PT T) (hV : PV v) (hC : CI (v, T) A X) (hQ : ∀ w, jkK v w → Q (.inl (some (vI (trbA A X)))) (w, T)) : jmet g (d + 114) 0 0 MX0_trouble [vR 400] (v, T) Q := by
  have h0 := hC.tb.1
  refine jmet_of (ls := [some (vR 400), none, none]) sX0_trouble rfl (by decide +kernel) (by decide) rfl (by simp [jent]) ?_
  refine jW_step ?_
  simp (disch := (first | decide | omega)) only [bX0_trouble, jxs, hps, jtsw, jlsw, List.length_cons, List.length_nil, true_and, and_true, true_implies, false_implies, implies_true, not_true_eq_false, not_false_eq_true, false_and, and_false, if_true, if_false, or_true, true_or, or_false, false_or, Classical.not_not, and_self, Int.reduceAdd, Int.reduceMul, Int.reduceSub, Int.reduceNeg, Int.reduceLT, Int.reduceLE, Int.reduceEq, Int.reduceNe, Int.reduceToNat, Nat.reduceAdd, Nat.reduceMul, Nat.reduceSub, Nat.reduceLeDiff, Nat.reduceLT, Nat.reduceEqDiff, reduceIte, Nat.zero_le, Nat.le_refl, Nat.add_zero, Nat.zero_add, xwT hT, xwV hV]
  refine ⟨0, 0, ⟨by omega, by omega⟩, xw_laysChange hT hV hC ?_⟩
  intro u hu hB
  have hV0 := hV
  have hV := hu.pv hV0
  simp (disch := (first | decide | omega)) only [jxs, hps, jtsw, jlsw, List.length_cons, List.length_nil, true_and, and_true, true_implies, false_implies, implies_true, not_true_eq_false, not_false_eq_true, false_and, and_false, if_true, if_false, or_true, true_or, or_false, false_or, Classical.not_not, and_self, Int.reduceAdd, Int.reduceMul, Int.reduceSub, Int.reduceNeg, Int.reduceLT, Int.reduceLE, Int.reduceEq, Int.reduceNe, Int.reduceToNat, Nat.reduceAdd, Nat.reduceMul, Nat.reduceSub, Nat.reduceLeDiff, Nat.reduceLT, Nat.reduceEqDiff, reduceIte, Nat.zero_le, Nat.le_refl, Nat.add_zero, Nat.zero_add, xwT hT, xwV hV]
  exact xw_trb_1 (A := A) (X := X) hT h0 rfl 4 2 u hV (hu.ci hC) hB (by omega) (by omega) (fun y hy => hQ y ((hu.K hV0).tr hy))
theorem xw_ir_2 {p m : Int} {el w : Int → Int} {v : Int → Int → Int} (hT : PT T) (hV : PV v) (h0 : 0 ≤ A 0 ∧ A 0 ≤ 10) (hB : CHB (v 523) A X) (hv : v 400 13 = m) (hm : 0 ≤ m ∧ m ≤ 6) (hR : RN el m (A 0)) (hE : EQm m (v 527) (fun q => el (w q))) (hw : ∀ i, 0 ≤ i → i < m → 0 ≤ w i ∧ w i < m) (hp : 0 ≤ p ∧ p < m) : ∀ (r : Nat) (q : Int), p < q → m = q + r →
    (rk2 (tbE (tbl A X) el) w p r q = 0 → Q (.inl (some (vI 0))) (v, T)) → (¬ rk2 (tbE (tbl A X) el) w p r q = 0 → jW bX0_isRank (g, d + 1, 0, 0, Q) 1 [some (vR 400), some (vI (p + 1)), none] [] (v, T) 0 0) →
    jW bX0_isRank (g, d + 1, 0, 0, Q) 2 [some (vR 400), some (vI p), some (vI q)] [] (v, T) 0 0 := by
  intro r
  induction r with
  | zero =>
    intro q hq hr hN hY
    unfold rk2 at hY
    refine jW_step ?_
    simp (disch := (first | decide | omega)) only [bX0_isRank, jxs, hps, jtsw, jlsw, List.length_cons, List.length_nil, true_and, and_true, true_implies, false_implies, implies_true, not_true_eq_false, not_false_eq_true, false_and, and_false, if_true, if_false, or_true, true_or, or_false, false_or, Classical.not_not, and_self, Int.reduceAdd, Int.reduceMul, Int.reduceSub, Int.reduceNeg, Int.reduceLT, Int.reduceLE, Int.reduceEq, Int.reduceNe, Int.reduceToNat, Nat.reduceAdd, Nat.reduceMul, Nat.reduceSub, Nat.reduceLeDiff, Nat.reduceLT, Nat.reduceEqDiff, reduceIte, Nat.zero_le, Nat.le_refl, Nat.add_zero, Nat.zero_add, xwT hT, xwV hV, hv]
    (try refine ⟨fun _ => ?_, fun h9 => (by exfalso; omega)⟩)
    (repeat (refine And.intro (by (first | omega | assumption | trivial | (simp only [inI]; omega) | (simp only [inL]; omega) | (refine jb_01) | (exact jb_in))) ?_))
    exact jW_sub (by simp [jsub]) (hY (by omega))
  | succ r ih =>
    intro q hq hr hN hY
    have wp := hw p hp.1 hp.2
    have wq := hw q (by omega) (by omega)
    have ep := hE p hp.1 hp.2
    have eq := hE q (by omega) (by omega)
    have rp := hR (w p) wp.1 wp.2
    have rq := hR (w q) wq.1 wq.2
    dsimp only at ep eq
    unfold rk2 at hN hY
    rw [tbE_at (by omega), tbE_at (by omega), tbl_at (by omega), tbl_at (by omega)] at hN hY
    have k3 : Q (.inl (some (vI 0))) (v, T) → jW bX0_isRank (g, d + 1, 0, 0, Q) 3 [some (vR 400), some (vI p), some (vI q)] [] (v, T) 0 0 := by
      intro hx
      refine jW_step ?_
      simp (disch := (first | decide | omega)) only [bX0_isRank, jxs, hps, jtsw, jlsw, List.length_cons, List.length_nil, true_and, and_true, true_implies, false_implies, implies_true, not_true_eq_false, not_false_eq_true, false_and, and_false, if_true, if_false, or_true, true_or, or_false, false_or, Classical.not_not, and_self, Int.reduceAdd, Int.reduceMul, Int.reduceSub, Int.reduceNeg, Int.reduceLT, Int.reduceLE, Int.reduceEq, Int.reduceNe, Int.reduceToNat, Nat.reduceAdd, Nat.reduceMul, Nat.reduceSub, Nat.reduceLeDiff, Nat.reduceLT, Nat.reduceEqDiff, reduceIte, Nat.zero_le, Nat.le_refl, Nat.add_zero, Nat.zero_add, xwT hT, xwV hV]
      (repeat (refine And.intro (by (first | omega | assumption | trivial | (simp only [inI]; omega) | (simp only [inL]; omega) | (refine jb_01) | (exact jb_in))) ?_))
      exact hx
    refine jW_step ?_
    simp (disch := (first | decide | omega)) only [bX0_isRank, jxs, hps, jtsw, jlsw, List.length_cons, List.length_nil, true_and, and_true, true_implies, false_implies, implies_true, not_true_eq_false, not_false_eq_true, false_and, and_false, if_true, if_false, or_true, true_or, or_false, false_or, Classical.not_not, and_self, Int.reduceAdd, Int.reduceMul, Int.reduceSub, Int.reduceNeg, Int.reduceLT, Int.reduceLE, Int.reduceEq, Int.reduceNe, Int.reduceToNat, Nat.reduceAdd, Nat.reduceMul, Nat.reduceSub, Nat.reduceLeDiff, Nat.reduceLT, Nat.reduceEqDiff, reduceIte, Nat.zero_le, Nat.le_refl, Nat.add_zero, Nat.zero_add, xwT hT, xwV hV, hv]
    (first | refine ⟨fun h9 => (by exfalso; omega), fun _ => ?_⟩ | intro _)
    (repeat (refine And.intro (by (first | omega | assumption | trivial | (simp only [inI]; omega) | (simp only [inL]; omega) | (refine jb_01) | (exact jb_in))) ?_))
    rw [ep, eq]
    refine ⟨0, 0, ⟨by omega, by omega⟩, xw_doChange (A := A) (X := X) hT hV h0 hB ⟨rp, rq⟩ ?_⟩
    simp (disch := (first | decide | omega)) only [jxs, hps, jtsw, jlsw, List.length_cons, List.length_nil, true_and, and_true, true_implies, false_implies, implies_true, not_true_eq_false, not_false_eq_true, false_and, and_false, if_true, if_false, or_true, true_or, or_false, false_or, Classical.not_not, and_self, Int.reduceAdd, Int.reduceMul, Int.reduceSub, Int.reduceNeg, Int.reduceLT, Int.reduceLE, Int.reduceEq, Int.reduceNe, Int.reduceToNat, Nat.reduceAdd, Nat.reduceMul, Nat.reduceSub, Nat.reduceLeDiff, Nat.reduceLT, Nat.reduceEqDiff, reduceIte, Nat.zero_le, Nat.le_refl, Nat.add_zero, Nat.zero_add, xwT hT, xwV hV]
    refine ⟨fun h => ?_, fun h => ?_⟩
    · rw [if_neg h] at hN
      exact k3 (hN rfl)
    · rw [if_pos (by omega)] at hN hY
      (repeat (refine And.intro (by (first | omega | assumption | trivial | (simp only [inI]; omega) | (simp only [inL]; omega) | (refine jb_01) | (exact jb_in))) ?_))
      rw [ep, eq]
      refine ⟨0, 0, ⟨by omega, by omega⟩, xw_doChange (A := A) (X := X) hT hV h0 hB ⟨rq, rp⟩ ?_⟩
      simp (disch := (first | decide | omega)) only [jxs, hps, jtsw, jlsw, List.length_cons, List.length_nil, true_and, and_true, true_implies, false_implies, implies_true, not_true_eq_false, not_false_eq_true, false_and, and_false, if_true, if_false, or_true, true_or, or_false, false_or, Classical.not_not, and_self, Int.reduceAdd, Int.reduceMul, Int.reduceSub, Int.reduceNeg, Int.reduceLT, Int.reduceLE, Int.reduceEq, Int.reduceNe, Int.reduceToNat, Nat.reduceAdd, Nat.reduceMul, Nat.reduceSub, Nat.reduceLeDiff, Nat.reduceLT, Nat.reduceEqDiff, reduceIte, Nat.zero_le, Nat.le_refl, Nat.add_zero, Nat.zero_add, xwT hT, xwV hV]
      refine ⟨fun h2 => ?_, fun h2 => ?_⟩
      · rw [if_neg h2] at hN hY
        (repeat (refine And.intro (by (first | omega | assumption | trivial | (simp only [inI]; omega) | (simp only [inL]; omega) | (refine jb_01) | (exact jb_in))) ?_))
        exact ih (q + 1) (by omega) (by omega) hN hY
      · rw [if_pos (by omega)] at hN
        exact k3 (hN rfl)
theorem xw_ir_1 {m : Int} {el w : Int → Int} {v : Int → Int → Int} (hT : PT T) (hV : PV v) (h0 : 0 ≤ A 0 ∧ A 0 ≤ 10) (hB : CHB (v 523) A X) (hv : v 400 13 = m) (hm : 0 ≤ m ∧ m ≤ 6) (hR : RN el m (A 0)) (hE : EQm m (v 527) (fun q => el (w q))) (hw : ∀ i, 0 ≤ i → i < m → 0 ≤ w i ∧ w i < m) : ∀ (r : Nat) (p : Int), 0 ≤ p → m = p + r →
    Q (.inl (some (vI (rk1 (tbE (tbl A X) el) w m r p)))) (v, T) →
    jW bX0_isRank (g, d + 1, 0, 0, Q) 1 [some (vR 400), some (vI p), none] [] (v, T) 0 0 := by
  intro r
  induction r with
  | zero =>
    intro p hp hr hQ
    unfold rk1 at hQ
    refine jW_step ?_
    simp (disch := (first | decide | omega)) only [bX0_isRank, jxs, hps, jtsw, jlsw, List.length_cons, List.length_nil, true_and, and_true, true_implies, false_implies, implies_true, not_true_eq_false, not_false_eq_true, false_and, and_false, if_true, if_false, or_true, true_or, or_false, false_or, Classical.not_not, and_self, Int.reduceAdd, Int.reduceMul, Int.reduceSub, Int.reduceNeg, Int.reduceLT, Int.reduceLE, Int.reduceEq, Int.reduceNe, Int.reduceToNat, Nat.reduceAdd, Nat.reduceMul, Nat.reduceSub, Nat.reduceLeDiff, Nat.reduceLT, Nat.reduceEqDiff, reduceIte, Nat.zero_le, Nat.le_refl, Nat.add_zero, Nat.zero_add, xwT hT, xwV hV, hv]
    (try refine ⟨fun _ => ?_, fun h9 => (by exfalso; omega)⟩)
    (repeat (refine And.intro (by (first | omega | assumption | trivial | (simp only [inI]; omega) | (simp only [inL]; omega) | (refine jb_01) | (exact jb_in))) ?_))
    exact hQ
  | succ r ih =>
    intro p hp hr hQ
    unfold rk1 at hQ
    refine jW_step ?_
    simp (disch := (first | decide | omega)) only [bX0_isRank, jxs, hps, jtsw, jlsw, List.length_cons, List.length_nil, true_and, and_true, true_implies, false_implies, implies_true, not_true_eq_false, not_false_eq_true, false_and, and_false, if_true, if_false, or_true, true_or, or_false, false_or, Classical.not_not, and_self, Int.reduceAdd, Int.reduceMul, Int.reduceSub, Int.reduceNeg, Int.reduceLT, Int.reduceLE, Int.reduceEq, Int.reduceNe, Int.reduceToNat, Nat.reduceAdd, Nat.reduceMul, Nat.reduceSub, Nat.reduceLeDiff, Nat.reduceLT, Nat.reduceEqDiff, reduceIte, Nat.zero_le, Nat.le_refl, Nat.add_zero, Nat.zero_add, xwT hT, xwV hV, hv]
    (first | refine ⟨fun h9 => (by exfalso; omega), fun _ => ?_⟩ | intro _)
    (repeat (refine And.intro (by (first | omega | assumption | trivial | (simp only [inI]; omega) | (simp only [inL]; omega) | (refine jb_01) | (exact jb_in))) ?_))
    refine xw_ir_2 (A := A) (X := X) (el := el) (w := w) hT hV h0 hB hv hm hR hE hw ⟨hp, by omega⟩ (m - p - 1).toNat (p + 1) (by omega) (by omega) (fun q => ?_) (fun q => ?_)
    · rw [if_pos q] at hQ
      exact hQ
    · rw [if_neg q] at hQ
      exact ih (p + 1) (by omega) (by omega) hQ
theorem xw_isRank {m n : Int} {el : Int → Int} {v : Int → Int → Int} (hT : PT T) (hV : PV v) (h0 : 0 ≤ A 0 ∧ A 0 ≤ 10) (hB : CHB (v 523) A X) (hv : v 400 13 = m) (hS : (0 ≤ m ∧ m ≤ 6) ∧ RN el m (A 0) ∧ (0 ≤ n ∧ n < fac m)) (hE : EQm m (v 527) (fun q => el (dec m n q))) (hQ : Q (.inl (some (vI (rkA (tbE (tbl A X) el) (dec m n) m)))) (v, T)) : jmet g (d + 2) 0 0 MX0_isRank [vR 400] (v, T) Q := by
  obtain ⟨hm, hR, hn⟩ := hS
  refine jmet_of (ls := [some (vR 400), none, none]) sX0_isRank rfl (by decide +kernel) (by decide) rfl (by simp [jent]) ?_
  refine jW_step ?_
  simp (disch := (first | decide | omega)) only [bX0_isRank, jxs, hps, jtsw, jlsw, List.length_cons, List.length_nil, true_and, and_true, true_implies, false_implies, implies_true, not_true_eq_false, not_false_eq_true, false_and, and_false, if_true, if_false, or_true, true_or, or_false, false_or, Classical.not_not, and_self, Int.reduceAdd, Int.reduceMul, Int.reduceSub, Int.reduceNeg, Int.reduceLT, Int.reduceLE, Int.reduceEq, Int.reduceNe, Int.reduceToNat, Nat.reduceAdd, Nat.reduceMul, Nat.reduceSub, Nat.reduceLeDiff, Nat.reduceLT, Nat.reduceEqDiff, reduceIte, Nat.zero_le, Nat.le_refl, Nat.add_zero, Nat.zero_add, xwT hT, xwV hV]
  exact xw_ir_1 (A := A) (X := X) (el := el) (w := dec m n) hT hV h0 hB hv hm hR hE (dec_PRM hm hn).1 m.toNat 0 (by omega) (by omega) hQ
theorem xw_rk_1 {s pl m : Int} {el : Int → Int} (hT : PT T) (hm : 0 ≤ m ∧ m ≤ 6) (hR : RN el m (A 0)) (h0 : 0 ≤ A 0 ∧ A 0 ≤ 10) (hp : 0 ≤ pl ∧ pl < m) : ∀ (r : Nat) (n : Int) (v : Int → Int → Int), PV v → CHB (v 523) A X → CHO v m el → 0 ≤ n → n + r = fac m →
    (∀ w, (∀ a, a ≠ 527 → w a = v a) → Q (.inl (some (vI (if rkF (tbE (tbl A X) el) m r n < 0 then -1 else el (dec m (rkF (tbE (tbl A X) el) m r n) pl))))) (w, T)) →
    jW bX0_rank (g, d + 113, 0, 0, Q) 2 [some (vR 400), some (vI s), some (vI pl), some (vI n)] [] (v, T) 0 0 := by
  have hf := fac_bd hm.2
  intro r
  induction r with
  | zero =>
    intro n v hV hB hO hn hr hQ
    unfold rkF at hQ
    rw [if_pos (by omega)] at hQ
    refine jW_step ?_
    simp (disch := (first | decide | omega)) only [bX0_rank, jxs, hps, jtsw, jlsw, List.length_cons, List.length_nil, true_and, and_true, true_implies, false_implies, implies_true, not_true_eq_false, not_false_eq_true, false_and, and_false, if_true, if_false, or_true, true_or, or_false, false_or, Classical.not_not, and_self, Int.reduceAdd, Int.reduceMul, Int.reduceSub, Int.reduceNeg, Int.reduceLT, Int.reduceLE, Int.reduceEq, Int.reduceNe, Int.reduceToNat, Nat.reduceAdd, Nat.reduceMul, Nat.reduceSub, Nat.reduceLeDiff, Nat.reduceLT, Nat.reduceEqDiff, reduceIte, Nat.zero_le, Nat.le_refl, Nat.add_zero, Nat.zero_add, xwT hT, xwV hV, hO.1]
    refine ⟨0, 0, ⟨by omega, by omega⟩, xw_rows hT hV hm ?_⟩
    simp (disch := (first | decide | omega)) only [jxs, hps, jtsw, jlsw, List.length_cons, List.length_nil, true_and, and_true, true_implies, false_implies, implies_true, not_true_eq_false, not_false_eq_true, false_and, and_false, if_true, if_false, or_true, true_or, or_false, false_or, Classical.not_not, and_self, Int.reduceAdd, Int.reduceMul, Int.reduceSub, Int.reduceNeg, Int.reduceLT, Int.reduceLE, Int.reduceEq, Int.reduceNe, Int.reduceToNat, Nat.reduceAdd, Nat.reduceMul, Nat.reduceSub, Nat.reduceLeDiff, Nat.reduceLT, Nat.reduceEqDiff, reduceIte, Nat.zero_le, Nat.le_refl, Nat.add_zero, Nat.zero_add, xwT hT, xwV hV]
    (try refine ⟨fun _ => ?_, fun h9 => (by exfalso; omega)⟩)
    (repeat (refine And.intro (by (first | omega | assumption | trivial | (simp only [inI]; omega) | (simp only [inL]; omega) | (refine jb_01) | (exact jb_in))) ?_))
    exact hQ v (fun _ _ => rfl)
  | succ r ih =>
    intro n v hV hB hO hn hr hQ
    unfold rkF at hQ
    have hk : 0 ≤ n ∧ n < fac m := by omega
    refine jW_step ?_
    simp (disch := (first | decide | omega)) only [bX0_rank, jxs, hps, jtsw, jlsw, List.length_cons, List.length_nil, true_and, and_true, true_implies, false_implies, implies_true, not_true_eq_false, not_false_eq_true, false_and, and_false, if_true, if_false, or_true, true_or, or_false, false_or, Classical.not_not, and_self, Int.reduceAdd, Int.reduceMul, Int.reduceSub, Int.reduceNeg, Int.reduceLT, Int.reduceLE, Int.reduceEq, Int.reduceNe, Int.reduceToNat, Nat.reduceAdd, Nat.reduceMul, Nat.reduceSub, Nat.reduceLeDiff, Nat.reduceLT, Nat.reduceEqDiff, reduceIte, Nat.zero_le, Nat.le_refl, Nat.add_zero, Nat.zero_add, xwT hT, xwV hV, hO.1]
    refine ⟨0, 0, ⟨by omega, by omega⟩, xw_rows hT hV hm ?_⟩
    simp (disch := (first | decide | omega)) only [jxs, hps, jtsw, jlsw, List.length_cons, List.length_nil, true_and, and_true, true_implies, false_implies, implies_true, not_true_eq_false, not_false_eq_true, false_and, and_false, if_true, if_false, or_true, true_or, or_false, false_or, Classical.not_not, and_self, Int.reduceAdd, Int.reduceMul, Int.reduceSub, Int.reduceNeg, Int.reduceLT, Int.reduceLE, Int.reduceEq, Int.reduceNe, Int.reduceToNat, Nat.reduceAdd, Nat.reduceMul, Nat.reduceSub, Nat.reduceLeDiff, Nat.reduceLT, Nat.reduceEqDiff, reduceIte, Nat.zero_le, Nat.le_refl, Nat.add_zero, Nat.zero_add, xwT hT, xwV hV]
    (first | refine ⟨fun h9 => (by exfalso; omega), fun _ => ?_⟩ | intro _)
    refine ⟨0, 0, ⟨by omega, by omega⟩, xw_laysOrder (el := el) hT hV hO ⟨hm, hk⟩ ?_⟩
    intro w w1 w2
    have hVw : PV w := hV.fr (fun a ha => w2 a (fun e => by subst e; revert ha; decide))
    have hOw : CHO w m el := hO.fr (by rw [w2 400 (by omega)]) (w2 526 (by omega))
    have hBw : CHB (w 523) A X := by rw [w2 523 (by omega)]; exact hB
    have hV0 := hV
    have hV := hVw
    simp (disch := (first | decide | omega)) only [jxs, hps, jtsw, jlsw, List.length_cons, List.length_nil, true_and, and_true, true_implies, false_implies, implies_true, not_true_eq_false, not_false_eq_true, false_and, and_false, if_true, if_false, or_true, true_or, or_false, false_or, Classical.not_not, and_self, Int.reduceAdd, Int.reduceMul, Int.reduceSub, Int.reduceNeg, Int.reduceLT, Int.reduceLE, Int.reduceEq, Int.reduceNe, Int.reduceToNat, Nat.reduceAdd, Nat.reduceMul, Nat.reduceSub, Nat.reduceLeDiff, Nat.reduceLT, Nat.reduceEqDiff, reduceIte, Nat.zero_le, Nat.le_refl, Nat.add_zero, Nat.zero_add, xwT hT, xwV hV]
    refine ⟨0, 0, ⟨by omega, by omega⟩, xw_isRank (A := A) (X := X) (el := el) (n := n) hT hV h0 hBw hOw.1 ⟨hm, hR, hk⟩ w1 ?_⟩
    simp (disch := (first | decide | omega)) only [jxs, hps, jtsw, jlsw, List.length_cons, List.length_nil, true_and, and_true, true_implies, false_implies, implies_true, not_true_eq_false, not_false_eq_true, false_and, and_false, if_true, if_false, or_true, true_or, or_false, false_or, Classical.not_not, and_self, Int.reduceAdd, Int.reduceMul, Int.reduceSub, Int.reduceNeg, Int.reduceLT, Int.reduceLE, Int.reduceEq, Int.reduceNe, Int.reduceToNat, Nat.reduceAdd, Nat.reduceMul, Nat.reduceSub, Nat.reduceLeDiff, Nat.reduceLT, Nat.reduceEqDiff, reduceIte, Nat.zero_le, Nat.le_refl, Nat.add_zero, Nat.zero_add, xwT hT, xwV hV]
    refine ⟨fun h => ?_, fun h => ?_⟩
    · rw [if_pos h] at hQ
      (repeat (refine And.intro (by (first | omega | assumption | trivial | (simp only [inI]; omega) | (simp only [inL]; omega) | (refine jb_01) | (exact jb_in))) ?_))
      exact ih (n + 1) w hVw hBw hOw (by omega) (by omega) (fun y hy => hQ y (fun a ha => (hy a ha).trans (w2 a ha)))
    · rw [if_neg h, if_neg (by omega)] at hQ
      (repeat (refine And.intro (by (first | omega | assumption | trivial | (simp only [inI]; omega) | (simp only [inL]; omega) | (refine jb_01) | (exact jb_in))) ?_))
      rw [w1 pl hp.1 hp.2]
      exact hQ w w2
theorem xw_rank {s pl : Int} {v : Int → Int → Int} (hT : PT T) (hV : PV v) (hC : CI (v, T) A X) (hQ : ∀ w, jkK v w → Q (.inl (some (vI (rnkA A X s pl)))) (w, T)) : jmet g (d + 114) 0 0 MX0_rank [vR 400, vI s, vI pl] (v, T) Q := by
  have h0 := hC.tb.1
  refine jmet_of (ls := [some (vR 400), some (vI s), some (vI pl), none]) sX0_rank rfl (by decide +kernel) (by decide) rfl (by simp [jent]) ?_
  have k1 : rnkA A X s pl = -1 → ∀ w, jkK v w → jW bX0_rank (g, d + 113, 0, 0, Q) 1 [some (vR 400), some (vI s), some (vI pl), none] [] (w, T) 0 0 := by
    intro e w hw
    rw [e] at hQ
    have hV := hw.pv
    refine jW_step ?_
    simp (disch := (first | decide | omega)) only [bX0_rank, jxs, hps, jtsw, jlsw, List.length_cons, List.length_nil, true_and, and_true, true_implies, false_implies, implies_true, not_true_eq_false, not_false_eq_true, false_and, and_false, if_true, if_false, or_true, true_or, or_false, false_or, Classical.not_not, and_self, Int.reduceAdd, Int.reduceMul, Int.reduceSub, Int.reduceNeg, Int.reduceLT, Int.reduceLE, Int.reduceEq, Int.reduceNe, Int.reduceToNat, Nat.reduceAdd, Nat.reduceMul, Nat.reduceSub, Nat.reduceLeDiff, Nat.reduceLT, Nat.reduceEqDiff, reduceIte, Nat.zero_le, Nat.le_refl, Nat.add_zero, Nat.zero_add, xwT hT, xwV hV]
    (repeat (refine And.intro (by (first | omega | assumption | trivial | (simp only [inI]; omega) | (simp only [inL]; omega) | (refine jb_01) | (exact jb_in))) ?_))
    exact hQ w hw
  refine jW_step ?_
  simp (disch := (first | decide | omega)) only [bX0_rank, jxs, hps, jtsw, jlsw, List.length_cons, List.length_nil, true_and, and_true, true_implies, false_implies, implies_true, not_true_eq_false, not_false_eq_true, false_and, and_false, if_true, if_false, or_true, true_or, or_false, false_or, Classical.not_not, and_self, Int.reduceAdd, Int.reduceMul, Int.reduceSub, Int.reduceNeg, Int.reduceLT, Int.reduceLE, Int.reduceEq, Int.reduceNe, Int.reduceToNat, Nat.reduceAdd, Nat.reduceMul, Nat.reduceSub, Nat.reduceLeDiff, Nat.reduceLT, Nat.reduceEqDiff, reduceIte, Nat.zero_le, Nat.le_refl, Nat.add_zero, Nat.zero_add, xwT hT, xwV hV]
  refine ⟨0, 0, ⟨by omega, by omega⟩, xw_choose hT hV hC ⟨fun hs w hw e23 hO => ?_, fun hs w hw e23 => ?_⟩⟩
  · have sm := setC_m h0 hs
    have hCw := hw.ci hC
    have hV0 := hV
    have hV := hw.pv
    simp (disch := (first | decide | omega)) only [jxs, hps, jtsw, jlsw, List.length_cons, List.length_nil, true_and, and_true, true_implies, false_implies, implies_true, not_true_eq_false, not_false_eq_true, false_and, and_false, if_true, if_false, or_true, true_or, or_false, false_or, Classical.not_not, and_self, Int.reduceAdd, Int.reduceMul, Int.reduceSub, Int.reduceNeg, Int.reduceLT, Int.reduceLE, Int.reduceEq, Int.reduceNe, Int.reduceToNat, Nat.reduceAdd, Nat.reduceMul, Nat.reduceSub, Nat.reduceLeDiff, Nat.reduceLT, Nat.reduceEqDiff, reduceIte, Nat.zero_le, Nat.le_refl, Nat.add_zero, Nat.zero_add, xwT hT, xwV hV, hO.1]
    (repeat (refine And.intro (by (first | omega | assumption | trivial | (simp only [inI]; omega) | (simp only [inL]; omega) | (refine jb_01) | (exact jb_in))) ?_))
    refine ⟨0, 0, ⟨by omega, by omega⟩, xw_in ?_⟩
    simp (disch := (first | decide | omega)) only [jxs, hps, jtsw, jlsw, List.length_cons, List.length_nil, true_and, and_true, true_implies, false_implies, implies_true, not_true_eq_false, not_false_eq_true, false_and, and_false, if_true, if_false, or_true, true_or, or_false, false_or, Classical.not_not, and_self, Int.reduceAdd, Int.reduceMul, Int.reduceSub, Int.reduceNeg, Int.reduceLT, Int.reduceLE, Int.reduceEq, Int.reduceNe, Int.reduceToNat, Nat.reduceAdd, Nat.reduceMul, Nat.reduceSub, Nat.reduceLeDiff, Nat.reduceLT, Nat.reduceEqDiff, reduceIte, Nat.zero_le, Nat.le_refl, Nat.add_zero, Nat.zero_add, xwT hT, xwV hV]
    refine ⟨fun h => ?_, fun h => ?_⟩
    · refine ⟨0, 0, ⟨by omega, by omega⟩, xw_laysChange hT hV hCw ?_⟩
      intro u hu hB
      have hVw := hV
      have hV := hu.pv hVw
      have hCu := hu.ci hCw
      have ju := hw.tr (hu.K hVw)
      have hOu : CHO u (elZ (A 0) s).2 (elZ (A 0) s).1 := hO.fr (by rw [hu.1 400 (by omega) (by omega)]) (hu.1 526 (by omega) (by omega))
      have qe : rnkA A X s pl = rnkS A X s pl := by
        unfold rnkA
        rw [if_pos hs, if_pos (by omega)]
      rw [qe] at hQ
      unfold rnkS tbS at hQ
      have rn := elZ_RN (s := s) h0.1
      have hf := fac_bd sm.2.2.2
      simp (disch := (first | decide | omega)) only [jxs, hps, jtsw, jlsw, List.length_cons, List.length_nil, true_and, and_true, true_implies, false_implies, implies_true, not_true_eq_false, not_false_eq_true, false_and, and_false, if_true, if_false, or_true, true_or, or_false, false_or, Classical.not_not, and_self, Int.reduceAdd, Int.reduceMul, Int.reduceSub, Int.reduceNeg, Int.reduceLT, Int.reduceLE, Int.reduceEq, Int.reduceNe, Int.reduceToNat, Nat.reduceAdd, Nat.reduceMul, Nat.reduceSub, Nat.reduceLeDiff, Nat.reduceLT, Nat.reduceEqDiff, reduceIte, Nat.zero_le, Nat.le_refl, Nat.add_zero, Nat.zero_add, xwT hT, xwV hV]
      refine xw_rk_1 (A := A) (X := X) hT sm.2.2 rn h0 ⟨h.1, by omega⟩ (fac (elZ (A 0) s).2).toNat 0 u hV hB hOu (by omega) (by omega) ?_
      intro y hy
      exact hQ y (ju.tr (jkK.o27 hV hCu.nm hy))
    · refine k1 ?_ w hw
      unfold rnkA
      rw [if_pos hs, if_neg (by omega)]
  · have hV := hw.pv
    simp (disch := (first | decide | omega)) only [jxs, hps, jtsw, jlsw, List.length_cons, List.length_nil, true_and, and_true, true_implies, false_implies, implies_true, not_true_eq_false, not_false_eq_true, false_and, and_false, if_true, if_false, or_true, true_or, or_false, false_or, Classical.not_not, and_self, Int.reduceAdd, Int.reduceMul, Int.reduceSub, Int.reduceNeg, Int.reduceLT, Int.reduceLE, Int.reduceEq, Int.reduceNe, Int.reduceToNat, Nat.reduceAdd, Nat.reduceMul, Nat.reduceSub, Nat.reduceLeDiff, Nat.reduceLT, Nat.reduceEqDiff, reduceIte, Nat.zero_le, Nat.le_refl, Nat.add_zero, Nat.zero_add, xwT hT, xwV hV]
    refine k1 ?_ w hw
    unfold rnkA
    exact if_neg hs
end XG
