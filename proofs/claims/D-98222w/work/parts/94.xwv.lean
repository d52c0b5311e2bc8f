/-! ===== the class: put ===== -/
-- MODE X
set_option maxRecDepth 100000
section XG
variable {g : jjG} {d : Nat} {T : jjT} {Q : jjQ} {A X : Int → Int} {v : Int → Int → Int}
theorem xw_put {b s p f : Int} (hT : PT T) (hV : PV v) (hC : CI (v, T) A X) (hS : SH A ∧ SI A ∧ TW A) (hQ : ∀ w, CI (w, T) (opPut A X f b s p).1 X → jkM v w → Q (.inl (some (vI (opPut A X f b s p).2.2))) (w, T)) : jmet g (d + 115) 0 0 MX0_put_2 [vR 400, vI b, vI s, vI p] (v, T) Q := by
  obtain ⟨hH, hI, hW⟩ := hS
  have hB := hC.tb
  have h0 := hB.1
  have h7 := hC.2.2.2.2.2.1
  unfold opPut at hQ
  have no : ¬ ((0 ≤ b ∧ b ≤ A 0 - 1) ∧ 3 ≤ A (46 + 6 * b + 5) ∧ (0 ≤ s ∧ s ≤ 2) ∧ (0 ≤ p ∧ p ≤ A (13 + s)) ∧ fuA A X s + thA A X b ≤ A (10 + s)) → ∀ u, jkq v u → jW bX0_put_2 (g, d + 114, 0, 0, Q) 1 [some (vR 400), some (vI b), some (vI s), some (vI p)] [] (u, T) 0 0 := by
    intro hh u hu
    rw [if_neg hh] at hQ
    have hVu := hu.pv hV
    have hV0 := hV
    have hV := hVu
    refine jW_step ?_
    simp (disch := (first | decide | omega)) only [bX0_put_2, jxs, hps, jtsw, jlsw, List.length_cons, List.length_nil, true_and, and_true, true_implies, false_implies, implies_true, not_true_eq_false, not_false_eq_true, false_and, and_false, if_true, if_false, or_true, true_or, or_false, false_or, Classical.not_not, and_self, Int.reduceAdd, Int.reduceMul, Int.reduceSub, Int.reduceNeg, Int.reduceLT, Int.reduceLE, Int.reduceEq, Int.reduceNe, Int.reduceToNat, Nat.reduceAdd, Nat.reduceMul, Nat.reduceSub, Nat.reduceLeDiff, Nat.reduceLT, Nat.reduceEqDiff, reduceIte, Nat.zero_le, Nat.le_refl, Nat.add_zero, Nat.zero_add, xwT hT, xwV hV]
    (repeat (refine And.intro (by (first | omega | assumption | trivial | (simp only [inI]; omega) | (simp only [inL]; omega) | (refine jb_01) | (exact jb_in))) ?_))
    exact hQ u (hu.ci hC) (hu.M hV0)
  refine jmet_of (ls := [some (vR 400), some (vI b), some (vI s), some (vI p)]) sX0_put_2 rfl (by decide +kernel) (by decide) rfl (by simp [jent]) ?_
  refine jW_step ?_
  simp (disch := (first | decide | omega)) only [bX0_put_2, jxs, hps, jtsw, jlsw, List.length_cons, List.length_nil, true_and, and_true, true_implies, false_implies, implies_true, not_true_eq_false, not_false_eq_true, false_and, and_false, if_true, if_false, or_true, true_or, or_false, false_or, Classical.not_not, and_self, Int.reduceAdd, Int.reduceMul, Int.reduceSub, Int.reduceNeg, Int.reduceLT, Int.reduceLE, Int.reduceEq, Int.reduceNe, Int.reduceToNat, Nat.reduceAdd, Nat.reduceMul, Nat.reduceSub, Nat.reduceLeDiff, Nat.reduceLT, Nat.reduceEqDiff, reduceIte, Nat.zero_le, Nat.le_refl, Nat.add_zero, Nat.zero_add, xwT hT, xwV hV]
  refine ⟨0, 0, ⟨by omega, by omega⟩, xw_isBook hT hV hC ?_⟩
  simp (disch := (first | decide | omega)) only [jxs, hps, jtsw, jlsw, List.length_cons, List.length_nil, true_and, and_true, true_implies, false_implies, implies_true, not_true_eq_false, not_false_eq_true, false_and, and_false, if_true, if_false, or_true, true_or, or_false, false_or, Classical.not_not, and_self, Int.reduceAdd, Int.reduceMul, Int.reduceSub, Int.reduceNeg, Int.reduceLT, Int.reduceLE, Int.reduceEq, Int.reduceNe, Int.reduceToNat, Nat.reduceAdd, Nat.reduceMul, Nat.reduceSub, Nat.reduceLeDiff, Nat.reduceLT, Nat.reduceEqDiff, reduceIte, Nat.zero_le, Nat.le_refl, Nat.add_zero, Nat.zero_add, xwT hT, xwV hV]
  refine ⟨fun h => ?_, fun h => ?_⟩
  · exact no (fun x => h x.1) v (jkq.rf hC.nm)
  have hb : 0 ≤ b ∧ b < A 0 := by omega
  have wb := hB.2.2.2.2.2.2 (46 + 6 * b + 5) (by omega) (by omega)
  refine ⟨0, 0, ⟨by omega, by omega⟩, xw_whereIs hT hV hC hb ?_⟩
  simp (disch := (first | decide | omega)) only [jxs, hps, jtsw, jlsw, List.length_cons, List.length_nil, true_and, and_true, true_implies, false_implies, implies_true, not_true_eq_false, not_false_eq_true, false_and, and_false, if_true, if_false, or_true, true_or, or_false, false_or, Classical.not_not, and_self, Int.reduceAdd, Int.reduceMul, Int.reduceSub, Int.reduceNeg, Int.reduceLT, Int.reduceLE, Int.reduceEq, Int.reduceNe, Int.reduceToNat, Nat.reduceAdd, Nat.reduceMul, Nat.reduceSub, Nat.reduceLeDiff, Nat.reduceLT, Nat.reduceEqDiff, reduceIte, Nat.zero_le, Nat.le_refl, Nat.add_zero, Nat.zero_add, xwT hT, xwV hV]
  refine ⟨fun h2 => ?_, fun h2 => ?_⟩
  · exact no (fun x => by omega) v (jkq.rf hC.nm)
  refine ⟨0, 0, ⟨by omega, by omega⟩, xw_isShelf ?_⟩
  simp (disch := (first | decide | omega)) only [jxs, hps, jtsw, jlsw, List.length_cons, List.length_nil, true_and, and_true, true_implies, false_implies, implies_true, not_true_eq_false, not_false_eq_true, false_and, and_false, if_true, if_false, or_true, true_or, or_false, false_or, Classical.not_not, and_self, Int.reduceAdd, Int.reduceMul, Int.reduceSub, Int.reduceNeg, Int.reduceLT, Int.reduceLE, Int.reduceEq, Int.reduceNe, Int.reduceToNat, Nat.reduceAdd, Nat.reduceMul, Nat.reduceSub, Nat.reduceLeDiff, Nat.reduceLT, Nat.reduceEqDiff, reduceIte, Nat.zero_le, Nat.le_refl, Nat.add_zero, Nat.zero_add, xwT hT, xwV hV]
  refine ⟨fun h3 => ?_, fun h3 => ?_⟩
  · exact no (fun x => h3 x.2.2.1) v (jkq.rf hC.nm)
  have hs : 0 ≤ s ∧ s < 3 := by omega
  have hm := hB.2.2.2.2.2.1 (13 + s) (by omega) (by omega)
  refine ⟨0, 0, ⟨by omega, by omega⟩, xw_many hT hV hC hs ?_⟩
  simp (disch := (first | decide | omega)) only [jxs, hps, jtsw, jlsw, List.length_cons, List.length_nil, true_and, and_true, true_implies, false_implies, implies_true, not_true_eq_false, not_false_eq_true, false_and, and_false, if_true, if_false, or_true, true_or, or_false, false_or, Classical.not_not, and_self, Int.reduceAdd, Int.reduceMul, Int.reduceSub, Int.reduceNeg, Int.reduceLT, Int.reduceLE, Int.reduceEq, Int.reduceNe, Int.reduceToNat, Nat.reduceAdd, Nat.reduceMul, Nat.reduceSub, Nat.reduceLeDiff, Nat.reduceLT, Nat.reduceEqDiff, reduceIte, Nat.zero_le, Nat.le_refl, Nat.add_zero, Nat.zero_add, xwT hT, xwV hV]
  refine ⟨0, 0, ⟨by omega, by omega⟩, xw_in ?_⟩
  simp (disch := (first | decide | omega)) only [jxs, hps, jtsw, jlsw, List.length_cons, List.length_nil, true_and, and_true, true_implies, false_implies, implies_true, not_true_eq_false, not_false_eq_true, false_and, and_false, if_true, if_false, or_true, true_or, or_false, false_or, Classical.not_not, and_self, Int.reduceAdd, Int.reduceMul, Int.reduceSub, Int.reduceNeg, Int.reduceLT, Int.reduceLE, Int.reduceEq, Int.reduceNe, Int.reduceToNat, Nat.reduceAdd, Nat.reduceMul, Nat.reduceSub, Nat.reduceLeDiff, Nat.reduceLT, Nat.reduceEqDiff, reduceIte, Nat.zero_le, Nat.le_refl, Nat.add_zero, Nat.zero_add, xwT hT, xwV hV]
  refine ⟨fun h4 => ?_, fun h4 => ?_⟩
  · exact no (fun x => h4 x.2.2.2.1) v (jkq.rf hC.nm)
  refine ⟨0, 0, ⟨by omega, by omega⟩, xw_fullOf hT hV hC hH hs ?_⟩
  intro u hu
  have hVu := hu.pv hV
  have hCu := hu.ci hC
  have fb := fuF_bd (X := X) hB hs (A (13 + s)).toNat (by omega)
  have fb2 : 0 ≤ fuA A X s ∧ fuA A X s ≤ 180 := by unfold fuA; omega
  have tb := thA_bd (X := X) hB (b := b) (by omega)
  have hV0 := hV
  have hV := hVu
  simp (disch := (first | decide | omega)) only [jxs, hps, jtsw, jlsw, List.length_cons, List.length_nil, true_and, and_true, true_implies, false_implies, implies_true, not_true_eq_false, not_false_eq_true, false_and, and_false, if_true, if_false, or_true, true_or, or_false, false_or, Classical.not_not, and_self, Int.reduceAdd, Int.reduceMul, Int.reduceSub, Int.reduceNeg, Int.reduceLT, Int.reduceLE, Int.reduceEq, Int.reduceNe, Int.reduceToNat, Nat.reduceAdd, Nat.reduceMul, Nat.reduceSub, Nat.reduceLeDiff, Nat.reduceLT, Nat.reduceEqDiff, reduceIte, Nat.zero_le, Nat.le_refl, Nat.add_zero, Nat.zero_add, xwT hT, xwV hV]
  refine ⟨0, 0, ⟨by omega, by omega⟩, xw_thickNow hT hVu hCu hb ?_⟩
  intro y hy
  have hVy := hy.pv hVu
  have hCy := hy.ci hCu
  have ew := hCy.w hs
  have hV := hVy
  simp (disch := (first | decide | omega)) only [jxs, hps, jtsw, jlsw, List.length_cons, List.length_nil, true_and, and_true, true_implies, false_implies, implies_true, not_true_eq_false, not_false_eq_true, false_and, and_false, if_true, if_false, or_true, true_or, or_false, false_or, Classical.not_not, and_self, Int.reduceAdd, Int.reduceMul, Int.reduceSub, Int.reduceNeg, Int.reduceLT, Int.reduceLE, Int.reduceEq, Int.reduceNe, Int.reduceToNat, Nat.reduceAdd, Nat.reduceMul, Nat.reduceSub, Nat.reduceLeDiff, Nat.reduceLT, Nat.reduceEqDiff, reduceIte, Nat.zero_le, Nat.le_refl, Nat.add_zero, Nat.zero_add, xwT hT, xwV hV, ew]
  (repeat (refine And.intro (by (first | omega | assumption | trivial | (simp only [inI]; omega) | (simp only [inL]; omega) | (refine jb_01) | (exact jb_in))) ?_))
  refine ⟨fun h5 => ?_, fun h5 => ?_⟩
  · rw [if_pos ⟨h, by omega, h3, h4, h5⟩] at hQ
    refine ⟨0, 0, ⟨by omega, by omega⟩, xw_keeps hT hVy hCy hI ?_⟩
    intro w hCw jw w4
    have hVw := jw.pv hVy
    have km : keepA A (13 + s) = A (13 + s) := keepA_p h7 (by omega) (by omega)
    have kb : keepA A (46 + 6 * b + 5) = A (46 + 6 * b + 5) := keepA_p h7 (by omega) (by omega)
    have k0 : keepA A 0 = A 0 := keepA_lo h7 (by omega) (by omega)
    have hHw := keepA_SH hH hB h7
    have room := hHw.room hCw.tb (b := b) (by rw [k0]; exact hb) (by rw [kb]; omega) hs
    rw [km] at room
    have ci := hCw.set hs (p := p) (b := b) (by rw [km]; exact h4) (by rw [km]; omega) (by rw [k0]; exact hb)
    have em := hCw.m hs
    have sn := setA_n (A := keepA A) (b := b) (p := p) hs (by rw [km]; exact h4) hb.1 hs
    rw [if_pos rfl, km] at sn
    have hV := hVw
    simp (disch := (first | decide | omega)) only [jxs, hps, jtsw, jlsw, List.length_cons, List.length_nil, true_and, and_true, true_implies, false_implies, implies_true, not_true_eq_false, not_false_eq_true, false_and, and_false, if_true, if_false, or_true, true_or, or_false, false_or, Classical.not_not, and_self, Int.reduceAdd, Int.reduceMul, Int.reduceSub, Int.reduceNeg, Int.reduceLT, Int.reduceLE, Int.reduceEq, Int.reduceNe, Int.reduceToNat, Nat.reduceAdd, Nat.reduceMul, Nat.reduceSub, Nat.reduceLeDiff, Nat.reduceLT, Nat.reduceEqDiff, reduceIte, Nat.zero_le, Nat.le_refl, Nat.add_zero, Nat.zero_add, xwT hT, xwV hV]
    refine ⟨0, 0, ⟨by omega, by omega⟩, xw_inserts hT hVw (by rw [em, km]; omega) hs (by rw [em, km]; exact h4) (by omega) ?_⟩
    rw [em]
    have hVz : PV (upA w 404 (inF2 (w 404) s p b (keepA A (13 + s)))) := by (first | assumption | (repeat (first | assumption | refine PV.A ?_ (by decide) | refine PV.F ?_ ?_ | refine twR.up ?_ (by decide) | refine PV.r ?_)))
    have jz : jkM w (upA w 404 (inF2 (w 404) s p b (keepA A (13 + s)))) := (jkR.up).M hVw
    generalize upA w 404 (inF2 (w 404) s p b (keepA A (13 + s))) = z at *
    have hV := hVz
    simp (disch := (first | decide | omega)) only [jxs, hps, jtsw, jlsw, List.length_cons, List.length_nil, true_and, and_true, true_implies, false_implies, implies_true, not_true_eq_false, not_false_eq_true, false_and, and_false, if_true, if_false, or_true, true_or, or_false, false_or, Classical.not_not, and_self, Int.reduceAdd, Int.reduceMul, Int.reduceSub, Int.reduceNeg, Int.reduceLT, Int.reduceLE, Int.reduceEq, Int.reduceNe, Int.reduceToNat, Nat.reduceAdd, Nat.reduceMul, Nat.reduceSub, Nat.reduceLeDiff, Nat.reduceLT, Nat.reduceEqDiff, reduceIte, Nat.zero_le, Nat.le_refl, Nat.add_zero, Nat.zero_add, xwT hT, xwV hV]
    refine ⟨0, 0, ⟨by omega, by omega⟩, xw_many hT hVz ci hs ?_⟩
    rw [sn]
    simp (disch := (first | decide | omega)) only [jxs, hps, jtsw, jlsw, List.length_cons, List.length_nil, true_and, and_true, true_implies, false_implies, implies_true, not_true_eq_false, not_false_eq_true, false_and, and_false, if_true, if_false, or_true, true_or, or_false, false_or, Classical.not_not, and_self, Int.reduceAdd, Int.reduceMul, Int.reduceSub, Int.reduceNeg, Int.reduceLT, Int.reduceLE, Int.reduceEq, Int.reduceNe, Int.reduceToNat, Nat.reduceAdd, Nat.reduceMul, Nat.reduceSub, Nat.reduceLeDiff, Nat.reduceLT, Nat.reduceEqDiff, reduceIte, Nat.zero_le, Nat.le_refl, Nat.add_zero, Nat.zero_add, xwT hT, xwV hV]
    (repeat (refine And.intro (by (first | omega | assumption | trivial | (simp only [inI]; omega) | (simp only [inL]; omega) | (refine jb_01) | (exact jb_in))) ?_))
    exact hQ z ci ((((hu.M hV0).tr (hy.M hVu)).tr (jw.M hVy)).tr jz)
  · exact no (fun x => h5 x.2.2.2.2) y (hu.tr hy)
end XG
