/-! ===== the class: pushes, thick, full, falls ===== -/
-- MODE X
set_option maxRecDepth 100000
theorem cl9_min {z : Int} : (if 0 < (if z < 9 then z else 9) then (if z < 9 then z else 9) else 0) = cl9 z := by
  unfold cl9
  by_cases h : z < 9
  · rw [if_pos h]
    by_cases h2 : 0 < z
    · rw [if_pos h2, if_neg (by omega), if_neg (by omega)]
    · rw [if_neg h2]
      split
      · rfl
      · rw [if_neg (by omega)]; omega
  · rw [if_neg h, if_pos (by omega), if_neg (by omega)]
    split <;> omega
section XG
variable {g : jjG} {d : Nat} {T : jjT} {Q : jjQ} {A X : Int → Int} {v : Int → Int → Int}
theorem xw_pushes {b o r : Int} (hT : PT T) (hV : PV v) (hC : CI (v, T) A X) (hS : 0 ≤ r ∧ r ≤ 1) (hQ : ∀ w, jkq v w → Q (.inl (some (vI (if (0 ≤ b ∧ b ≤ A 0 - 1) ∧ (0 ≤ o ∧ o ≤ A 0 - 1) ∧ b ≠ o then dpA A X b o r else 0)))) (w, T)) : jmet g (d + 112) 0 0 MX0_pushes [vR 400, vI b, vI o, vI r] (v, T) Q := by
  refine jmet_of (ls := [some (vR 400), some (vI b), some (vI o), some (vI r)]) sX0_pushes rfl (by decide +kernel) (by decide) rfl (by simp [jent]) ?_
  have no : ∀ w, jkq v w → Q (.inl (some (vI 0))) (w, T) → jW bX0_pushes (g, d + 111, 0, 0, Q) 1 [some (vR 400), some (vI b), some (vI o), some (vI r)] [] (w, T) 0 0 := by
    intro w hw hq
    have hV := hw.pv hV
    refine jW_step ?_
    simp (disch := (first | decide | omega)) only [bX0_pushes, jxs, hps, jtsw, jlsw, List.length_cons, List.length_nil, true_and, and_true, true_implies, false_implies, implies_true, not_true_eq_false, not_false_eq_true, false_and, and_false, if_true, if_false, or_true, true_or, or_false, false_or, Classical.not_not, and_self, Int.reduceAdd, Int.reduceMul, Int.reduceSub, Int.reduceNeg, Int.reduceLT, Int.reduceLE, Int.reduceEq, Int.reduceNe, Int.reduceToNat, Nat.reduceAdd, Nat.reduceMul, Nat.reduceSub, Nat.reduceLeDiff, Nat.reduceLT, Nat.reduceEqDiff, reduceIte, Nat.zero_le, Nat.le_refl, Nat.add_zero, Nat.zero_add, xwT hT, xwV hV]
    refine jW_step ?_
    simp (disch := (first | decide | omega)) only [bX0_pushes, jxs, hps, jtsw, jlsw, List.length_cons, List.length_nil, true_and, and_true, true_implies, false_implies, implies_true, not_true_eq_false, not_false_eq_true, false_and, and_false, if_true, if_false, or_true, true_or, or_false, false_or, Classical.not_not, and_self, Int.reduceAdd, Int.reduceMul, Int.reduceSub, Int.reduceNeg, Int.reduceLT, Int.reduceLE, Int.reduceEq, Int.reduceNe, Int.reduceToNat, Nat.reduceAdd, Nat.reduceMul, Nat.reduceSub, Nat.reduceLeDiff, Nat.reduceLT, Nat.reduceEqDiff, reduceIte, Nat.zero_le, Nat.le_refl, Nat.add_zero, Nat.zero_add, xwT hT, xwV hV]
    (repeat (refine And.intro (by (first | omega | assumption | trivial | (simp only [inI]; omega) | (simp only [inL]; omega) | (refine jb_01) | (exact jb_in))) ?_))
    exact hq
  refine jW_step ?_
  simp (disch := (first | decide | omega)) only [bX0_pushes, jxs, hps, jtsw, jlsw, List.length_cons, List.length_nil, true_and, and_true, true_implies, false_implies, implies_true, not_true_eq_false, not_false_eq_true, false_and, and_false, if_true, if_false, or_true, true_or, or_false, false_or, Classical.not_not, and_self, Int.reduceAdd, Int.reduceMul, Int.reduceSub, Int.reduceNeg, Int.reduceLT, Int.reduceLE, Int.reduceEq, Int.reduceNe, Int.reduceToNat, Nat.reduceAdd, Nat.reduceMul, Nat.reduceSub, Nat.reduceLeDiff, Nat.reduceLT, Nat.reduceEqDiff, reduceIte, Nat.zero_le, Nat.le_refl, Nat.add_zero, Nat.zero_add, xwT hT, xwV hV]
  refine ⟨0, 0, ⟨by omega, by omega⟩, xw_isBook hT hV hC ?_⟩
  simp (disch := (first | decide | omega)) only [jxs, hps, jtsw, jlsw, List.length_cons, List.length_nil, true_and, and_true, true_implies, false_implies, implies_true, not_true_eq_false, not_false_eq_true, false_and, and_false, if_true, if_false, or_true, true_or, or_false, false_or, Classical.not_not, and_self, Int.reduceAdd, Int.reduceMul, Int.reduceSub, Int.reduceNeg, Int.reduceLT, Int.reduceLE, Int.reduceEq, Int.reduceNe, Int.reduceToNat, Nat.reduceAdd, Nat.reduceMul, Nat.reduceSub, Nat.reduceLeDiff, Nat.reduceLT, Nat.reduceEqDiff, reduceIte, Nat.zero_le, Nat.le_refl, Nat.add_zero, Nat.zero_add, xwT hT, xwV hV]
  refine ⟨fun h => ?_, fun h => ?_⟩
  · refine no v (jkq.rf hC.nm) ?_
    have := hQ v (jkq.rf hC.nm)
    rwa [if_neg (fun x => h x.1)] at this
  refine ⟨0, 0, ⟨by omega, by omega⟩, xw_isBook hT hV hC ?_⟩
  simp (disch := (first | decide | omega)) only [jxs, hps, jtsw, jlsw, List.length_cons, List.length_nil, true_and, and_true, true_implies, false_implies, implies_true, not_true_eq_false, not_false_eq_true, false_and, and_false, if_true, if_false, or_true, true_or, or_false, false_or, Classical.not_not, and_self, Int.reduceAdd, Int.reduceMul, Int.reduceSub, Int.reduceNeg, Int.reduceLT, Int.reduceLE, Int.reduceEq, Int.reduceNe, Int.reduceToNat, Nat.reduceAdd, Nat.reduceMul, Nat.reduceSub, Nat.reduceLeDiff, Nat.reduceLT, Nat.reduceEqDiff, reduceIte, Nat.zero_le, Nat.le_refl, Nat.add_zero, Nat.zero_add, xwT hT, xwV hV]
  refine ⟨fun h2 => ?_, fun h2 => ?_⟩
  · refine no v (jkq.rf hC.nm) ?_
    have := hQ v (jkq.rf hC.nm)
    rwa [if_neg (fun x => h2 x.2.1)] at this
  refine ⟨fun h3 => ?_, fun h3 => ?_⟩
  · refine no v (jkq.rf hC.nm) ?_
    have := hQ v (jkq.rf hC.nm)
    rwa [if_neg (fun x => x.2.2 h3)] at this
  rw [if_pos ⟨h, h2, h3⟩] at hQ
  refine ⟨0, 0, ⟨by omega, by omega⟩, xw_pushesNow hT hV hC ⟨by omega, by omega, hS⟩ ?_⟩
  intro w hw
  have p01 : 0 ≤ dpA A X b o r ∧ dpA A X b o r ≤ 1 := pbA_c01 hC
  have hVw := hw.pv hV
  have fin := hQ w hw
  generalize dpA A X b o r = z at *
  have hV := hVw
  simp (disch := (first | decide | omega)) only [jxs, hps, jtsw, jlsw, List.length_cons, List.length_nil, true_and, and_true, true_implies, false_implies, implies_true, not_true_eq_false, not_false_eq_true, false_and, and_false, if_true, if_false, or_true, true_or, or_false, false_or, Classical.not_not, and_self, Int.reduceAdd, Int.reduceMul, Int.reduceSub, Int.reduceNeg, Int.reduceLT, Int.reduceLE, Int.reduceEq, Int.reduceNe, Int.reduceToNat, Nat.reduceAdd, Nat.reduceMul, Nat.reduceSub, Nat.reduceLeDiff, Nat.reduceLT, Nat.reduceEqDiff, reduceIte, Nat.zero_le, Nat.le_refl, Nat.add_zero, Nat.zero_add, xwT hT, xwV hV]
  refine ⟨fun h4 => ?_, fun h4 => ?_⟩
  · rw [h4] at fin
    exact no w hw fin
  · refine jW_step ?_
    simp (disch := (first | decide | omega)) only [bX0_pushes, jxs, hps, jtsw, jlsw, List.length_cons, List.length_nil, true_and, and_true, true_implies, false_implies, implies_true, not_true_eq_false, not_false_eq_true, false_and, and_false, if_true, if_false, or_true, true_or, or_false, false_or, Classical.not_not, and_self, Int.reduceAdd, Int.reduceMul, Int.reduceSub, Int.reduceNeg, Int.reduceLT, Int.reduceLE, Int.reduceEq, Int.reduceNe, Int.reduceToNat, Nat.reduceAdd, Nat.reduceMul, Nat.reduceSub, Nat.reduceLeDiff, Nat.reduceLT, Nat.reduceEqDiff, reduceIte, Nat.zero_le, Nat.le_refl, Nat.add_zero, Nat.zero_add, xwT hT, xwV hV]
    (repeat (refine And.intro (by (first | omega | assumption | trivial | (simp only [inI]; omega) | (simp only [inL]; omega) | (refine jb_01) | (exact jb_in))) ?_))
    rwa [show z = 1 by omega] at fin
theorem xw_thickNow {b : Int} (hT : PT T) (hV : PV v) (hC : CI (v, T) A X) (hb : 0 ≤ b ∧ b < A 0) (hQ : ∀ w, jkq v w → Q (.inl (some (vI (thA A X b)))) (w, T)) : jmet g (d + 112) 0 0 MX0_thickNow [vR 400, vI b] (v, T) Q := by
  have hB := hC.tb
  have h0 := hB.1
  have hm := hB.2.2.2.2.2.2 (46 + 6 * b + 2) (by omega) (by omega)
  have k1 : ∀ w z, jkq v w → (0 ≤ z ∧ z ≤ 9) → Q (.inl (some (vI (A (46 + 6 * b + 2) + z)))) (w, T) → jW bX0_thickNow (g, d + 111, 0, 0, Q) 1 [some (vR 400), some (vI b), some (vI z)] [] (w, T) 0 0 := by
    intro w z hw hz hq
    have hV := hw.pv hV
    have e1 := PVbk hV (b := b) (by omega)
    have e2 := PTbk hT (b := b) (by omega)
    have e3 := e2.1
    have e4 := e2.2
    have e5 := (hw.ci hC).b hb (w := 2) (by omega)
    refine jW_step ?_
    simp (disch := (first | decide | omega)) only [bX0_thickNow, jxs, hps, jtsw, jlsw, List.length_cons, List.length_nil, true_and, and_true, true_implies, false_implies, implies_true, not_true_eq_false, not_false_eq_true, false_and, and_false, if_true, if_false, or_true, true_or, or_false, false_or, Classical.not_not, and_self, Int.reduceAdd, Int.reduceMul, Int.reduceSub, Int.reduceNeg, Int.reduceLT, Int.reduceLE, Int.reduceEq, Int.reduceNe, Int.reduceToNat, Nat.reduceAdd, Nat.reduceMul, Nat.reduceSub, Nat.reduceLeDiff, Nat.reduceLT, Nat.reduceEqDiff, reduceIte, Nat.zero_le, Nat.le_refl, Nat.add_zero, Nat.zero_add, xwT hT, xwV hV, e1, e3, e4]
    (repeat (refine And.intro (by (first | omega | assumption | trivial | (simp only [inI]; omega) | (simp only [inL]; omega) | (refine jb_01) | (exact jb_in))) ?_))
    rw [e5]
    (repeat (refine And.intro (by (first | omega | assumption | trivial | (simp only [inI]; omega) | (simp only [inL]; omega) | (refine jb_01) | (exact jb_in))) ?_))
    exact hq
  unfold thA at hQ
  obtain ⟨⟨r1, r2, r3⟩, -, -, r5, -⟩ := hC.ru
  dsimp only at r1 r2 r3 r5
  refine jmet_of (ls := [some (vR 400), some (vI b), none]) sX0_thickNow rfl (by decide +kernel) (by decide) rfl (by simp [jent]) ?_
  refine jW_step ?_
  simp (disch := (first | decide | omega)) only [bX0_thickNow, jxs, hps, jtsw, jlsw, List.length_cons, List.length_nil, true_and, and_true, true_implies, false_implies, implies_true, not_true_eq_false, not_false_eq_true, false_and, and_false, if_true, if_false, or_true, true_or, or_false, false_or, Classical.not_not, and_self, Int.reduceAdd, Int.reduceMul, Int.reduceSub, Int.reduceNeg, Int.reduceLT, Int.reduceLE, Int.reduceEq, Int.reduceNe, Int.reduceToNat, Nat.reduceAdd, Nat.reduceMul, Nat.reduceSub, Nat.reduceLeDiff, Nat.reduceLT, Nat.reduceEqDiff, reduceIte, Nat.zero_le, Nat.le_refl, Nat.add_zero, Nat.zero_add, xwT hT, xwV hV, hC.wet]
  (repeat (refine And.intro (by (first | omega | assumption | trivial | (simp only [inI]; omega) | (simp only [inL]; omega) | (refine jb_01) | (exact jb_in))) ?_))
  refine ⟨fun h => ?_, fun h => ?_⟩
  · rw [if_neg (fun x => h x.1)] at hQ
    exact k1 v 0 (jkq.rf hC.nm) (by omega) (hQ v (jkq.rf hC.nm))
  refine ⟨0, 0, ⟨by omega, by omega⟩, xw_rules hT hV hC ?_⟩
  have hr0 : ∀ w, jkq v w → rul w A = rul v A := fun w hw => by unfold rul; rw [hw.1 460 (by omega)]
  generalize rul v A = ra at *
  simp (disch := (first | decide | omega)) only [jxs, hps, jtsw, jlsw, List.length_cons, List.length_nil, true_and, and_true, true_implies, false_implies, implies_true, not_true_eq_false, not_false_eq_true, false_and, and_false, if_true, if_false, or_true, true_or, or_false, false_or, Classical.not_not, and_self, Int.reduceAdd, Int.reduceMul, Int.reduceSub, Int.reduceNeg, Int.reduceLT, Int.reduceLE, Int.reduceEq, Int.reduceNe, Int.reduceToNat, Nat.reduceAdd, Nat.reduceMul, Nat.reduceSub, Nat.reduceLeDiff, Nat.reduceLT, Nat.reduceEqDiff, reduceIte, Nat.zero_le, Nat.le_refl, Nat.add_zero, Nat.zero_add, xwT hT, xwV hV, r1]
  by_cases hc : clA A X 2 0 < 0
  · have e := r5.1 hc
    rw [if_neg (fun x => by omega)] at hQ
    rw [e]
    refine ⟨fun _ => ?_, fun h9 => absurd rfl h9⟩
    exact k1 v 0 (jkq.rf hC.nm) (by omega) (hQ v (jkq.rf hC.nm))
  have vr := r5.2 (by omega)
  have nz := vr.nz
  have cl := hC.cl (show 0 ≤ clA A X 2 0 by omega)
  have oc := (cl.1.2.1 (by omega)).2
  rw [cl.2] at oc
  rw [if_pos ⟨by omega, by omega⟩] at hQ
  refine ⟨fun h9 => by omega, fun _ => ?_⟩
  refine ⟨0, 0, ⟨by omega, by omega⟩, xw_namesOwn hT hV hC hb ?_⟩
  intro w hw w22
  have hVw := hw.pv hV
  have hCw := hw.ci hC
  have gr : jGR (v, T) (w, T) := jGR_of (fun a ha => hw.1 a (by unfold jfz at ha; omega))
  have zr : jfz ra := by
    by_cases q : ra = 522
    · have t1 := pt_522 hT
      rw [q] at r1
      have := r1.2.2.symm.trans t1.2.2
      omega
    · by_cases q2 : 400 ≤ ra ∧ ra < 562
      · exact absurd r1 (fun x => by
          have key : ∀ a ∈ (List.range 162), ∃ q ∈ ptL, q.1 = 400 + (a : Int) ∧ q.2.1 ≠ 4 := by decide +kernel
          obtain ⟨q, m1, m2, m3⟩ := key (ra - 400).toNat (List.mem_range.2 (by omega))
          have := hT.ok q.1 q.2.1 q.2.2 m1
          rw [m2, show 400 + (((ra - 400).toNat : Nat) : Int) = ra by omega] at this
          exact m3 (this.2.2.symm.trans x.2.2))
      · unfold jfz; omega
  have ew : w ra = v ra := gr.at r1 zr
  have hV := hVw
  simp (disch := (first | decide | omega)) only [jxs, hps, jtsw, jlsw, List.length_cons, List.length_nil, true_and, and_true, true_implies, false_implies, implies_true, not_true_eq_false, not_false_eq_true, false_and, and_false, if_true, if_false, or_true, true_or, or_false, false_or, Classical.not_not, and_self, Int.reduceAdd, Int.reduceMul, Int.reduceSub, Int.reduceNeg, Int.reduceLT, Int.reduceLE, Int.reduceEq, Int.reduceNe, Int.reduceToNat, Nat.reduceAdd, Nat.reduceMul, Nat.reduceSub, Nat.reduceLeDiff, Nat.reduceLT, Nat.reduceEqDiff, reduceIte, Nat.zero_le, Nat.le_refl, Nat.add_zero, Nat.zero_add, xwT hT, xwV hV]
  refine ⟨0, 0, ⟨by omega, by omega⟩, xw_rules hT hV hCw ?_⟩
  rw [hr0 w hw]
  simp (disch := (first | decide | omega)) only [jxs, hps, jtsw, jlsw, List.length_cons, List.length_nil, true_and, and_true, true_implies, false_implies, implies_true, not_true_eq_false, not_false_eq_true, false_and, and_false, if_true, if_false, or_true, true_or, or_false, false_or, Classical.not_not, and_self, Int.reduceAdd, Int.reduceMul, Int.reduceSub, Int.reduceNeg, Int.reduceLT, Int.reduceLE, Int.reduceEq, Int.reduceNe, Int.reduceToNat, Nat.reduceAdd, Nat.reduceMul, Nat.reduceSub, Nat.reduceLeDiff, Nat.reduceLT, Nat.reduceEqDiff, reduceIte, Nat.zero_le, Nat.le_refl, Nat.add_zero, Nat.zero_add, xwT hT, xwV hV, r1]
  rw [ew]
  obtain ⟨q, p1, p2, p3⟩ := xw_ofD (g := g) hT hw.2 100 (v ra 2) _ (d + 111) (by omega) (VR.gr gr _ _ _ vr)
  refine ⟨q, p1, p2, 0, 0, ⟨by omega, by omega⟩, p3 _ ?_⟩
  intro z hz hzb
  have ev : EV (nmO (fun _ => 0) A b) (tcode X (A 6) (clA A X 2 0)) = z := by
    rw [← hz.ev, w22]
    exact EV_cg (nmO_ag rfl) oc
  rw [ev] at hQ
  simp (disch := (first | decide | omega)) only [jxs, hps, jtsw, jlsw, List.length_cons, List.length_nil, true_and, and_true, true_implies, false_implies, implies_true, not_true_eq_false, not_false_eq_true, false_and, and_false, if_true, if_false, or_true, true_or, or_false, false_or, Classical.not_not, and_self, Int.reduceAdd, Int.reduceMul, Int.reduceSub, Int.reduceNeg, Int.reduceLT, Int.reduceLE, Int.reduceEq, Int.reduceNe, Int.reduceToNat, Nat.reduceAdd, Nat.reduceMul, Nat.reduceSub, Nat.reduceLeDiff, Nat.reduceLT, Nat.reduceEqDiff, reduceIte, Nat.zero_le, Nat.le_refl, Nat.add_zero, Nat.zero_add, xwT hT, xwV hV]
  refine ⟨0, 0, ⟨by omega, by omega⟩, xj_min ?_⟩
  simp (disch := (first | decide | omega)) only [jxs, hps, jtsw, jlsw, List.length_cons, List.length_nil, true_and, and_true, true_implies, false_implies, implies_true, not_true_eq_false, not_false_eq_true, false_and, and_false, if_true, if_false, or_true, true_or, or_false, false_or, Classical.not_not, and_self, Int.reduceAdd, Int.reduceMul, Int.reduceSub, Int.reduceNeg, Int.reduceLT, Int.reduceLE, Int.reduceEq, Int.reduceNe, Int.reduceToNat, Nat.reduceAdd, Nat.reduceMul, Nat.reduceSub, Nat.reduceLeDiff, Nat.reduceLT, Nat.reduceEqDiff, reduceIte, Nat.zero_le, Nat.le_refl, Nat.add_zero, Nat.zero_add, xwT hT, xwV hV]
  refine ⟨0, 0, ⟨by omega, by omega⟩, xj_max ?_⟩
  rw [cl9_min]
  have c9 := cl9_bd z
  simp (disch := (first | decide | omega)) only [jxs, hps, jtsw, jlsw, List.length_cons, List.length_nil, true_and, and_true, true_implies, false_implies, implies_true, not_true_eq_false, not_false_eq_true, false_and, and_false, if_true, if_false, or_true, true_or, or_false, false_or, Classical.not_not, and_self, Int.reduceAdd, Int.reduceMul, Int.reduceSub, Int.reduceNeg, Int.reduceLT, Int.reduceLE, Int.reduceEq, Int.reduceNe, Int.reduceToNat, Nat.reduceAdd, Nat.reduceMul, Nat.reduceSub, Nat.reduceLeDiff, Nat.reduceLT, Nat.reduceEqDiff, reduceIte, Nat.zero_le, Nat.le_refl, Nat.add_zero, Nat.zero_add, xwT hT, xwV hV]
  (repeat (refine And.intro (by (first | omega | assumption | trivial | (simp only [inI]; omega) | (simp only [inL]; omega) | (refine jb_01) | (exact jb_in))) ?_))
  exact k1 w (cl9 z) hw c9 (hQ w hw)
end XG
