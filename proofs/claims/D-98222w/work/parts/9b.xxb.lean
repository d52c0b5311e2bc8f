/-! ===== the class: settings ===== -/
-- MODE X
set_option maxRecDepth 100000
theorem CI.hdr {T : jjT} {A A' X : Int → Int} {v : Int → Int → Int} {f' g' : Int → Int} (h : CI (v, T) A X) (hn : cN f' A') (hw : ∀ s, 0 ≤ s → s < 3 → g' s = A' (10 + s)) (e : ∀ i, i ≠ 3 → i ≠ 6 → i ≠ 8 → (i < 10 ∨ 13 ≤ i) → A' i = A i) (hB : TB A') (h8 : 0 ≤ A' 8 ∧ A' 8 ≤ A 8) : CI (upA (upA v 402 f') 403 g', T) A' X := by
  have g : jGR (v, T) (upA (upA v 402 f') 403 g', T) := jGR_of (fun a ha => by rw [upA_ne (by unfold jfz at ha; omega), upA_ne (by unfold jfz at ha; omega)])
  have un : ∀ a, a ≠ 402 → a ≠ 403 → (upA (upA v 402 f') 403 g') a = v a := fun a a1 a2 => by rw [upA_ne a2, upA_ne a1]
  have h0 := h.tb.1
  have hTB := h.tb
  have h7 := h.2.2.2.2.2.1
  have hA8 := h.2.2.2.2.2.2.1
  obtain ⟨⟨q1, q2, q3, q4, q5, q6, q7⟩, hnm, ht, _, hx, _, _, hl⟩ := h
  dsimp only at q1 q2 q3 q4 q5 q6 q7 hnm
  have e0 := e 0 (by omega) (by omega) (by omega) (by omega)
  have e7 := e 7 (by omega) (by omega) (by omega) (by omega)
  have e5 := e 5 (by omega) (by omega) (by omega) (by omega)
  have eh := fun i (hi : 13 ≤ i) => e i (by omega) (by omega) (by omega) (by omega)
  refine ⟨⟨?_, fun s s0 s1 => ?_, ?_, fun b w b0 b1 w0 w1 => ?_, fun k w k0 k1 w0 w1 => ?_, fun k k0 k1 => ?_, fun t t0 t1 => ?_⟩, ?_, ht.gr g, hB, ?_, ?_, ?_, ?_⟩
  · show cN ((upA (upA v 402 f') 403 g') 402) A'
    rw [upA_ne (by omega), upA_eq]
    exact hn
  · show (upA (upA v 402 f') 403 g') 403 s = A' (10 + s)
    rw [upA_eq]
    exact hw s s0 s1
  · show RW ((upA (upA v 402 f') 403 g') 404) A'
    rw [un 404 (by omega) (by omega)]
    have q3 : RW (v 404) A := q3
    unfold RW at q3 ⊢
    rw [e0, e 2 (by omega) (by omega) (by omega) (by omega), e 1 (by omega) (by omega) (by omega) (by omega), e 4 (by omega) (by omega) (by omega) (by omega), e 9 (by omega) (by omega) (by omega) (by omega)]
    exact q3.cg (fun s s0 s1 => eh _ (by omega)) (fun s p s0 s1 p0 p1 => eh _ (by omega)) (fun b b0 b1 => eh _ (by omega)) (fun i i0 i1 => eh _ (by omega))
  · dsimp only
    rw [e0] at b1
    rw [un _ (by omega) (by omega), eh _ (by omega)]
    exact q4 b w b0 b1 w0 w1
  · dsimp only
    rw [un _ (by omega) (by omega), eh _ (by omega)]
    exact q5 k w k0 (by omega) w0 w1
  · dsimp only
    rw [e7] at k1
    rw [un _ (by omega) (by omega)]
    exact (q6 k k0 k1).fr k0 (fun i hi => eh i (by omega))
  · dsimp only
    rw [e5] at t1
    rw [un _ (by omega) (by omega)]
    exact (q7 t t0 t1).gr g
  · show okN ((upA (upA v 402 f') 403 g') 522)
    rw [un 522 (by omega) (by omega)]
    exact hnm
  · rw [e5]; exact hx
  · rw [e7]; exact h7
  · omega
  · intro b b0 b1
    rw [e0] at b1
    rw [eh _ (by omega)]
    exact hl b b0 b1
theorem TB.hd {A : Int → Int} {i z : Int} (h : TB A) (hi : (i = 3 ∧ 1 ≤ z ∧ z ≤ 2) ∨ (i = 6 ∧ -1 ≤ z ∧ z < A 5) ∨ i = 8 ∨ (10 ≤ i ∧ i < 13)) : TB (up1 A i z) := by
  obtain ⟨b1, b2, b3, b4, b5, b6, b7⟩ := h
  refine ⟨by rw [up1_ne (by omega)]; exact b1, by rw [up1_ne (by omega)]; exact b2, ?_, by rw [up1_ne (by omega)]; exact b4, ?_, fun j j0 j1 => by rw [up1_ne (by omega)]; exact b6 j j0 j1, fun j j0 j1 => by rw [up1_ne (by omega)]; exact b7 j j0 j1⟩
  · by_cases e : i = 3
    · rw [e, up1_eq]; omega
    · rw [up1_ne (by omega)]; exact b3
  · by_cases e : i = 6
    · rw [e, up1_eq, up1_ne (by omega)]; omega
    · rw [up1_ne (by omega), up1_ne (by omega)]; exact b5
section XG
variable {g : jjG} {d : Nat} {T : jjT} {Q : jjQ} {A X : Int → Int} {v : Int → Int → Int}
theorem jkM.up {a : Int} {f : Int → Int} (hV : PV v) (ha : a = 402 ∨ a = 403) : jkM v (upA v a f) := by
  refine ⟨fun b b0 _ _ => upA_ne (by omega), hV.A ?_⟩
  rcases ha with rfl | rfl <;> decide
theorem xw_need {n : Int} (hT : PT T) (hV : PV v) (hC : CI (v, T) A X) (hQ : (1 ≤ n ∧ n ≤ 2 → ∀ w, CI (w, T) (up1 A 3 n) X → jkM v w → Q (.inl (some (vI 1))) (w, T)) ∧ (¬ (1 ≤ n ∧ n ≤ 2) → Q (.inl (some (vI 0))) (v, T))) : jmet g (d + 2) 0 0 MX0_need [vR 400, vI n] (v, T) Q := by
  have c8 := hC.2.2.2.2.2.2.1
  have hq := hC.1.1
  refine jmet_of (ls := [some (vR 400), some (vI n)]) sX0_need rfl (by decide +kernel) (by decide) rfl (by simp [jent]) ?_
  refine jW_step ?_
  simp (disch := (first | decide | omega)) only [bX0_need, jxs, hps, jtsw, jlsw, List.length_cons, List.length_nil, true_and, and_true, true_implies, false_implies, implies_true, not_true_eq_false, not_false_eq_true, false_and, and_false, if_true, if_false, or_true, true_or, or_false, false_or, Classical.not_not, and_self, Int.reduceAdd, Int.reduceMul, Int.reduceSub, Int.reduceNeg, Int.reduceLT, Int.reduceLE, Int.reduceEq, Int.reduceNe, Int.reduceToNat, Nat.reduceAdd, Nat.reduceMul, Nat.reduceSub, Nat.reduceLeDiff, Nat.reduceLT, Nat.reduceEqDiff, reduceIte, Nat.zero_le, Nat.le_refl, Nat.add_zero, Nat.zero_add, xwT hT, xwV hV]
  refine ⟨0, 0, ⟨by omega, by omega⟩, xw_in ?_⟩
  simp (disch := (first | decide | omega)) only [jxs, hps, jtsw, jlsw, List.length_cons, List.length_nil, true_and, and_true, true_implies, false_implies, implies_true, not_true_eq_false, not_false_eq_true, false_and, and_false, if_true, if_false, or_true, true_or, or_false, false_or, Classical.not_not, and_self, Int.reduceAdd, Int.reduceMul, Int.reduceSub, Int.reduceNeg, Int.reduceLT, Int.reduceLE, Int.reduceEq, Int.reduceNe, Int.reduceToNat, Nat.reduceAdd, Nat.reduceMul, Nat.reduceSub, Nat.reduceLeDiff, Nat.reduceLT, Nat.reduceEqDiff, reduceIte, Nat.zero_le, Nat.le_refl, Nat.add_zero, Nat.zero_add, xwT hT, xwV hV]
  refine ⟨fun h => ?_, fun h => ?_⟩
  · have ci := hC.hdr (f' := up1 (v 402) 1 n) (g' := v 403) (A' := up1 A 3 n) ⟨by rw [up1_ne (by omega), up1_ne (by omega)]; exact hq.1, by rw [up1_eq, up1_eq], by rw [up1_ne (by omega), up1_ne (by omega)]; exact hq.2.2.1, by rw [up1_ne (by omega), up1_ne (by omega)]; exact hq.2.2.2.1, by rw [up1_ne (by omega), up1_ne (by omega)]; exact hq.2.2.2.2.1, by rw [up1_ne (by omega), up1_ne (by omega)]; exact hq.2.2.2.2.2⟩ (fun s s0 s1 => by rw [up1_ne (by omega)]; exact hC.w ⟨s0, s1⟩) (fun i i3 _ _ _ => up1_ne i3) (hC.tb.hd (by omega)) (by rw [up1_ne (by omega)]; omega)
    have eu : upA (upA v 402 (up1 (v 402) 1 n)) 403 (v 403) = upA v 402 (up1 (v 402) 1 n) := by
      have : v 403 = (upA v 402 (up1 (v 402) 1 n)) 403 := (upA_ne (by omega)).symm
      rw [this, upA_id]
    rw [eu] at ci
    (repeat (refine And.intro (by (first | omega | assumption | trivial | (simp only [inI]; omega) | (simp only [inL]; omega) | (refine jb_01) | (exact jb_in))) ?_))
    exact hQ.1 h _ ci (jkM.up hV (by omega))
  · (repeat (refine And.intro (by (first | omega | assumption | trivial | (simp only [inI]; omega) | (simp only [inL]; omega) | (refine jb_01) | (exact jb_in))) ?_))
    exact hQ.2 h
theorem xw_isText {t : Int} (hT : PT T) (hV : PV v) (hC : CI (v, T) A X) (hQ : Q (.inl (some (vI (jb (0 ≤ t ∧ t ≤ A 5 - 1))))) (v, T)) : jmet g (d + 2) 0 0 MX0_isText [vR 400, vI t] (v, T) Q := by
  have h5 := hC.tb.2.2.2.1
  refine jmet_of (ls := [some (vR 400), some (vI t)]) sX0_isText rfl (by decide +kernel) (by decide) rfl (by simp [jent]) ?_
  refine jW_step ?_
  simp (disch := (first | decide | omega)) only [bX0_isText, jxs, hps, jtsw, jlsw, List.length_cons, List.length_nil, true_and, and_true, true_implies, false_implies, implies_true, not_true_eq_false, not_false_eq_true, false_and, and_false, if_true, if_false, or_true, true_or, or_false, false_or, Classical.not_not, and_self, Int.reduceAdd, Int.reduceMul, Int.reduceSub, Int.reduceNeg, Int.reduceLT, Int.reduceLE, Int.reduceEq, Int.reduceNe, Int.reduceToNat, Nat.reduceAdd, Nat.reduceMul, Nat.reduceSub, Nat.reduceLeDiff, Nat.reduceLT, Nat.reduceEqDiff, reduceIte, Nat.zero_le, Nat.le_refl, Nat.add_zero, Nat.zero_add, xwT hT, xwV hV, hC.n2]
  (repeat (refine And.intro (by (first | omega | assumption | trivial | (simp only [inI]; omega) | (simp only [inL]; omega) | (refine jb_01) | (exact jb_in))) ?_))
  refine ⟨0, 0, ⟨by omega, by omega⟩, xw_in ?_⟩
  simp (disch := (first | decide | omega)) only [jxs, hps, jtsw, jlsw, List.length_cons, List.length_nil, true_and, and_true, true_implies, false_implies, implies_true, not_true_eq_false, not_false_eq_true, false_and, and_false, if_true, if_false, or_true, true_or, or_false, false_or, Classical.not_not, and_self, Int.reduceAdd, Int.reduceMul, Int.reduceSub, Int.reduceNeg, Int.reduceLT, Int.reduceLE, Int.reduceEq, Int.reduceNe, Int.reduceToNat, Nat.reduceAdd, Nat.reduceMul, Nat.reduceSub, Nat.reduceLeDiff, Nat.reduceLT, Nat.reduceEqDiff, reduceIte, Nat.zero_le, Nat.le_refl, Nat.add_zero, Nat.zero_add, xwT hT, xwV hV]
  (repeat (refine And.intro (by (first | omega | assumption | trivial | (simp only [inI]; omega) | (simp only [inL]; omega) | (refine jb_01) | (exact jb_in))) ?_))
  exact hQ
theorem xw_by {t : Int} (hT : PT T) (hV : PV v) (hC : CI (v, T) A X) (hQ : (-1 ≤ t ∧ t ≤ A 5 - 1 → ∀ w, CI (w, T) (up1 A 6 t) X → jkM v w → Q (.inl (some (vI 1))) (w, T)) ∧ (¬ (-1 ≤ t ∧ t ≤ A 5 - 1) → Q (.inl (some (vI 0))) (v, T))) : jmet g (d + 3) 0 0 MX0_by [vR 400, vI t] (v, T) Q := by
  have c8 := hC.2.2.2.2.2.2.1
  have h5 := hC.tb.2.2.2.1
  have hq := hC.1.1
  have k1 : -1 ≤ t ∧ t ≤ A 5 - 1 → jW bX0_by (g, d + 2, 0, 0, Q) 1 [some (vR 400), some (vI t)] [] (v, T) 0 0 := by
    intro h
    have ci := hC.hdr (f' := up1 (v 402) 3 t) (g' := v 403) (A' := up1 A 6 t) ⟨by rw [up1_ne (by omega), up1_ne (by omega)]; exact hq.1, by rw [up1_ne (by omega), up1_ne (by omega)]; exact hq.2.1, by rw [up1_ne (by omega), up1_ne (by omega)]; exact hq.2.2.1, by rw [up1_eq, up1_eq], by rw [up1_ne (by omega), up1_ne (by omega)]; exact hq.2.2.2.2.1, by rw [up1_ne (by omega), up1_ne (by omega)]; exact hq.2.2.2.2.2⟩ (fun s s0 s1 => by rw [up1_ne (by omega)]; exact hC.w ⟨s0, s1⟩) (fun i _ i6 _ _ => up1_ne i6) (hC.tb.hd (by omega)) (by rw [up1_ne (by omega)]; omega)
    have eu : upA (upA v 402 (up1 (v 402) 3 t)) 403 (v 403) = upA v 402 (up1 (v 402) 3 t) := by
      have : v 403 = (upA v 402 (up1 (v 402) 3 t)) 403 := (upA_ne (by omega)).symm
      rw [this, upA_id]
    rw [eu] at ci
    refine jW_step ?_
    simp (disch := (first | decide | omega)) only [bX0_by, jxs, hps, jtsw, jlsw, List.length_cons, List.length_nil, true_and, and_true, true_implies, false_implies, implies_true, not_true_eq_false, not_false_eq_true, false_and, and_false, if_true, if_false, or_true, true_or, or_false, false_or, Classical.not_not, and_self, Int.reduceAdd, Int.reduceMul, Int.reduceSub, Int.reduceNeg, Int.reduceLT, Int.reduceLE, Int.reduceEq, Int.reduceNe, Int.reduceToNat, Nat.reduceAdd, Nat.reduceMul, Nat.reduceSub, Nat.reduceLeDiff, Nat.reduceLT, Nat.reduceEqDiff, reduceIte, Nat.zero_le, Nat.le_refl, Nat.add_zero, Nat.zero_add, xwT hT, xwV hV]
    (repeat (refine And.intro (by (first | omega | assumption | trivial | (simp only [inI]; omega) | (simp only [inL]; omega) | (refine jb_01) | (exact jb_in))) ?_))
    exact hQ.1 h _ ci (jkM.up hV (by omega))
  refine jmet_of (ls := [some (vR 400), some (vI t)]) sX0_by rfl (by decide +kernel) (by decide) rfl (by simp [jent]) ?_
  refine jW_step ?_
  simp (disch := (first | decide | omega)) only [bX0_by, jxs, hps, jtsw, jlsw, List.length_cons, List.length_nil, true_and, and_true, true_implies, false_implies, implies_true, not_true_eq_false, not_false_eq_true, false_and, and_false, if_true, if_false, or_true, true_or, or_false, false_or, Classical.not_not, and_self, Int.reduceAdd, Int.reduceMul, Int.reduceSub, Int.reduceNeg, Int.reduceLT, Int.reduceLE, Int.reduceEq, Int.reduceNe, Int.reduceToNat, Nat.reduceAdd, Nat.reduceMul, Nat.reduceSub, Nat.reduceLeDiff, Nat.reduceLT, Nat.reduceEqDiff, reduceIte, Nat.zero_le, Nat.le_refl, Nat.add_zero, Nat.zero_add, xwT hT, xwV hV]
  refine ⟨fun h => ?_, fun h => ?_⟩
  · exact k1 (by omega)
  · refine ⟨0, 0, ⟨by omega, by omega⟩, xw_isText hT hV hC ?_⟩
    simp (disch := (first | decide | omega)) only [jxs, hps, jtsw, jlsw, List.length_cons, List.length_nil, true_and, and_true, true_implies, false_implies, implies_true, not_true_eq_false, not_false_eq_true, false_and, and_false, if_true, if_false, or_true, true_or, or_false, false_or, Classical.not_not, and_self, Int.reduceAdd, Int.reduceMul, Int.reduceSub, Int.reduceNeg, Int.reduceLT, Int.reduceLE, Int.reduceEq, Int.reduceNe, Int.reduceToNat, Nat.reduceAdd, Nat.reduceMul, Nat.reduceSub, Nat.reduceLeDiff, Nat.reduceLT, Nat.reduceEqDiff, reduceIte, Nat.zero_le, Nat.le_refl, Nat.add_zero, Nat.zero_add, xwT hT, xwV hV]
    refine ⟨fun h2 => ?_, fun h2 => ?_⟩
    · exact k1 (by omega)
    · (repeat (refine And.intro (by (first | omega | assumption | trivial | (simp only [inI]; omega) | (simp only [inL]; omega) | (refine jb_01) | (exact jb_in))) ?_))
      exact hQ.2 (by omega)
theorem xw_wide {s w : Int} (hT : PT T) (hV : PV v) (hC : CI (v, T) A X) (hH : SH A) (hQ : ((0 ≤ s ∧ s ≤ 2) ∧ (1 ≤ w ∧ w ≤ 99) ∧ fuA A X s ≤ w → ∀ u, CI (u, T) (up1 A (10 + s) w) X → jkM v u → Q (.inl (some (vI 1))) (u, T)) ∧ (¬ ((0 ≤ s ∧ s ≤ 2) ∧ (1 ≤ w ∧ w ≤ 99) ∧ fuA A X s ≤ w) → ∀ u, jkq v u → Q (.inl (some (vI 0))) (u, T))) : jmet g (d + 114) 0 0 MX0_wide [vR 400, vI s, vI w] (v, T) Q := by
  have no : ¬ ((0 ≤ s ∧ s ≤ 2) ∧ (1 ≤ w ∧ w ≤ 99) ∧ fuA A X s ≤ w) → ∀ u, jkq v u → jW bX0_wide (g, d + 113, 0, 0, Q) 1 [some (vR 400), some (vI s), some (vI w)] [] (u, T) 0 0 := by
    intro hh u hu
    have hV := hu.pv hV
    refine jW_step ?_
    simp (disch := (first | decide | omega)) only [bX0_wide, jxs, hps, jtsw, jlsw, List.length_cons, List.length_nil, true_and, and_true, true_implies, false_implies, implies_true, not_true_eq_false, not_false_eq_true, false_and, and_false, if_true, if_false, or_true, true_or, or_false, false_or, Classical.not_not, and_self, Int.reduceAdd, Int.reduceMul, Int.reduceSub, Int.reduceNeg, Int.reduceLT, Int.reduceLE, Int.reduceEq, Int.reduceNe, Int.reduceToNat, Nat.reduceAdd, Nat.reduceMul, Nat.reduceSub, Nat.reduceLeDiff, Nat.reduceLT, Nat.reduceEqDiff, reduceIte, Nat.zero_le, Nat.le_refl, Nat.add_zero, Nat.zero_add, xwT hT, xwV hV]
    (repeat (refine And.intro (by (first | omega | assumption | trivial | (simp only [inI]; omega) | (simp only [inL]; omega) | (refine jb_01) | (exact jb_in))) ?_))
    exact hQ.2 hh u hu
  refine jmet_of (ls := [some (vR 400), some (vI s), some (vI w)]) sX0_wide rfl (by decide +kernel) (by decide) rfl (by simp [jent]) ?_
  refine jW_step ?_
  simp (disch := (first | decide | omega)) only [bX0_wide, jxs, hps, jtsw, jlsw, List.length_cons, List.length_nil, true_and, and_true, true_implies, false_implies, implies_true, not_true_eq_false, not_false_eq_true, false_and, and_false, if_true, if_false, or_true, true_or, or_false, false_or, Classical.not_not, and_self, Int.reduceAdd, Int.reduceMul, Int.reduceSub, Int.reduceNeg, Int.reduceLT, Int.reduceLE, Int.reduceEq, Int.reduceNe, Int.reduceToNat, Nat.reduceAdd, Nat.reduceMul, Nat.reduceSub, Nat.reduceLeDiff, Nat.reduceLT, Nat.reduceEqDiff, reduceIte, Nat.zero_le, Nat.le_refl, Nat.add_zero, Nat.zero_add, xwT hT, xwV hV]
  refine ⟨0, 0, ⟨by omega, by omega⟩, xw_isShelf ?_⟩
  simp (disch := (first | decide | omega)) only [jxs, hps, jtsw, jlsw, List.length_cons, List.length_nil, true_and, and_true, true_implies, false_implies, implies_true, not_true_eq_false, not_false_eq_true, false_and, and_false, if_true, if_false, or_true, true_or, or_false, false_or, Classical.not_not, and_self, Int.reduceAdd, Int.reduceMul, Int.reduceSub, Int.reduceNeg, Int.reduceLT, Int.reduceLE, Int.reduceEq, Int.reduceNe, Int.reduceToNat, Nat.reduceAdd, Nat.reduceMul, Nat.reduceSub, Nat.reduceLeDiff, Nat.reduceLT, Nat.reduceEqDiff, reduceIte, Nat.zero_le, Nat.le_refl, Nat.add_zero, Nat.zero_add, xwT hT, xwV hV]
  refine ⟨fun h => ?_, fun h => ?_⟩
  · exact no (fun x => h x.1) v (jkq.rf hC.nm)
  refine ⟨0, 0, ⟨by omega, by omega⟩, xw_in ?_⟩
  simp (disch := (first | decide | omega)) only [jxs, hps, jtsw, jlsw, List.length_cons, List.length_nil, true_and, and_true, true_implies, false_implies, implies_true, not_true_eq_false, not_false_eq_true, false_and, and_false, if_true, if_false, or_true, true_or, or_false, false_or, Classical.not_not, and_self, Int.reduceAdd, Int.reduceMul, Int.reduceSub, Int.reduceNeg, Int.reduceLT, Int.reduceLE, Int.reduceEq, Int.reduceNe, Int.reduceToNat, Nat.reduceAdd, Nat.reduceMul, Nat.reduceSub, Nat.reduceLeDiff, Nat.reduceLT, Nat.reduceEqDiff, reduceIte, Nat.zero_le, Nat.le_refl, Nat.add_zero, Nat.zero_add, xwT hT, xwV hV]
  refine ⟨fun h2 => ?_, fun h2 => ?_⟩
  · exact no (fun x => h2 x.2.1) v (jkq.rf hC.nm)
  have hs : 0 ≤ s ∧ s < 3 := by omega
  refine ⟨0, 0, ⟨by omega, by omega⟩, xw_fullOf hT hV hC hH hs ?_⟩
  intro u hu
  have hVu := hu.pv hV
  have hCu := hu.ci hC
  have c8 := hCu.2.2.2.2.2.2.1
  have hq := hCu.1.1
  have hV0 := hV
  have hV := hVu
  simp (disch := (first | decide | omega)) only [jxs, hps, jtsw, jlsw, List.length_cons, List.length_nil, true_and, and_true, true_implies, false_implies, implies_true, not_true_eq_false, not_false_eq_true, false_and, and_false, if_true, if_false, or_true, true_or, or_false, false_or, Classical.not_not, and_self, Int.reduceAdd, Int.reduceMul, Int.reduceSub, Int.reduceNeg, Int.reduceLT, Int.reduceLE, Int.reduceEq, Int.reduceNe, Int.reduceToNat, Nat.reduceAdd, Nat.reduceMul, Nat.reduceSub, Nat.reduceLeDiff, Nat.reduceLT, Nat.reduceEqDiff, reduceIte, Nat.zero_le, Nat.le_refl, Nat.add_zero, Nat.zero_add, xwT hT, xwV hV]
  refine ⟨fun h3 => ?_, fun h3 => ?_⟩
  · have ci := hCu.hdr (f' := u 402) (g' := up1 (u 403) s w) (A' := up1 A (10 + s) w) ⟨by rw [up1_ne (by omega)]; exact hq.1, by rw [up1_ne (by omega)]; exact hq.2.1, by rw [up1_ne (by omega)]; exact hq.2.2.1, by rw [up1_ne (by omega)]; exact hq.2.2.2.1, by rw [up1_ne (by omega)]; exact hq.2.2.2.2.1, by rw [up1_ne (by omega)]; exact hq.2.2.2.2.2⟩ (fun t t0 t1 => by
      by_cases e : t = s
      · rw [e, up1_eq, up1_eq]
      · rw [up1_ne e, up1_ne (by omega)]; exact hCu.w ⟨t0, t1⟩) (fun i _ _ _ i4 => up1_ne (by omega)) (hCu.tb.hd (by omega)) (by rw [up1_ne (by omega)]; omega)
    rw [upA_id] at ci
    (repeat (refine And.intro (by (first | omega | assumption | trivial | (simp only [inI]; omega) | (simp only [inL]; omega) | (refine jb_01) | (exact jb_in))) ?_))
    exact hQ.1 ⟨h, h2, h3⟩ _ ci ((hu.M hV0).tr (jkM.up hVu (by omega)))
  · exact no (fun x => h3 x.2.2) u hu
theorem xw_fault {w : Int} (hT : PT T) (hV : PV v) (hQ : Q (.inl (some (vI (if w = 0 then v 400 4 else if w = 1 then v 400 5 else -1)))) (v, T)) : jmet g (d + 1) 0 0 MX0_fault [vR 400, vI w] (v, T) Q := by
  have k1 : ∀ z, Q (.inl (some (vI z))) (v, T) → jW bX0_fault (g, d, 0, 0, Q) 1 [some (vR 400), some (vI w)] [vI z] (v, T) 0 0 := by
    intro z hz
    refine jW_step ?_
    simp (disch := (first | decide | omega)) only [bX0_fault, jxs, hps, jtsw, jlsw, List.length_cons, List.length_nil, true_and, and_true, true_implies, false_implies, implies_true, not_true_eq_false, not_false_eq_true, false_and, and_false, if_true, if_false, or_true, true_or, or_false, false_or, Classical.not_not, and_self, Int.reduceAdd, Int.reduceMul, Int.reduceSub, Int.reduceNeg, Int.reduceLT, Int.reduceLE, Int.reduceEq, Int.reduceNe, Int.reduceToNat, Nat.reduceAdd, Nat.reduceMul, Nat.reduceSub, Nat.reduceLeDiff, Nat.reduceLT, Nat.reduceEqDiff, reduceIte, Nat.zero_le, Nat.le_refl, Nat.add_zero, Nat.zero_add, xwT hT, xwV hV]
    (repeat (refine And.intro (by (first | omega | assumption | trivial | (simp only [inI]; omega) | (simp only [inL]; omega) | (refine jb_01) | (exact jb_in))) ?_))
    exact hz
  refine jmet_of (ls := [some (vR 400), some (vI w)]) sX0_fault rfl (by decide +kernel) (by decide) rfl (by simp [jent]) ?_
  refine jW_step ?_
  simp (disch := (first | decide | omega)) only [bX0_fault, jxs, hps, jtsw, jlsw, List.length_cons, List.length_nil, true_and, and_true, true_implies, false_implies, implies_true, not_true_eq_false, not_false_eq_true, false_and, and_false, if_true, if_false, or_true, true_or, or_false, false_or, Classical.not_not, and_self, Int.reduceAdd, Int.reduceMul, Int.reduceSub, Int.reduceNeg, Int.reduceLT, Int.reduceLE, Int.reduceEq, Int.reduceNe, Int.reduceToNat, Nat.reduceAdd, Nat.reduceMul, Nat.reduceSub, Nat.reduceLeDiff, Nat.reduceLT, Nat.reduceEqDiff, reduceIte, Nat.zero_le, Nat.le_refl, Nat.add_zero, Nat.zero_add, xwT hT, xwV hV]
  refine ⟨fun h => ?_, fun h => ?_⟩
  · rw [if_neg h] at hQ
    refine ⟨fun h2 => ?_, fun h2 => ?_⟩
    · rw [if_neg h2] at hQ
      exact k1 _ hQ
    · rw [if_pos (by omega)] at hQ
      (repeat (refine And.intro (by (first | omega | assumption | trivial | (simp only [inI]; omega) | (simp only [inL]; omega) | (refine jb_01) | (exact jb_in))) ?_))
      exact k1 _ hQ
  · rw [if_pos (by omega)] at hQ
    (repeat (refine And.intro (by (first | omega | assumption | trivial | (simp only [inI]; omega) | (simp only [inL]; omega) | (refine jb_01) | (exact jb_in))) ?_))
    exact k1 _ hQ
theorem xw_end {n : Int} (hT : PT T) (hV : PV v) (hQ : ((0 ≤ n ∧ n ≤ v 400 3) → Q (.inl (some (vI n))) (upA v 400 (up1 (v 400) 3 n), T)) ∧ (¬ (0 ≤ n ∧ n ≤ v 400 3) → Q (.inl (some (vI (-1)))) (v, T))) : jmet g (d + 2) 0 0 MX0_end [vR 400, vI n] (v, T) Q := by
  refine jmet_of (ls := [some (vR 400), some (vI n)]) sX0_end rfl (by decide +kernel) (by decide) rfl (by simp [jent]) ?_
  refine jW_step ?_
  simp (disch := (first | decide | omega)) only [bX0_end, jxs, hps, jtsw, jlsw, List.length_cons, List.length_nil, true_and, and_true, true_implies, false_implies, implies_true, not_true_eq_false, not_false_eq_true, false_and, and_false, if_true, if_false, or_true, true_or, or_false, false_or, Classical.not_not, and_self, Int.reduceAdd, Int.reduceMul, Int.reduceSub, Int.reduceNeg, Int.reduceLT, Int.reduceLE, Int.reduceEq, Int.reduceNe, Int.reduceToNat, Nat.reduceAdd, Nat.reduceMul, Nat.reduceSub, Nat.reduceLeDiff, Nat.reduceLT, Nat.reduceEqDiff, reduceIte, Nat.zero_le, Nat.le_refl, Nat.add_zero, Nat.zero_add, xwT hT, xwV hV]
  (repeat (refine And.intro (by (first | omega | assumption | trivial | (simp only [inI]; omega) | (simp only [inL]; omega) | (refine jb_01) | (exact jb_in))) ?_))
  refine ⟨0, 0, ⟨by omega, by omega⟩, xw_in ?_⟩
  simp (disch := (first | decide | omega)) only [jxs, hps, jtsw, jlsw, List.length_cons, List.length_nil, true_and, and_true, true_implies, false_implies, implies_true, not_true_eq_false, not_false_eq_true, false_and, and_false, if_true, if_false, or_true, true_or, or_false, false_or, Classical.not_not, and_self, Int.reduceAdd, Int.reduceMul, Int.reduceSub, Int.reduceNeg, Int.reduceLT, Int.reduceLE, Int.reduceEq, Int.reduceNe, Int.reduceToNat, Nat.reduceAdd, Nat.reduceMul, Nat.reduceSub, Nat.reduceLeDiff, Nat.reduceLT, Nat.reduceEqDiff, reduceIte, Nat.zero_le, Nat.le_refl, Nat.add_zero, Nat.zero_add, xwT hT, xwV hV]
  refine ⟨fun h => ?_, fun h => ?_⟩
  · (repeat (refine And.intro (by (first | omega | assumption | trivial | (simp only [inI]; omega) | (simp only [inL]; omega) | (refine jb_01) | (exact jb_in))) ?_))
    exact hQ.1 h
  · (repeat (refine And.intro (by (first | omega | assumption | trivial | (simp only [inI]; omega) | (simp only [inL]; omega) | (refine jb_01) | (exact jb_in))) ?_))
    exact hQ.2 h
end XG
