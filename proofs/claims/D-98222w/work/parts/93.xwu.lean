/-! ===== the class: nudge, take, put, wet ===== -/
-- MODE X
set_option maxRecDepth 100000
/-- the state's numbers, names and changes alone differ -/
def jkM (v w : Int → Int → Int) : Prop := (∀ a, (a < 402 ∨ 459 < a) → a ≠ 522 → a ≠ 523 → w a = v a) ∧ PV w
theorem jkM.pv {v w : Int → Int → Int} (h : jkM v w) : PV w := h.2
theorem jkM.tr {u v w : Int → Int → Int} (h : jkM u v) (h2 : jkM v w) : jkM u w := ⟨fun a a0 a1 a2 => (h2.1 a a0 a1 a2).trans (h.1 a a0 a1 a2), h2.2⟩
theorem jkM.rf {v : Int → Int → Int} (hV : PV v) : jkM v v := ⟨fun _ _ _ _ => rfl, hV⟩
theorem jkS.M {v w : Int → Int → Int} (h : jkS v w) (hV : PV v) : jkM v w := ⟨fun a a0 _ _ => h a (by omega) (by omega), h.pv hV⟩
theorem jkR.M {v w : Int → Int → Int} (h : jkR v w) (hV : PV v) : jkM v w := ⟨fun a a0 a1 _ => h a (by omega) a1, h.pv hV⟩
theorem jkz.M {v w : Int → Int → Int} (h : jkz v w) (hV : PV v) : jkM v w := ⟨fun a a0 a1 a2 => h.1 a a1 a2, h.pv hV⟩
theorem jkq.M {v w : Int → Int → Int} (h : jkq v w) (hV : PV v) : jkM v w := h.z.M hV
section XG
variable {g : jjG} {d : Nat} {T : jjT} {Q : jjQ} {A X : Int → Int} {v : Int → Int → Int}
theorem xw_placeOf_1 {b s p : Int} (hT : PT T) (hV : PV v) (hC : CI (v, T) A X) (hs : 0 ≤ s ∧ s < 3) (hp : 0 ≤ p ∧ p < A (13 + s)) (he : A (16 + 10 * s + p) = b) (hn : ∀ q, 0 ≤ q → q < p → ¬ A (16 + 10 * s + q) = b) (hQ : Q (.inl (some (vI p))) (v, T)) : ∀ (n : Nat) (q : Int), 0 ≤ q → q + n = p →
    jW bX1_placeOf (g, d + 1, 0, 0, Q) 1 [some (vR 401), some (vI b), some (vI s), some (vI q)] [] (v, T) 0 0 := by
  have hm := hC.tb.2.2.2.2.2.1 (13 + s) (by omega) (by omega)
  intro n
  induction n with
  | zero =>
    intro q q0 qn
    have e : q = p := by omega
    refine jW_step ?_
    simp (disch := (first | decide | omega)) only [bX1_placeOf, jxs, hps, jtsw, jlsw, List.length_cons, List.length_nil, true_and, and_true, true_implies, false_implies, implies_true, not_true_eq_false, not_false_eq_true, false_and, and_false, if_true, if_false, or_true, true_or, or_false, false_or, Classical.not_not, and_self, Int.reduceAdd, Int.reduceMul, Int.reduceSub, Int.reduceNeg, Int.reduceLT, Int.reduceLE, Int.reduceEq, Int.reduceNe, Int.reduceToNat, Nat.reduceAdd, Nat.reduceMul, Nat.reduceSub, Nat.reduceLeDiff, Nat.reduceLT, Nat.reduceEqDiff, reduceIte, Nat.zero_le, Nat.le_refl, Nat.add_zero, Nat.zero_add, xwT hT, xwV hV]
    refine ⟨0, 0, ⟨by omega, by omega⟩, xw_bookAt hT hV hC hs ⟨q0, by omega⟩ ?_⟩
    rw [e, he]
    simp (disch := (first | decide | omega)) only [jxs, hps, jtsw, jlsw, List.length_cons, List.length_nil, true_and, and_true, true_implies, false_implies, implies_true, not_true_eq_false, not_false_eq_true, false_and, and_false, if_true, if_false, or_true, true_or, or_false, false_or, Classical.not_not, and_self, Int.reduceAdd, Int.reduceMul, Int.reduceSub, Int.reduceNeg, Int.reduceLT, Int.reduceLE, Int.reduceEq, Int.reduceNe, Int.reduceToNat, Nat.reduceAdd, Nat.reduceMul, Nat.reduceSub, Nat.reduceLeDiff, Nat.reduceLT, Nat.reduceEqDiff, reduceIte, Nat.zero_le, Nat.le_refl, Nat.add_zero, Nat.zero_add, xwT hT, xwV hV]
    (repeat (refine And.intro (by (first | omega | assumption | trivial | (simp only [inI]; omega) | (simp only [inL]; omega) | (refine jb_01) | (exact jb_in))) ?_))
    exact hQ
  | succ n ih =>
    intro q q0 qn
    have ne := hn q q0 (by omega)
    refine jW_step ?_
    simp (disch := (first | decide | omega)) only [bX1_placeOf, jxs, hps, jtsw, jlsw, List.length_cons, List.length_nil, true_and, and_true, true_implies, false_implies, implies_true, not_true_eq_false, not_false_eq_true, false_and, and_false, if_true, if_false, or_true, true_or, or_false, false_or, Classical.not_not, and_self, Int.reduceAdd, Int.reduceMul, Int.reduceSub, Int.reduceNeg, Int.reduceLT, Int.reduceLE, Int.reduceEq, Int.reduceNe, Int.reduceToNat, Nat.reduceAdd, Nat.reduceMul, Nat.reduceSub, Nat.reduceLeDiff, Nat.reduceLT, Nat.reduceEqDiff, reduceIte, Nat.zero_le, Nat.le_refl, Nat.add_zero, Nat.zero_add, xwT hT, xwV hV]
    refine ⟨0, 0, ⟨by omega, by omega⟩, xw_bookAt hT hV hC hs ⟨q0, by omega⟩ ?_⟩
    simp (disch := (first | decide | omega)) only [jxs, hps, jtsw, jlsw, List.length_cons, List.length_nil, true_and, and_true, true_implies, false_implies, implies_true, not_true_eq_false, not_false_eq_true, false_and, and_false, if_true, if_false, or_true, true_or, or_false, false_or, Classical.not_not, and_self, Int.reduceAdd, Int.reduceMul, Int.reduceSub, Int.reduceNeg, Int.reduceLT, Int.reduceLE, Int.reduceEq, Int.reduceNe, Int.reduceToNat, Nat.reduceAdd, Nat.reduceMul, Nat.reduceSub, Nat.reduceLeDiff, Nat.reduceLT, Nat.reduceEqDiff, reduceIte, Nat.zero_le, Nat.le_refl, Nat.add_zero, Nat.zero_add, xwT hT, xwV hV]
    refine ⟨fun h => absurd h ne, fun _ => ?_⟩
    (repeat (refine And.intro (by (first | omega | assumption | trivial | (simp only [inI]; omega) | (simp only [inL]; omega) | (refine jb_01) | (exact jb_in))) ?_))
    exact ih (q + 1) (by omega) (by omega)
theorem xw_placeOf {b : Int} (hT : PT T) (hV : PV v) (hC : CI (v, T) A X) (hH : SH A) (hb : 0 ≤ b ∧ b < A 0) (hw : A (46 + 6 * b + 5) < 3) (hQ : Q (.inl (some (vI (plA A b)))) (v, T)) : jmet g (d + 2) 0 0 MX1_placeOf [vR 401, vI b] (v, T) Q := by
  have pl := plA_ok hC.tb hH hb hw
  have h0 := hC.tb.1
  have e := hC.h hb
  refine jmet_of (ls := [some (vR 401), some (vI b), none, none]) sX1_placeOf rfl (by decide +kernel) (by decide) rfl (by simp [jent]) ?_
  refine jW_step ?_
  simp (disch := (first | decide | omega)) only [bX1_placeOf, jxs, hps, jtsw, jlsw, List.length_cons, List.length_nil, true_and, and_true, true_implies, false_implies, implies_true, not_true_eq_false, not_false_eq_true, false_and, and_false, if_true, if_false, or_true, true_or, or_false, false_or, Classical.not_not, and_self, Int.reduceAdd, Int.reduceMul, Int.reduceSub, Int.reduceNeg, Int.reduceLT, Int.reduceLE, Int.reduceEq, Int.reduceNe, Int.reduceToNat, Nat.reduceAdd, Nat.reduceMul, Nat.reduceSub, Nat.reduceLeDiff, Nat.reduceLT, Nat.reduceEqDiff, reduceIte, Nat.zero_le, Nat.le_refl, Nat.add_zero, Nat.zero_add, xwT hT, xwV hV, e]
  (repeat (refine And.intro (by (first | omega | assumption | trivial | (simp only [inI]; omega) | (simp only [inL]; omega) | (refine jb_01) | (exact jb_in))) ?_))
  exact xw_placeOf_1 hT hV hC pl.1 pl.2.1 pl.2.2.1 pl.2.2.2 hQ (plA A b).toNat 0 (by omega) (by omega)
theorem xw_nudge {s p f : Int} (hT : PT T) (hV : PV v) (hC : CI (v, T) A X) (hS : SH A ∧ SI A) (hQ : ∀ w, CI (w, T) (opNudge A f s p).1 X → jkM v w → Q (.inl (some (vI (opNudge A f s p).2.2))) (w, T)) : jmet g (d + 3) 0 0 MX0_nudge [vR 400, vI s, vI p] (v, T) Q := by
  obtain ⟨hH, hI⟩ := hS
  have hB := hC.tb
  have h7 := hC.2.2.2.2.2.1
  unfold opNudge at hQ
  refine jmet_of (ls := [some (vR 400), some (vI s), some (vI p), none, none]) sX0_nudge rfl (by decide +kernel) (by decide) rfl (by simp [jent]) ?_
  refine jW_step ?_
  simp (disch := (first | decide | omega)) only [bX0_nudge, jxs, hps, jtsw, jlsw, List.length_cons, List.length_nil, true_and, and_true, true_implies, false_implies, implies_true, not_true_eq_false, not_false_eq_true, false_and, and_false, if_true, if_false, or_true, true_or, or_false, false_or, Classical.not_not, and_self, Int.reduceAdd, Int.reduceMul, Int.reduceSub, Int.reduceNeg, Int.reduceLT, Int.reduceLE, Int.reduceEq, Int.reduceNe, Int.reduceToNat, Nat.reduceAdd, Nat.reduceMul, Nat.reduceSub, Nat.reduceLeDiff, Nat.reduceLT, Nat.reduceEqDiff, reduceIte, Nat.zero_le, Nat.le_refl, Nat.add_zero, Nat.zero_add, xwT hT, xwV hV]
  refine ⟨0, 0, ⟨by omega, by omega⟩, xw_isShelf ?_⟩
  simp (disch := (first | decide | omega)) only [jxs, hps, jtsw, jlsw, List.length_cons, List.length_nil, true_and, and_true, true_implies, false_implies, implies_true, not_true_eq_false, not_false_eq_true, false_and, and_false, if_true, if_false, or_true, true_or, or_false, false_or, Classical.not_not, and_self, Int.reduceAdd, Int.reduceMul, Int.reduceSub, Int.reduceNeg, Int.reduceLT, Int.reduceLE, Int.reduceEq, Int.reduceNe, Int.reduceToNat, Nat.reduceAdd, Nat.reduceMul, Nat.reduceSub, Nat.reduceLeDiff, Nat.reduceLT, Nat.reduceEqDiff, reduceIte, Nat.zero_le, Nat.le_refl, Nat.add_zero, Nat.zero_add, xwT hT, xwV hV]
  refine ⟨fun h => ?_, fun h => ?_⟩
  · rw [if_neg (fun x => h x.1)] at hQ
    refine jW_step ?_
    simp (disch := (first | decide | omega)) only [bX0_nudge, jxs, hps, jtsw, jlsw, List.length_cons, List.length_nil, true_and, and_true, true_implies, false_implies, implies_true, not_true_eq_false, not_false_eq_true, false_and, and_false, if_true, if_false, or_true, true_or, or_false, false_or, Classical.not_not, and_self, Int.reduceAdd, Int.reduceMul, Int.reduceSub, Int.reduceNeg, Int.reduceLT, Int.reduceLE, Int.reduceEq, Int.reduceNe, Int.reduceToNat, Nat.reduceAdd, Nat.reduceMul, Nat.reduceSub, Nat.reduceLeDiff, Nat.reduceLT, Nat.reduceEqDiff, reduceIte, Nat.zero_le, Nat.le_refl, Nat.add_zero, Nat.zero_add, xwT hT, xwV hV]
    (repeat (refine And.intro (by (first | omega | assumption | trivial | (simp only [inI]; omega) | (simp only [inL]; omega) | (refine jb_01) | (exact jb_in))) ?_))
    exact hQ v hC (jkM.rf hV)
  have hs : 0 ≤ s ∧ s < 3 := by omega
  have hm := hB.2.2.2.2.2.1 (13 + s) (by omega) (by omega)
  refine ⟨0, 0, ⟨by omega, by omega⟩, xw_many hT hV hC hs ?_⟩
  simp (disch := (first | decide | omega)) only [jxs, hps, jtsw, jlsw, List.length_cons, List.length_nil, true_and, and_true, true_implies, false_implies, implies_true, not_true_eq_false, not_false_eq_true, false_and, and_false, if_true, if_false, or_true, true_or, or_false, false_or, Classical.not_not, and_self, Int.reduceAdd, Int.reduceMul, Int.reduceSub, Int.reduceNeg, Int.reduceLT, Int.reduceLE, Int.reduceEq, Int.reduceNe, Int.reduceToNat, Nat.reduceAdd, Nat.reduceMul, Nat.reduceSub, Nat.reduceLeDiff, Nat.reduceLT, Nat.reduceEqDiff, reduceIte, Nat.zero_le, Nat.le_refl, Nat.add_zero, Nat.zero_add, xwT hT, xwV hV]
  (repeat (refine And.intro (by (first | omega | assumption | trivial | (simp only [inI]; omega) | (simp only [inL]; omega) | (refine jb_01) | (exact jb_in))) ?_))
  refine ⟨0, 0, ⟨by omega, by omega⟩, xw_in ?_⟩
  simp (disch := (first | decide | omega)) only [jxs, hps, jtsw, jlsw, List.length_cons, List.length_nil, true_and, and_true, true_implies, false_implies, implies_true, not_true_eq_false, not_false_eq_true, false_and, and_false, if_true, if_false, or_true, true_or, or_false, false_or, Classical.not_not, and_self, Int.reduceAdd, Int.reduceMul, Int.reduceSub, Int.reduceNeg, Int.reduceLT, Int.reduceLE, Int.reduceEq, Int.reduceNe, Int.reduceToNat, Nat.reduceAdd, Nat.reduceMul, Nat.reduceSub, Nat.reduceLeDiff, Nat.reduceLT, Nat.reduceEqDiff, reduceIte, Nat.zero_le, Nat.le_refl, Nat.add_zero, Nat.zero_add, xwT hT, xwV hV]
  refine ⟨fun h2 => ?_, fun h2 => ?_⟩
  · rw [if_pos ⟨h, h2⟩] at hQ
    refine ⟨0, 0, ⟨by omega, by omega⟩, xw_keeps hT hV hC hI ?_⟩
    intro w hCw jw w4
    have hVw := jw.pv hV
    have km : keepA A (13 + s) = A (13 + s) := keepA_p h7 (by omega) (by omega)
    have kp : keepA A (16 + 10 * s + (p + 1)) = A (16 + 10 * s + (p + 1)) := keepA_p h7 (by omega) (by omega)
    have ci := hCw.exc hs (p := p) (by rw [km]; omega)
    have e := hCw.p hs (p := p + 1) (by rw [km]; omega)
    rw [show 11 * s + 1 + (p + 1) = 11 * s + 1 + p + 1 by omega, kp] at e
    have hV0 := hV
    have hV := hVw
    simp (disch := (first | decide | omega)) only [jxs, hps, jtsw, jlsw, List.length_cons, List.length_nil, true_and, and_true, true_implies, false_implies, implies_true, not_true_eq_false, not_false_eq_true, false_and, and_false, if_true, if_false, or_true, true_or, or_false, false_or, Classical.not_not, and_self, Int.reduceAdd, Int.reduceMul, Int.reduceSub, Int.reduceNeg, Int.reduceLT, Int.reduceLE, Int.reduceEq, Int.reduceNe, Int.reduceToNat, Nat.reduceAdd, Nat.reduceMul, Nat.reduceSub, Nat.reduceLeDiff, Nat.reduceLT, Nat.reduceEqDiff, reduceIte, Nat.zero_le, Nat.le_refl, Nat.add_zero, Nat.zero_add, xwT hT, xwV hV]
    (repeat (refine And.intro (by (first | omega | assumption | trivial | (simp only [inI]; omega) | (simp only [inL]; omega) | (refine jb_01) | (exact jb_in))) ?_))
    rw [← e] at hQ
    exact hQ _ ci ((jw.M hV0).tr ((jkR.up).M hVw))
  · rw [if_neg (fun x => h2 x.2)] at hQ
    refine jW_step ?_
    simp (disch := (first | decide | omega)) only [bX0_nudge, jxs, hps, jtsw, jlsw, List.length_cons, List.length_nil, true_and, and_true, true_implies, false_implies, implies_true, not_true_eq_false, not_false_eq_true, false_and, and_false, if_true, if_false, or_true, true_or, or_false, false_or, Classical.not_not, and_self, Int.reduceAdd, Int.reduceMul, Int.reduceSub, Int.reduceNeg, Int.reduceLT, Int.reduceLE, Int.reduceEq, Int.reduceNe, Int.reduceToNat, Nat.reduceAdd, Nat.reduceMul, Nat.reduceSub, Nat.reduceLeDiff, Nat.reduceLT, Nat.reduceEqDiff, reduceIte, Nat.zero_le, Nat.le_refl, Nat.add_zero, Nat.zero_add, xwT hT, xwV hV]
    (repeat (refine And.intro (by (first | omega | assumption | trivial | (simp only [inI]; omega) | (simp only [inL]; omega) | (refine jb_01) | (exact jb_in))) ?_))
    exact hQ v hC (jkM.rf hV)
theorem xw_take {b f : Int} (hT : PT T) (hV : PV v) (hC : CI (v, T) A X) (hS : SH A ∧ SI A) (hQ : ∀ w, CI (w, T) (opTake A f b).1 X → jkM v w → Q (.inl (some (vI (opTake A f b).2.2))) (w, T)) : jmet g (d + 4) 0 0 MX0_take [vR 400, vI b] (v, T) Q := by
  obtain ⟨hH, hI⟩ := hS
  have hB := hC.tb
  have h0 := hB.1
  have h7 := hC.2.2.2.2.2.1
  unfold opTake at hQ
  refine jmet_of (ls := [some (vR 400), some (vI b), none]) sX0_take rfl (by decide +kernel) (by decide) rfl (by simp [jent]) ?_
  refine jW_step ?_
  simp (disch := (first | decide | omega)) only [bX0_take, jxs, hps, jtsw, jlsw, List.length_cons, List.length_nil, true_and, and_true, true_implies, false_implies, implies_true, not_true_eq_false, not_false_eq_true, false_and, and_false, if_true, if_false, or_true, true_or, or_false, false_or, Classical.not_not, and_self, Int.reduceAdd, Int.reduceMul, Int.reduceSub, Int.reduceNeg, Int.reduceLT, Int.reduceLE, Int.reduceEq, Int.reduceNe, Int.reduceToNat, Nat.reduceAdd, Nat.reduceMul, Nat.reduceSub, Nat.reduceLeDiff, Nat.reduceLT, Nat.reduceEqDiff, reduceIte, Nat.zero_le, Nat.le_refl, Nat.add_zero, Nat.zero_add, xwT hT, xwV hV]
  refine ⟨0, 0, ⟨by omega, by omega⟩, xw_isBook hT hV hC ?_⟩
  simp (disch := (first | decide | omega)) only [jxs, hps, jtsw, jlsw, List.length_cons, List.length_nil, true_and, and_true, true_implies, false_implies, implies_true, not_true_eq_false, not_false_eq_true, false_and, and_false, if_true, if_false, or_true, true_or, or_false, false_or, Classical.not_not, and_self, Int.reduceAdd, Int.reduceMul, Int.reduceSub, Int.reduceNeg, Int.reduceLT, Int.reduceLE, Int.reduceEq, Int.reduceNe, Int.reduceToNat, Nat.reduceAdd, Nat.reduceMul, Nat.reduceSub, Nat.reduceLeDiff, Nat.reduceLT, Nat.reduceEqDiff, reduceIte, Nat.zero_le, Nat.le_refl, Nat.add_zero, Nat.zero_add, xwT hT, xwV hV]
  refine ⟨fun h => ?_, fun h => ?_⟩
  · rw [if_neg (fun x => h x.1)] at hQ
    refine jW_step ?_
    simp (disch := (first | decide | omega)) only [bX0_take, jxs, hps, jtsw, jlsw, List.length_cons, List.length_nil, true_and, and_true, true_implies, false_implies, implies_true, not_true_eq_false, not_false_eq_true, false_and, and_false, if_true, if_false, or_true, true_or, or_false, false_or, Classical.not_not, and_self, Int.reduceAdd, Int.reduceMul, Int.reduceSub, Int.reduceNeg, Int.reduceLT, Int.reduceLE, Int.reduceEq, Int.reduceNe, Int.reduceToNat, Nat.reduceAdd, Nat.reduceMul, Nat.reduceSub, Nat.reduceLeDiff, Nat.reduceLT, Nat.reduceEqDiff, reduceIte, Nat.zero_le, Nat.le_refl, Nat.add_zero, Nat.zero_add, xwT hT, xwV hV]
    (repeat (refine And.intro (by (first | omega | assumption | trivial | (simp only [inI]; omega) | (simp only [inL]; omega) | (refine jb_01) | (exact jb_in))) ?_))
    exact hQ v hC (jkM.rf hV)
  have hb : 0 ≤ b ∧ b < A 0 := by omega
  have wb := hB.2.2.2.2.2.2 (46 + 6 * b + 5) (by omega) (by omega)
  refine ⟨0, 0, ⟨by omega, by omega⟩, xw_whereIs hT hV hC hb ?_⟩
  simp (disch := (first | decide | omega)) only [jxs, hps, jtsw, jlsw, List.length_cons, List.length_nil, true_and, and_true, true_implies, false_implies, implies_true, not_true_eq_false, not_false_eq_true, false_and, and_false, if_true, if_false, or_true, true_or, or_false, false_or, Classical.not_not, and_self, Int.reduceAdd, Int.reduceMul, Int.reduceSub, Int.reduceNeg, Int.reduceLT, Int.reduceLE, Int.reduceEq, Int.reduceNe, Int.reduceToNat, Nat.reduceAdd, Nat.reduceMul, Nat.reduceSub, Nat.reduceLeDiff, Nat.reduceLT, Nat.reduceEqDiff, reduceIte, Nat.zero_le, Nat.le_refl, Nat.add_zero, Nat.zero_add, xwT hT, xwV hV]
  refine ⟨fun h2 => ?_, fun h2 => ?_⟩
  · rw [if_pos ⟨h, h2⟩] at hQ
    refine ⟨0, 0, ⟨by omega, by omega⟩, xw_keeps hT hV hC hI ?_⟩
    intro w hCw jw w4
    have hVw := jw.pv hV
    have hHw := keepA_SH hH hB h7
    have kb : keepA A (46 + 6 * b + 5) = A (46 + 6 * b + 5) := keepA_p h7 (by omega) (by omega)
    have k0 : keepA A 0 = A 0 := keepA_lo h7 (by omega) (by omega)
    have hV0 := hV
    have hV := hVw
    simp (disch := (first | decide | omega)) only [jxs, hps, jtsw, jlsw, List.length_cons, List.length_nil, true_and, and_true, true_implies, false_implies, implies_true, not_true_eq_false, not_false_eq_true, false_and, and_false, if_true, if_false, or_true, true_or, or_false, false_or, Classical.not_not, and_self, Int.reduceAdd, Int.reduceMul, Int.reduceSub, Int.reduceNeg, Int.reduceLT, Int.reduceLE, Int.reduceEq, Int.reduceNe, Int.reduceToNat, Nat.reduceAdd, Nat.reduceMul, Nat.reduceSub, Nat.reduceLeDiff, Nat.reduceLT, Nat.reduceEqDiff, reduceIte, Nat.zero_le, Nat.le_refl, Nat.add_zero, Nat.zero_add, xwT hT, xwV hV]
    refine ⟨0, 0, ⟨by omega, by omega⟩, xw_whereIs hT hVw hCw (by rw [k0]; exact hb) ?_⟩
    rw [kb]
    unfold tak at hQ
    simp (disch := (first | decide | omega)) only [jxs, hps, jtsw, jlsw, List.length_cons, List.length_nil, true_and, and_true, true_implies, false_implies, implies_true, not_true_eq_false, not_false_eq_true, false_and, and_false, if_true, if_false, or_true, true_or, or_false, false_or, Classical.not_not, and_self, Int.reduceAdd, Int.reduceMul, Int.reduceSub, Int.reduceNeg, Int.reduceLT, Int.reduceLE, Int.reduceEq, Int.reduceNe, Int.reduceToNat, Nat.reduceAdd, Nat.reduceMul, Nat.reduceSub, Nat.reduceLeDiff, Nat.reduceLT, Nat.reduceEqDiff, reduceIte, Nat.zero_le, Nat.le_refl, Nat.add_zero, Nat.zero_add, xwT hT, xwV hV]
    refine ⟨fun h3 => ?_, fun h3 => ?_⟩
    · rw [if_neg (by omega)] at hQ
      have ci := hCw.wh (b := b) (z := 3) (by rw [k0]; exact hb) (by omega)
      refine jW_step ?_
      simp (disch := (first | decide | omega)) only [bX0_take, jxs, hps, jtsw, jlsw, List.length_cons, List.length_nil, true_and, and_true, true_implies, false_implies, implies_true, not_true_eq_false, not_false_eq_true, false_and, and_false, if_true, if_false, or_true, true_or, or_false, false_or, Classical.not_not, and_self, Int.reduceAdd, Int.reduceMul, Int.reduceSub, Int.reduceNeg, Int.reduceLT, Int.reduceLE, Int.reduceEq, Int.reduceNe, Int.reduceToNat, Nat.reduceAdd, Nat.reduceMul, Nat.reduceSub, Nat.reduceLeDiff, Nat.reduceLT, Nat.reduceEqDiff, reduceIte, Nat.zero_le, Nat.le_refl, Nat.add_zero, Nat.zero_add, xwT hT, xwV hV]
      (repeat (refine And.intro (by (first | omega | assumption | trivial | (simp only [inI]; omega) | (simp only [inL]; omega) | (refine jb_01) | (exact jb_in))) ?_))
      exact hQ _ ci ((jw.M hV0).tr ((jkR.up).M hVw))
    · rw [if_pos (by omega)] at hQ
      have plw := plA_ok hCw.tb hHw (b := b) (by rw [k0]; exact hb) (by rw [kb]; omega)
      have ep : plA (keepA A) b = plA A b := by
        have pl := plA_ok hB hH hb (by omega)
        have hm := hB.2.2.2.2.2.1 (13 + A (46 + 6 * b + 5)) (by omega) (by omega)
        rw [kb] at plw
        have km : keepA A (13 + A (46 + 6 * b + 5)) = A (13 + A (46 + 6 * b + 5)) := keepA_p h7 (by omega) (by omega)
        rw [km] at plw
        have kk : ∀ q, 0 ≤ q → q < A (13 + A (46 + 6 * b + 5)) → keepA A (16 + 10 * A (46 + 6 * b + 5) + q) = A (16 + 10 * A (46 + 6 * b + 5) + q) := fun q q0 q1 => keepA_p h7 (by omega) (by omega)
        have e1 := plw.2.2.1
        rw [kk _ plw.2.1.1 plw.2.1.2] at e1
        exact hH.2.1 _ _ _ pl.1.1 pl.1.2 plw.2.1.1 plw.2.1.2 pl.2.1.1 pl.2.1.2 (e1.trans pl.2.2.1.symm)
      rw [ep, kb] at plw
      refine ⟨0, 0, ⟨by omega, by omega⟩, xw_placeOf hT hVw hCw hHw (by rw [k0]; exact hb) (by rw [kb]; omega) ?_⟩
      rw [ep]
      generalize A (46 + 6 * b + 5) = s at *
      generalize plA A b = p at *
      have ci := hCw.pull plw.1 plw.2.1 (to := 3) (by rw [plw.2.2.1, k0]; exact hb.2) (by omega)
      have em := hCw.m plw.1
      have hmw := hCw.tb.2.2.2.2.2.1 (13 + s) (by omega) (by omega)
      rw [plw.2.2.1] at ci
      simp (disch := (first | decide | omega)) only [jxs, hps, jtsw, jlsw, List.length_cons, List.length_nil, true_and, and_true, true_implies, false_implies, implies_true, not_true_eq_false, not_false_eq_true, false_and, and_false, if_true, if_false, or_true, true_or, or_false, false_or, Classical.not_not, and_self, Int.reduceAdd, Int.reduceMul, Int.reduceSub, Int.reduceNeg, Int.reduceLT, Int.reduceLE, Int.reduceEq, Int.reduceNe, Int.reduceToNat, Nat.reduceAdd, Nat.reduceMul, Nat.reduceSub, Nat.reduceLeDiff, Nat.reduceLT, Nat.reduceEqDiff, reduceIte, Nat.zero_le, Nat.le_refl, Nat.add_zero, Nat.zero_add, xwT hT, xwV hV]
      refine ⟨0, 0, ⟨by omega, by omega⟩, xw_removes hT hVw (by rw [em]; exact hmw) plw.1 (by rw [em]; exact plw.2.1) ?_⟩
      rw [em]
      have hVu : PV (upA w 404 (rmF (w 404) s p (keepA A (13 + s)))) := by (first | assumption | (repeat (first | assumption | refine PV.A ?_ (by decide) | refine PV.F ?_ ?_ | refine twR.up ?_ (by decide) | refine PV.r ?_)))
      have hV := hVu
      simp (disch := (first | decide | omega)) only [jxs, hps, jtsw, jlsw, List.length_cons, List.length_nil, true_and, and_true, true_implies, false_implies, implies_true, not_true_eq_false, not_false_eq_true, false_and, and_false, if_true, if_false, or_true, true_or, or_false, false_or, Classical.not_not, and_self, Int.reduceAdd, Int.reduceMul, Int.reduceSub, Int.reduceNeg, Int.reduceLT, Int.reduceLE, Int.reduceEq, Int.reduceNe, Int.reduceToNat, Nat.reduceAdd, Nat.reduceMul, Nat.reduceSub, Nat.reduceLeDiff, Nat.reduceLT, Nat.reduceEqDiff, reduceIte, Nat.zero_le, Nat.le_refl, Nat.add_zero, Nat.zero_add, xwT hT, xwV hV]
      refine jW_step ?_
      simp (disch := (first | decide | omega)) only [bX0_take, jxs, hps, jtsw, jlsw, List.length_cons, List.length_nil, true_and, and_true, true_implies, false_implies, implies_true, not_true_eq_false, not_false_eq_true, false_and, and_false, if_true, if_false, or_true, true_or, or_false, false_or, Classical.not_not, and_self, Int.reduceAdd, Int.reduceMul, Int.reduceSub, Int.reduceNeg, Int.reduceLT, Int.reduceLE, Int.reduceEq, Int.reduceNe, Int.reduceToNat, Nat.reduceAdd, Nat.reduceMul, Nat.reduceSub, Nat.reduceLeDiff, Nat.reduceLT, Nat.reduceEqDiff, reduceIte, Nat.zero_le, Nat.le_refl, Nat.add_zero, Nat.zero_add, xwT hT, xwV hV]
      (repeat (refine And.intro (by (first | omega | assumption | trivial | (simp only [inI]; omega) | (simp only [inL]; omega) | (refine jb_01) | (exact jb_in))) ?_))
      exact hQ _ ci ((jw.M hV0).tr ((jkR.up).M hVw))
  · rw [if_neg (fun x => x.2 (by omega))] at hQ
    refine jW_step ?_
    simp (disch := (first | decide | omega)) only [bX0_take, jxs, hps, jtsw, jlsw, List.length_cons, List.length_nil, true_and, and_true, true_implies, false_implies, implies_true, not_true_eq_false, not_false_eq_true, false_and, and_false, if_true, if_false, or_true, true_or, or_false, false_or, Classical.not_not, and_self, Int.reduceAdd, Int.reduceMul, Int.reduceSub, Int.reduceNeg, Int.reduceLT, Int.reduceLE, Int.reduceEq, Int.reduceNe, Int.reduceToNat, Nat.reduceAdd, Nat.reduceMul, Nat.reduceSub, Nat.reduceLeDiff, Nat.reduceLT, Nat.reduceEqDiff, reduceIte, Nat.zero_le, Nat.le_refl, Nat.add_zero, Nat.zero_add, xwT hT, xwV hV]
    (repeat (refine And.intro (by (first | omega | assumption | trivial | (simp only [inI]; omega) | (simp only [inL]; omega) | (refine jb_01) | (exact jb_in))) ?_))
    exact hQ v hC (jkM.rf hV)
theorem xw_wet {i f : Int} (hT : PT T) (hV : PV v) (hC : CI (v, T) A X) (hS : SH A ∧ SI A ∧ TW A ∧ (0 ≤ i ∧ i ≤ 1)) (hQ : ∀ w, CI (w, T) (opWet A X f i).1 X → jkM v w → Q (.inl (some (vI (opWet A X f i).2.2))) (w, T)) : jmet g (d + 115) 0 0 MX0_wet [vR 400, vI i] (v, T) Q := by
  obtain ⟨hH, hI, hW, hi⟩ := hS
  have hB := hC.tb
  have h7 := hC.2.2.2.2.2.1
  unfold opWet at hQ
  have k1 : jW bX0_wet (g, d + 114, 0, 0, Q) 1 [some (vR 400), some (vI i), none] [vI i] (v, T) 0 0 := by
    refine jW_step ?_
    simp (disch := (first | decide | omega)) only [bX0_wet, jxs, hps, jtsw, jlsw, List.length_cons, List.length_nil, true_and, and_true, true_implies, false_implies, implies_true, not_true_eq_false, not_false_eq_true, false_and, and_false, if_true, if_false, or_true, true_or, or_false, false_or, Classical.not_not, and_self, Int.reduceAdd, Int.reduceMul, Int.reduceSub, Int.reduceNeg, Int.reduceLT, Int.reduceLE, Int.reduceEq, Int.reduceNe, Int.reduceToNat, Nat.reduceAdd, Nat.reduceMul, Nat.reduceSub, Nat.reduceLeDiff, Nat.reduceLT, Nat.reduceEqDiff, reduceIte, Nat.zero_le, Nat.le_refl, Nat.add_zero, Nat.zero_add, xwT hT, xwV hV, hC.wet]
    (repeat (refine And.intro (by (first | omega | assumption | trivial | (simp only [inI]; omega) | (simp only [inL]; omega) | (refine jb_01) | (exact jb_in))) ?_))
    refine ⟨fun h => ?_, fun h => ?_⟩
    · rw [if_neg h] at hQ
      refine ⟨0, 0, ⟨by omega, by omega⟩, xw_keeps hT hV hC hI ?_⟩
      intro w hCw jw w4
      have hVw := jw.pv hV
      have hHw := keepA_SH hH hB h7
      have hWw := keepA_TW hW h7
      have hV0 := hV
      have hV := hVw
      have ci := hCw.num (i := 2) (k := 43) (z := i) (by omega) (fun _ => hi)
      have ju := (jw.M hV0).tr ((jkR.up (f := up1 (w 404) 43 i)).M hVw)
      simp (disch := (first | decide | omega)) only [jxs, hps, jtsw, jlsw, List.length_cons, List.length_nil, true_and, and_true, true_implies, false_implies, implies_true, not_true_eq_false, not_false_eq_true, false_and, and_false, if_true, if_false, or_true, true_or, or_false, false_or, Classical.not_not, and_self, Int.reduceAdd, Int.reduceMul, Int.reduceSub, Int.reduceNeg, Int.reduceLT, Int.reduceLE, Int.reduceEq, Int.reduceNe, Int.reduceToNat, Nat.reduceAdd, Nat.reduceMul, Nat.reduceSub, Nat.reduceLeDiff, Nat.reduceLT, Nat.reduceEqDiff, reduceIte, Nat.zero_le, Nat.le_refl, Nat.add_zero, Nat.zero_add, xwT hT, xwV hV]
      (repeat (refine And.intro (by (first | omega | assumption | trivial | (simp only [inI]; omega) | (simp only [inL]; omega) | (refine jb_01) | (exact jb_in))) ?_))
      by_cases e : i = 0
      · rw [if_pos e] at hQ
        refine ⟨fun _ => ?_, fun h9 => absurd e h9⟩
        rw [e] at ci ju ⊢
        refine jW_step ?_
        simp (disch := (first | decide | omega)) only [bX0_wet, jxs, hps, jtsw, jlsw, List.length_cons, List.length_nil, true_and, and_true, true_implies, false_implies, implies_true, not_true_eq_false, not_false_eq_true, false_and, and_false, if_true, if_false, or_true, true_or, or_false, false_or, Classical.not_not, and_self, Int.reduceAdd, Int.reduceMul, Int.reduceSub, Int.reduceNeg, Int.reduceLT, Int.reduceLE, Int.reduceEq, Int.reduceNe, Int.reduceToNat, Nat.reduceAdd, Nat.reduceMul, Nat.reduceSub, Nat.reduceLeDiff, Nat.reduceLT, Nat.reduceEqDiff, reduceIte, Nat.zero_le, Nat.le_refl, Nat.add_zero, Nat.zero_add, xwT hT, xwV hV]
        (repeat (refine And.intro (by (first | omega | assumption | trivial | (simp only [inI]; omega) | (simp only [inL]; omega) | (refine jb_01) | (exact jb_in))) ?_))
        exact hQ _ ci ju
      · rw [if_neg e] at hQ
        refine ⟨fun h9 => absurd h9 e, fun _ => ?_⟩
        have e1 : i = 1 := by omega
        rw [e1] at ci ju ⊢
        have hVu := ju.pv
        have hHu : SH (up1 (keepA A) 2 1) := hHw.ext (up1_ne (by omega)) (fun j j0 j1 => up1_ne (by omega)) hCw.tb
        have hWu : TW (up1 (keepA A) 2 1) := fun j j0 j1 => by rw [up1_ne (by omega)]; exact hWw j j0 j1
        refine ⟨0, 0, ⟨by omega, by omega⟩, xw_fall hT hVu ci hHu hWu ?_⟩
        intro y y1 y2 y3
        have hVy := y3.pv hVu
        have fb := fallA_ok (X := X) ci.tb
        have hV := hVy
        simp (disch := (first | decide | omega)) only [jxs, hps, jtsw, jlsw, List.length_cons, List.length_nil, true_and, and_true, true_implies, false_implies, implies_true, not_true_eq_false, not_false_eq_true, false_and, and_false, if_true, if_false, or_true, true_or, or_false, false_or, Classical.not_not, and_self, Int.reduceAdd, Int.reduceMul, Int.reduceSub, Int.reduceNeg, Int.reduceLT, Int.reduceLE, Int.reduceEq, Int.reduceNe, Int.reduceToNat, Nat.reduceAdd, Nat.reduceMul, Nat.reduceSub, Nat.reduceLeDiff, Nat.reduceLT, Nat.reduceEqDiff, reduceIte, Nat.zero_le, Nat.le_refl, Nat.add_zero, Nat.zero_add, xwT hT, xwV hV]
        refine jW_step ?_
        simp (disch := (first | decide | omega)) only [bX0_wet, jxs, hps, jtsw, jlsw, List.length_cons, List.length_nil, true_and, and_true, true_implies, false_implies, implies_true, not_true_eq_false, not_false_eq_true, false_and, and_false, if_true, if_false, or_true, true_or, or_false, false_or, Classical.not_not, and_self, Int.reduceAdd, Int.reduceMul, Int.reduceSub, Int.reduceNeg, Int.reduceLT, Int.reduceLE, Int.reduceEq, Int.reduceNe, Int.reduceToNat, Nat.reduceAdd, Nat.reduceMul, Nat.reduceSub, Nat.reduceLeDiff, Nat.reduceLT, Nat.reduceEqDiff, reduceIte, Nat.zero_le, Nat.le_refl, Nat.add_zero, Nat.zero_add, xwT hT, xwV hV]
        (repeat (refine And.intro (by (first | omega | assumption | trivial | (simp only [inI]; omega) | (simp only [inL]; omega) | (refine jb_01) | (exact jb_in))) ?_))
        exact hQ y y1 (ju.tr (y3.M hVu))
    · rw [if_pos (by omega)] at hQ
      (repeat (refine And.intro (by (first | omega | assumption | trivial | (simp only [inI]; omega) | (simp only [inL]; omega) | (refine jb_01) | (exact jb_in))) ?_))
      exact hQ v hC (jkM.rf hV)
  refine jmet_of (ls := [some (vR 400), some (vI i), none]) sX0_wet rfl (by decide +kernel) (by decide) rfl (by simp [jent]) ?_
  refine jW_step ?_
  simp (disch := (first | decide | omega)) only [bX0_wet, jxs, hps, jtsw, jlsw, List.length_cons, List.length_nil, true_and, and_true, true_implies, false_implies, implies_true, not_true_eq_false, not_false_eq_true, false_and, and_false, if_true, if_false, or_true, true_or, or_false, false_or, Classical.not_not, and_self, Int.reduceAdd, Int.reduceMul, Int.reduceSub, Int.reduceNeg, Int.reduceLT, Int.reduceLE, Int.reduceEq, Int.reduceNe, Int.reduceToNat, Nat.reduceAdd, Nat.reduceMul, Nat.reduceSub, Nat.reduceLeDiff, Nat.reduceLT, Nat.reduceEqDiff, reduceIte, Nat.zero_le, Nat.le_refl, Nat.add_zero, Nat.zero_add, xwT hT, xwV hV]
  refine ⟨fun h => ?_, fun h => ?_⟩
  · rw [h] at k1 ⊢
    exact k1
  · rw [show i = 1 by omega] at k1 ⊢
    exact k1
end XG
