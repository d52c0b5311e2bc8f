/-! ===== the class: rows laid out, rests ===== -/
-- MODE X
set_option maxRecDepth 100000
/-- only what is looked with differs -/
def jkK (v w : Int → Int → Int) : Prop := (∀ a, a ≠ 400 → (a < 522 ∨ 538 < a) → w a = v a) ∧ (∀ k, k ≠ 10 → k ≠ 13 → k ≠ 14 → w 400 k = v 400 k) ∧ okN (w 522) ∧ PV w
theorem jkK.ci {v w : Int → Int → Int} {T : jjT} {A X : Int → Int} (h : jkK v w) (q : CI (v, T) A X) : CI (w, T) A X := by
  have g : jGR (v, T) (w, T) := jGR_of (fun a ha => h.1 a (by unfold jfz at ha; omega) (by unfold jfz at ha; omega))
  exact ⟨q.1.fr q.2.2.2.1.1.2 q.2.2.2.2.2.1.2 q.2.2.2.2.2.2.1.2 (fun a a0 a1 => h.1 a (by omega) (by omega)) g, h.2.2.1, q.2.2.1.gr g, q.2.2.2⟩
theorem jkK.pv {v w : Int → Int → Int} (h : jkK v w) : PV w := h.2.2.2
theorem jkK.rf {v : Int → Int → Int} (hV : PV v) (h : okN (v 522)) : jkK v v := ⟨fun _ _ _ => rfl, fun _ _ _ _ => rfl, h, hV⟩
theorem jkK.tr {u v w : Int → Int → Int} (h : jkK u v) (h2 : jkK v w) : jkK u w := ⟨fun a a0 a1 => (h2.1 a a0 a1).trans (h.1 a a0 a1), fun k k0 k1 k2 => (h2.2.1 k k0 k1 k2).trans (h.2.1 k k0 k1 k2), h2.2.2⟩
theorem jkz.K {v w : Int → Int → Int} (h : jkz v w) (hV : PV v) : jkK v w := ⟨fun a a0 a1 => h.1 a (by omega) (by omega), fun k _ _ _ => by rw [h.1 400 (by omega) (by omega)], h.2, h.pv hV⟩
theorem jkq.K {v w : Int → Int → Int} (h : jkq v w) (hV : PV v) : jkK v w := h.z.K hV
theorem jkK.up {v : Int → Int → Int} {a : Int} {f : Int → Int} (hV : PV v) (h : okN (v 522)) (ha : (523 ≤ a ∧ a ≤ 538) ∧ a ≠ 530) : jkK v (upA v a f) := by
  refine ⟨fun b _ b1 => upA_ne (by omega), fun k _ _ _ => by rw [upA_ne (by omega)], by rw [upA_ne (by omega)]; exact h, hV.fr (fun b hb => upA_ne (fun e => ?_))⟩
  have key : ∀ b ∈ pvA, ¬ ((523 ≤ b ∧ b ≤ 538) ∧ b ≠ 530) := by decide
  exact key b hb (e ▸ ha)
theorem jkK.fd {v : Int → Int → Int} {k z : Int} (hV : PV v) (h : okN (v 522)) (hk : k = 10 ∨ k = 13 ∨ k = 14) : jkK v (upA v 400 (up1 (v 400) k z)) := by
  refine ⟨fun b b0 _ => upA_ne b0, fun j _ _ _ => by rw [upA_eq, up1_ne (by omega)], by rw [upA_ne (by omega)]; exact h, hV.F ((PV.r hV).up ?_)⟩
  rcases hk with rfl | rfl | rfl <;> decide
section XG
variable {g : jjG} {d : Nat} {T : jjT} {Q : jjQ} {A X : Int → Int}
theorem xw_isCalm_1 {R m : Int} {v : Int → Int → Int} (hT : PT T) (hV : PV v) (h0 : 0 ≤ A 0 ∧ A 0 ≤ 10) (hR : jok T R (-1) ∧ m ≤ jln T R) (hm : 0 ≤ m ∧ m ≤ 10) (hB : CHB (v 523) A X) (hN : RN (v R) m (A 0)) : ∀ (n : Nat) (p : Int), 0 ≤ p → m < p + n + 1 → p ≤ 20 →
    Q (.inl (some (vI (clmF (tbl A X) (v R) m n p)))) (v, T) → jW bX0_isCalm (g, d + 1, 0, 0, Q) 1 [some (vR 400), some (vR R), some (vI m), some (vI p)] [] (v, T) 0 0 := by
  obtain ⟨r1, r2⟩ := hR
  intro n
  induction n with
  | zero =>
    intro p hp hm2 hp2 hQ
    unfold clmF at hQ
    refine jW_step ?_
    simp (disch := (first | decide | omega)) only [bX0_isCalm, jxs, hps, jtsw, jlsw, List.length_cons, List.length_nil, true_and, and_true, true_implies, false_implies, implies_true, not_true_eq_false, not_false_eq_true, false_and, and_false, if_true, if_false, or_true, true_or, or_false, false_or, Classical.not_not, and_self, Int.reduceAdd, Int.reduceMul, Int.reduceSub, Int.reduceNeg, Int.reduceLT, Int.reduceLE, Int.reduceEq, Int.reduceNe, Int.reduceToNat, Nat.reduceAdd, Nat.reduceMul, Nat.reduceSub, Nat.reduceLeDiff, Nat.reduceLT, Nat.reduceEqDiff, reduceIte, Nat.zero_le, Nat.le_refl, Nat.add_zero, Nat.zero_add, xwT hT, xwV hV]
    (repeat (refine And.intro (by (first | omega | assumption | trivial | (simp only [inI]; omega) | (simp only [inL]; omega) | (refine jb_01) | (exact jb_in))) ?_))
    (try refine ⟨fun _ => ?_, fun h9 => (by exfalso; omega)⟩)
    (repeat (refine And.intro (by (first | omega | assumption | trivial | (simp only [inI]; omega) | (simp only [inL]; omega) | (refine jb_01) | (exact jb_in))) ?_))
    exact hQ
  | succ n ih =>
    intro p hp hm2 hp2 hQ
    unfold clmF at hQ
    refine jW_step ?_
    simp (disch := (first | decide | omega)) only [bX0_isCalm, jxs, hps, jtsw, jlsw, List.length_cons, List.length_nil, true_and, and_true, true_implies, false_implies, implies_true, not_true_eq_false, not_false_eq_true, false_and, and_false, if_true, if_false, or_true, true_or, or_false, false_or, Classical.not_not, and_self, Int.reduceAdd, Int.reduceMul, Int.reduceSub, Int.reduceNeg, Int.reduceLT, Int.reduceLE, Int.reduceEq, Int.reduceNe, Int.reduceToNat, Nat.reduceAdd, Nat.reduceMul, Nat.reduceSub, Nat.reduceLeDiff, Nat.reduceLT, Nat.reduceEqDiff, reduceIte, Nat.zero_le, Nat.le_refl, Nat.add_zero, Nat.zero_add, xwT hT, xwV hV, r1]
    (repeat (refine And.intro (by (first | omega | assumption | trivial | (simp only [inI]; omega) | (simp only [inL]; omega) | (refine jb_01) | (exact jb_in))) ?_))
    refine ⟨fun h => ?_, fun h => ?_⟩
    · rw [if_pos h] at hQ
      (repeat (refine And.intro (by (first | omega | assumption | trivial | (simp only [inI]; omega) | (simp only [inL]; omega) | (refine jb_01) | (exact jb_in))) ?_))
      exact hQ
    · rw [if_neg h] at hQ
      have a := hN p hp (by omega)
      have b := hN (p + 1) (by omega) (by omega)
      rw [tbl_at (by omega)] at hQ
      (repeat (refine And.intro (by (first | omega | assumption | trivial | (simp only [inI]; omega) | (simp only [inL]; omega) | (refine jb_01) | (exact jb_in))) ?_))
      refine ⟨0, 0, ⟨by omega, by omega⟩, xw_doChange hT hV h0 hB ⟨a, b⟩ ?_⟩
      simp (disch := (first | decide | omega)) only [jxs, hps, jtsw, jlsw, List.length_cons, List.length_nil, true_and, and_true, true_implies, false_implies, implies_true, not_true_eq_false, not_false_eq_true, false_and, and_false, if_true, if_false, or_true, true_or, or_false, false_or, Classical.not_not, and_self, Int.reduceAdd, Int.reduceMul, Int.reduceSub, Int.reduceNeg, Int.reduceLT, Int.reduceLE, Int.reduceEq, Int.reduceNe, Int.reduceToNat, Nat.reduceAdd, Nat.reduceMul, Nat.reduceSub, Nat.reduceLeDiff, Nat.reduceLT, Nat.reduceEqDiff, reduceIte, Nat.zero_le, Nat.le_refl, Nat.add_zero, Nat.zero_add, xwT hT, xwV hV]
      refine ⟨fun h2 => ?_, fun h2 => ?_⟩
      · rw [if_pos h2] at hQ
        (repeat (refine And.intro (by (first | omega | assumption | trivial | (simp only [inI]; omega) | (simp only [inL]; omega) | (refine jb_01) | (exact jb_in))) ?_))
        exact ih (p + 1) (by omega) (by omega) (by omega) hQ
      · rw [if_neg h2] at hQ
        (repeat (refine And.intro (by (first | omega | assumption | trivial | (simp only [inI]; omega) | (simp only [inL]; omega) | (refine jb_01) | (exact jb_in))) ?_))
        exact hQ
theorem xw_isCalm {R m : Int} {v : Int → Int → Int} (hT : PT T) (hV : PV v) (h0 : 0 ≤ A 0 ∧ A 0 ≤ 10) (hR : jok T R (-1) ∧ m ≤ jln T R) (hm : 0 ≤ m ∧ m ≤ 10) (hB : CHB (v 523) A X) (hN : RN (v R) m (A 0)) (hQ : Q (.inl (some (vI (clmR (tbl A X) (v R) m)))) (v, T)) : jmet g (d + 2) 0 0 MX0_isCalm [vR 400, vR R, vI m] (v, T) Q := by
  refine jmet_of (ls := [some (vR 400), some (vR R), some (vI m), none]) sX0_isCalm rfl (by decide +kernel) (by decide) rfl (by simp [jent]) ?_
  refine jW_step ?_
  simp (disch := (first | decide | omega)) only [bX0_isCalm, jxs, hps, jtsw, jlsw, List.length_cons, List.length_nil, true_and, and_true, true_implies, false_implies, implies_true, not_true_eq_false, not_false_eq_true, false_and, and_false, if_true, if_false, or_true, true_or, or_false, false_or, Classical.not_not, and_self, Int.reduceAdd, Int.reduceMul, Int.reduceSub, Int.reduceNeg, Int.reduceLT, Int.reduceLE, Int.reduceEq, Int.reduceNe, Int.reduceToNat, Nat.reduceAdd, Nat.reduceMul, Nat.reduceSub, Nat.reduceLeDiff, Nat.reduceLT, Nat.reduceEqDiff, reduceIte, Nat.zero_le, Nat.le_refl, Nat.add_zero, Nat.zero_add, xwT hT, xwV hV]
  exact xw_isCalm_1 hT hV h0 hR hm hB hN 10 0 (by omega) (by omega) (by omega) hQ
theorem xw_laysRow_1 {s wo : Int} (hT : PT T) (hs : 0 ≤ s ∧ s < 3) : ∀ (n : Nat) (p m : Int) (v : Int → Int → Int), PV v → CI (v, T) A X → v 400 10 = m → 0 ≤ p → p + n = A (13 + s) → (0 ≤ m ∧ m ≤ p) →
    (∀ w, w 400 = up1 (v 400) 10 (lrF A s wo n p m (v 524)).2 → w 524 = (lrF A s wo n p m (v 524)).1 → (∀ a, a ≠ 400 → a ≠ 524 → w a = v a) → Q (.inl none) (w, T)) →
    jW bX0_laysRow (g, d + 1, 0, 0, Q) 1 [some (vR 400), some (vI s), some (vI wo), some (vI p)] [] (v, T) 0 0 := by
  intro n
  induction n with
  | zero =>
    intro p m v hV hC hv hp hn hm hQ
    unfold lrF at hQ
    refine jW_step ?_
    simp (disch := (first | decide | omega)) only [bX0_laysRow, jxs, hps, jtsw, jlsw, List.length_cons, List.length_nil, true_and, and_true, true_implies, false_implies, implies_true, not_true_eq_false, not_false_eq_true, false_and, and_false, if_true, if_false, or_true, true_or, or_false, false_or, Classical.not_not, and_self, Int.reduceAdd, Int.reduceMul, Int.reduceSub, Int.reduceNeg, Int.reduceLT, Int.reduceLE, Int.reduceEq, Int.reduceNe, Int.reduceToNat, Nat.reduceAdd, Nat.reduceMul, Nat.reduceSub, Nat.reduceLeDiff, Nat.reduceLT, Nat.reduceEqDiff, reduceIte, Nat.zero_le, Nat.le_refl, Nat.add_zero, Nat.zero_add, xwT hT, xwV hV]
    refine ⟨0, 0, ⟨by omega, by omega⟩, xw_many hT hV hC hs ?_⟩
    simp (disch := (first | decide | omega)) only [jxs, hps, jtsw, jlsw, List.length_cons, List.length_nil, true_and, and_true, true_implies, false_implies, implies_true, not_true_eq_false, not_false_eq_true, false_and, and_false, if_true, if_false, or_true, true_or, or_false, false_or, Classical.not_not, and_self, Int.reduceAdd, Int.reduceMul, Int.reduceSub, Int.reduceNeg, Int.reduceLT, Int.reduceLE, Int.reduceEq, Int.reduceNe, Int.reduceToNat, Nat.reduceAdd, Nat.reduceMul, Nat.reduceSub, Nat.reduceLeDiff, Nat.reduceLT, Nat.reduceEqDiff, reduceIte, Nat.zero_le, Nat.le_refl, Nat.add_zero, Nat.zero_add, xwT hT, xwV hV]
    (try refine ⟨fun _ => ?_, fun h9 => (by exfalso; omega)⟩)
    (repeat (refine And.intro (by (first | omega | assumption | trivial | (simp only [inI]; omega) | (simp only [inL]; omega) | (refine jb_01) | (exact jb_in))) ?_))
    exact hQ v (by dsimp only; rw [← hv, up1_id]) rfl (fun _ _ _ => rfl)
  | succ n ih =>
    intro p m v hV hC hv hp hn hm hQ
    have h10 := hC.tb.2.2.2.2.2.1 (13 + s) (by omega) (by omega)
    unfold lrF at hQ
    refine jW_step ?_
    simp (disch := (first | decide | omega)) only [bX0_laysRow, jxs, hps, jtsw, jlsw, List.length_cons, List.length_nil, true_and, and_true, true_implies, false_implies, implies_true, not_true_eq_false, not_false_eq_true, false_and, and_false, if_true, if_false, or_true, true_or, or_false, false_or, Classical.not_not, and_self, Int.reduceAdd, Int.reduceMul, Int.reduceSub, Int.reduceNeg, Int.reduceLT, Int.reduceLE, Int.reduceEq, Int.reduceNe, Int.reduceToNat, Nat.reduceAdd, Nat.reduceMul, Nat.reduceSub, Nat.reduceLeDiff, Nat.reduceLT, Nat.reduceEqDiff, reduceIte, Nat.zero_le, Nat.le_refl, Nat.add_zero, Nat.zero_add, xwT hT, xwV hV]
    refine ⟨0, 0, ⟨by omega, by omega⟩, xw_many hT hV hC hs ?_⟩
    simp (disch := (first | decide | omega)) only [jxs, hps, jtsw, jlsw, List.length_cons, List.length_nil, true_and, and_true, true_implies, false_implies, implies_true, not_true_eq_false, not_false_eq_true, false_and, and_false, if_true, if_false, or_true, true_or, or_false, false_or, Classical.not_not, and_self, Int.reduceAdd, Int.reduceMul, Int.reduceSub, Int.reduceNeg, Int.reduceLT, Int.reduceLE, Int.reduceEq, Int.reduceNe, Int.reduceToNat, Nat.reduceAdd, Nat.reduceMul, Nat.reduceSub, Nat.reduceLeDiff, Nat.reduceLT, Nat.reduceEqDiff, reduceIte, Nat.zero_le, Nat.le_refl, Nat.add_zero, Nat.zero_add, xwT hT, xwV hV]
    (first | refine ⟨fun h9 => (by exfalso; omega), fun _ => ?_⟩ | intro _)
    refine ⟨0, 0, ⟨by omega, by omega⟩, xw_bookAt hT hV hC hs ⟨hp, by omega⟩ ?_⟩
    simp (disch := (first | decide | omega)) only [jxs, hps, jtsw, jlsw, List.length_cons, List.length_nil, true_and, and_true, true_implies, false_implies, implies_true, not_true_eq_false, not_false_eq_true, false_and, and_false, if_true, if_false, or_true, true_or, or_false, false_or, Classical.not_not, and_self, Int.reduceAdd, Int.reduceMul, Int.reduceSub, Int.reduceNeg, Int.reduceLT, Int.reduceLE, Int.reduceEq, Int.reduceNe, Int.reduceToNat, Nat.reduceAdd, Nat.reduceMul, Nat.reduceSub, Nat.reduceLeDiff, Nat.reduceLT, Nat.reduceEqDiff, reduceIte, Nat.zero_le, Nat.le_refl, Nat.add_zero, Nat.zero_add, xwT hT, xwV hV]
    refine ⟨fun h => ?_, fun h => ?_⟩
    · rw [if_neg h] at hQ
      refine ⟨0, 0, ⟨by omega, by omega⟩, xw_bookAt hT hV hC hs ⟨hp, by omega⟩ ?_⟩
      simp (disch := (first | decide | omega)) only [jxs, hps, jtsw, jlsw, List.length_cons, List.length_nil, true_and, and_true, true_implies, false_implies, implies_true, not_true_eq_false, not_false_eq_true, false_and, and_false, if_true, if_false, or_true, true_or, or_false, false_or, Classical.not_not, and_self, Int.reduceAdd, Int.reduceMul, Int.reduceSub, Int.reduceNeg, Int.reduceLT, Int.reduceLE, Int.reduceEq, Int.reduceNe, Int.reduceToNat, Nat.reduceAdd, Nat.reduceMul, Nat.reduceSub, Nat.reduceLeDiff, Nat.reduceLT, Nat.reduceEqDiff, reduceIte, Nat.zero_le, Nat.le_refl, Nat.add_zero, Nat.zero_add, xwT hT, xwV hV, hv]
      (repeat (refine And.intro (by (first | omega | assumption | trivial | (simp only [inI]; omega) | (simp only [inL]; omega) | (refine jb_01) | (exact jb_in))) ?_))
      have hVu : PV (upA (upA v 400 (up1 (v 400) 10 (m + 1))) 524 (up1 (v 524) m (A (16 + 10 * s + p)))) := by (first | assumption | (repeat (first | assumption | refine PV.A ?_ (by decide) | refine PV.F ?_ ?_ | refine twR.up ?_ (by decide) | refine PV.r ?_)))
      have j1 : jkK v (upA (upA v 400 (up1 (v 400) 10 (m + 1))) 524 (up1 (v 524) m (A (16 + 10 * s + p)))) := (jkK.fd hV hC.nm (Or.inl rfl)).tr (jkK.up (hV.F ((PV.r hV).up (by decide))) (by rw [upA_ne (by omega)]; exact hC.nm) (by omega))
      have u400 : (upA (upA v 400 (up1 (v 400) 10 (m + 1))) 524 (up1 (v 524) m (A (16 + 10 * s + p)))) 400 = up1 (v 400) 10 (m + 1) := by rw [upA_ne (by omega), upA_eq]
      have u524 : (upA (upA v 400 (up1 (v 400) 10 (m + 1))) 524 (up1 (v 524) m (A (16 + 10 * s + p)))) 524 = up1 (v 524) m (A (16 + 10 * s + p)) := upA_eq
      have uo : ∀ a, a ≠ 400 → a ≠ 524 → (upA (upA v 400 (up1 (v 400) 10 (m + 1))) 524 (up1 (v 524) m (A (16 + 10 * s + p)))) a = v a := fun a a1 a2 => by rw [upA_ne a2, upA_ne a1]
      generalize upA (upA v 400 (up1 (v 400) 10 (m + 1))) 524 (up1 (v 524) m (A (16 + 10 * s + p))) = u at *
      have hV := hVu
      refine jW_step ?_
      simp (disch := (first | decide | omega)) only [bX0_laysRow, jxs, hps, jtsw, jlsw, List.length_cons, List.length_nil, true_and, and_true, true_implies, false_implies, implies_true, not_true_eq_false, not_false_eq_true, false_and, and_false, if_true, if_false, or_true, true_or, or_false, false_or, Classical.not_not, and_self, Int.reduceAdd, Int.reduceMul, Int.reduceSub, Int.reduceNeg, Int.reduceLT, Int.reduceLE, Int.reduceEq, Int.reduceNe, Int.reduceToNat, Nat.reduceAdd, Nat.reduceMul, Nat.reduceSub, Nat.reduceLeDiff, Nat.reduceLT, Nat.reduceEqDiff, reduceIte, Nat.zero_le, Nat.le_refl, Nat.add_zero, Nat.zero_add, xwT hT, xwV hV]
      (repeat (refine And.intro (by (first | omega | assumption | trivial | (simp only [inI]; omega) | (simp only [inL]; omega) | (refine jb_01) | (exact jb_in))) ?_))
      refine ih (p + 1) (m + 1) u hVu (j1.ci hC) (by rw [u400, up1_eq]) (by omega) (by omega) (by omega) ?_
      rw [u400, u524, up1_same]
      intro w w1 w2 w3
      exact hQ w w1 w2 (fun a a1 a2 => (w3 a a1 a2).trans (uo a a1 a2))
    · rw [if_pos (by omega)] at hQ
      refine jW_step ?_
      simp (disch := (first | decide | omega)) only [bX0_laysRow, jxs, hps, jtsw, jlsw, List.length_cons, List.length_nil, true_and, and_true, true_implies, false_implies, implies_true, not_true_eq_false, not_false_eq_true, false_and, and_false, if_true, if_false, or_true, true_or, or_false, false_or, Classical.not_not, and_self, Int.reduceAdd, Int.reduceMul, Int.reduceSub, Int.reduceNeg, Int.reduceLT, Int.reduceLE, Int.reduceEq, Int.reduceNe, Int.reduceToNat, Nat.reduceAdd, Nat.reduceMul, Nat.reduceSub, Nat.reduceLeDiff, Nat.reduceLT, Nat.reduceEqDiff, reduceIte, Nat.zero_le, Nat.le_refl, Nat.add_zero, Nat.zero_add, xwT hT, xwV hV]
      (repeat (refine And.intro (by (first | omega | assumption | trivial | (simp only [inI]; omega) | (simp only [inL]; omega) | (refine jb_01) | (exact jb_in))) ?_))
      exact ih (p + 1) m v hV hC hv (by omega) (by omega) (by omega) hQ
/-- a row is laid out -/
def CRw (v : Int → Int → Int) (f : Int → Int) (m N : Int) : Prop := v 400 10 = m ∧ EQm m (v 524) f ∧ RN (v 524) m N ∧ (0 ≤ m ∧ m ≤ 10)
theorem xw_laysRow {s wo : Int} {v : Int → Int → Int} (hT : PT T) (hV : PV v) (hC : CI (v, T) A X) (hH : SH A) (hs : 0 ≤ s ∧ s < 3) (hQ : ∀ w, jkK v w → CRw w (lrZ A s wo).1 (lrZ A s wo).2 (A 0) → w 523 = v 523 → w 538 = v 538 → Q (.inl none) (w, T)) : jmet g (d + 2) 0 0 MX0_laysRow [vR 400, vI s, vI wo] (v, T) Q := by
  have hm := hC.tb.2.2.2.2.2.1 (13 + s) (by omega) (by omega)
  refine jmet_of (ls := [some (vR 400), some (vI s), some (vI wo), none]) sX0_laysRow rfl (by decide +kernel) (by decide) rfl (by simp [jent]) ?_
  refine jW_step ?_
  simp (disch := (first | decide | omega)) only [bX0_laysRow, jxs, hps, jtsw, jlsw, List.length_cons, List.length_nil, true_and, and_true, true_implies, false_implies, implies_true, not_true_eq_false, not_false_eq_true, false_and, and_false, if_true, if_false, or_true, true_or, or_false, false_or, Classical.not_not, and_self, Int.reduceAdd, Int.reduceMul, Int.reduceSub, Int.reduceNeg, Int.reduceLT, Int.reduceLE, Int.reduceEq, Int.reduceNe, Int.reduceToNat, Nat.reduceAdd, Nat.reduceMul, Nat.reduceSub, Nat.reduceLeDiff, Nat.reduceLT, Nat.reduceEqDiff, reduceIte, Nat.zero_le, Nat.le_refl, Nat.add_zero, Nat.zero_add, xwT hT, xwV hV]
  (repeat (refine And.intro (by (first | omega | assumption | trivial | (simp only [inI]; omega) | (simp only [inL]; omega) | (refine jb_01) | (exact jb_in))) ?_))
  have j1 : jkK v (upA v 400 (up1 (v 400) 10 0)) := jkK.fd hV hC.nm (Or.inl rfl)
  refine xw_laysRow_1 (A := A) (X := X) hT hs (A (13 + s)).toNat 0 0 _ j1.pv (j1.ci hC) (by rw [upA_eq, up1_eq]) (by omega) (by omega) (by omega) ?_
  rw [upA_eq, upA_ne (by omega), up1_same]
  intro w w1 w2 w3
  have q := lrF_cg (wo := wo) hC.tb hH hs rfl (A (13 + s)).toNat 0 0 (v 524) (fun _ => 0) (by omega) (by omega) (by omega) (fun i h0 h1 => by omega) (fun i h0 h1 => by omega)
  have ez : lrZ A s wo = lrF A s wo (A (13 + s)).toNat 0 0 (fun _ => 0) := rfl
  refine hQ w ⟨fun a a0 a1 => by rw [w3 a a0 (by omega), upA_ne a0], fun k k0 _ _ => by rw [w1, up1_ne k0], by rw [w3 522 (by omega) (by omega), upA_ne (by omega)]; exact hC.nm, ?_⟩ ?_ (by rw [w3 523 (by omega) (by omega), upA_ne (by omega)]) (by rw [w3 538 (by omega) (by omega), upA_ne (by omega)])
  · intro q hq
    by_cases e : q.1 = 400
    · rw [e, w1]
      exact (PV.r hV).up (by decide) q hq e
    · have := pvL_A q hq
      rw [w3 q.1 e (fun e2 => by rw [e2] at this; revert this; decide), upA_ne e]
      exact hV q hq
  · rw [ez, ← q.1]
    refine ⟨by rw [w1, up1_eq], by rw [w2]; exact q.2.1, by rw [w2]; exact q.2.2.1, q.2.2.2.1, ?_⟩
    have := q.2.2.2.2
    omega
end XG
