/-! ===== the reference: nights to come ===== -/
set_option maxRecDepth 100000
def cgA (A X : Int → Int) (x y : Int) : Int := if x = y then 0 else dcA A X x y
/-- the table of changes is laid out -/
def CH (A X : Int → Int) (f : Int → Int) : Prop := ∀ x y, 0 ≤ x → x < A 0 → 0 ≤ y → y < A 0 → f (10 * x + y) = cgA A X x y
def CHp (A X : Int → Int) (x y : Int) (f : Int → Int) : Prop := ∀ x' y', 0 ≤ x' → x' < A 0 → 0 ≤ y' → y' < A 0 → (x' < x ∨ (x' = x ∧ y' < y)) → f (10 * x' + y') = cgA A X x' y'
def jkc (v w : Int → Int → Int) : Prop := ∀ a, a ≠ 545 → a ≠ 546 → a ≠ 547 → a ≠ 548 → w a = v a
theorem jkc.pv {v w : Int → Int → Int} (h : jkc v w) (hV : PV v) : PV w := hV.fr (fun a ha => h a (fun e => by subst e; revert ha; decide) (fun e => by subst e; revert ha; decide) (fun e => by subst e; revert ha; decide) (fun e => by subst e; revert ha; decide))
theorem jkc.rf {v : Int → Int → Int} : jkc v v := fun _ _ _ _ _ => rfl
theorem jkc.tr {u v w : Int → Int → Int} (h : jkc u v) (h2 : jkc v w) : jkc u w := fun a a1 a2 a3 a4 => (h2 a a1 a2 a3 a4).trans (h a a1 a2 a3 a4)
theorem jk.c {v w : Int → Int → Int} (h : jk v w) : jkc v w := fun a a1 a2 a3 _ => h a a1 a2 a3
theorem jkc.up {v : Int → Int → Int} {f : Int → Int} : jkc v (upA v 548 f) := fun a _ _ _ a4 => upA_ne a4
theorem jkc.a {v w : Int → Int → Int} (h : jkc v w) : w 540 = v 540 := h 540 (by omega) (by omega) (by omega) (by omega)
theorem jkc.x {v w : Int → Int → Int} (h : jkc v w) : w 542 = v 542 := h 542 (by omega) (by omega) (by omega) (by omega)
theorem jkc.te {v w : Int → Int → Int} (h : jkc v w) (hE : TE v) : TE w := by
  unfold TE
  rw [h.a, h.x]
  exact hE
theorem dcA_01 {A X : Int → Int} {x y : Int} : 0 ≤ dcA A X x y ∧ dcA A X x y ≤ 1 := jb_01
theorem cgA_01 {A X : Int → Int} {x y : Int} : 0 ≤ cgA A X x y ∧ cgA A X x y ≤ 1 := by
  unfold cgA; split
  · omega
  · exact dcA_01
section TG
variable {g : jjG} {d : Nat} {T : jjT} {Q : jjQ}
theorem tw_findChanges_2 {x : Int} (hT : PT T) (hx : 0 ≤ x) : ∀ (n : Nat) (y : Int) (v : Int → Int → Int), PV v → TE v → x < v 540 0 → 0 ≤ y → v 540 0 = y + n → CHp (v 540) (v 542) x y (v 548) →
    (∀ w (y' : Int), jkc v w → CHp (v 540) (v 542) (x + 1) 0 (w 548) → jW bX2_findChanges (g, d + 6, 0, 0, Q) 1 [some (vR 539), some (vI (x + 1)), none] [] (w, T) 0 0) →
    jW bX2_findChanges (g, d + 6, 0, 0, Q) 2 [some (vR 539), some (vI x), some (vI y)] [] (v, T) 0 0 := by
  intro n
  induction n with
  | zero =>
    intro y v hV hE hx2 hy hn hC hQ
    have h0 := hE.1.1
    refine jW_step ?_
    simp (disch := (first | decide | omega)) only [bX2_findChanges, jxs, hps, jtsw, jlsw, List.length_cons, List.length_nil, true_and, and_true, true_implies, false_implies, implies_true, not_true_eq_false, not_false_eq_true, false_and, and_false, if_true, if_false, or_true, true_or, or_false, false_or, Classical.not_not, and_self, Int.reduceAdd, Int.reduceMul, Int.reduceSub, Int.reduceNeg, Int.reduceLT, Int.reduceLE, Int.reduceEq, Int.reduceNe, Int.reduceToNat, Nat.reduceAdd, Nat.reduceMul, Nat.reduceSub, Nat.reduceLeDiff, Nat.reduceLT, Nat.reduceEqDiff, reduceIte, Nat.zero_le, Nat.le_refl, Nat.add_zero, Nat.zero_add, twT hT, twV hV]
    (repeat (refine And.intro (by (first | omega | assumption | trivial | (simp only [inI]; omega) | (simp only [inL]; omega) | (refine jb_01) | (exact jb_in))) ?_))
    (try refine ⟨fun _ => ?_, fun h9 => (by exfalso; omega)⟩)
    (repeat (refine And.intro (by (first | omega | assumption | trivial | (simp only [inI]; omega) | (simp only [inL]; omega) | (refine jb_01) | (exact jb_in))) ?_))
    refine jW_sub (ls' := [some (vR 539), some (vI (x + 1)), none]) (by simp [jsub]) ?_
    refine hQ v y jkc.rf ?_
    intro x' y' a1 a2 a3 a4 a5
    exact hC x' y' a1 a2 a3 a4 (by omega)
  | succ n ih =>
    intro y v hV hE hx2 hy hn hC hQ
    have h0 := hE.1.1
    have k4 : ∀ u z, jk v u → z = cgA (v 540) (v 542) x y → jW bX2_findChanges (g, d + 6, 0, 0, Q) 4 [some (vR 539), some (vI x), some (vI y)] [vI z, vI (10 * x + y), vR 548] (u, T) 0 0 := by
      intro u z hu hz
      have z1 : 0 ≤ z ∧ z ≤ 1 := by rw [hz]; exact cgA_01
      have ea := hu.a
      have ex := hu.x
      have hVu := hu.pv hV
      have e8 : u 548 = v 548 := hu 548 (by omega) (by omega) (by omega)
      have j : jkc v (upA u 548 (up1 (u 548) (10 * x + y) z)) := hu.c.tr jkc.up
      have hV := hVu
      refine jW_step ?_
      simp (disch := (first | decide | omega)) only [bX2_findChanges, jxs, hps, jtsw, jlsw, List.length_cons, List.length_nil, true_and, and_true, true_implies, false_implies, implies_true, not_true_eq_false, not_false_eq_true, false_and, and_false, if_true, if_false, or_true, true_or, or_false, false_or, Classical.not_not, and_self, Int.reduceAdd, Int.reduceMul, Int.reduceSub, Int.reduceNeg, Int.reduceLT, Int.reduceLE, Int.reduceEq, Int.reduceNe, Int.reduceToNat, Nat.reduceAdd, Nat.reduceMul, Nat.reduceSub, Nat.reduceLeDiff, Nat.reduceLT, Nat.reduceEqDiff, reduceIte, Nat.zero_le, Nat.le_refl, Nat.add_zero, Nat.zero_add, twT hT, twV hV]
      (repeat (refine And.intro (by (first | omega | assumption | trivial | (simp only [inI]; omega) | (simp only [inL]; omega) | (refine jb_01) | (exact jb_in))) ?_))
      refine ih (y + 1) _ (j.pv (by assumption)) (j.te hE) (by rw [j.a]; exact hx2) (by omega) (by rw [j.a]; omega) ?_ ?_
      · rw [j.a, j.x, upA_eq, e8]
        intro x' y' a1 a2 a3 a4 a5
        by_cases e : x' = x ∧ y' = y
        · rw [e.1, e.2, up1_eq]; exact hz
        · rw [up1_ne (by omega)]
          exact hC x' y' a1 a2 a3 a4 (by omega)
      · rw [j.a, j.x]
        intro w y' hw hc
        exact hQ w y' (j.tr hw) hc
    have k3 : cgA (v 540) (v 542) x y = 0 → ∀ u, jk v u → jW bX2_findChanges (g, d + 6, 0, 0, Q) 3 [some (vR 539), some (vI x), some (vI y)] [vI (10 * x + y), vR 548] (u, T) 0 0 := by
      intro h u hu
      refine jW_step ?_
      simp (disch := (first | decide | omega)) only [bX2_findChanges, jxs, hps, jtsw, jlsw, List.length_cons, List.length_nil, true_and, and_true, true_implies, false_implies, implies_true, not_true_eq_false, not_false_eq_true, false_and, and_false, if_true, if_false, or_true, true_or, or_false, false_or, Classical.not_not, and_self, Int.reduceAdd, Int.reduceMul, Int.reduceSub, Int.reduceNeg, Int.reduceLT, Int.reduceLE, Int.reduceEq, Int.reduceNe, Int.reduceToNat, Nat.reduceAdd, Nat.reduceMul, Nat.reduceSub, Nat.reduceLeDiff, Nat.reduceLT, Nat.reduceEqDiff, reduceIte, Nat.zero_le, Nat.le_refl, Nat.add_zero, Nat.zero_add, twT hT, twV hV]
      exact k4 u 0 hu h.symm
    refine jW_step ?_
    simp (disch := (first | decide | omega)) only [bX2_findChanges, jxs, hps, jtsw, jlsw, List.length_cons, List.length_nil, true_and, and_true, true_implies, false_implies, implies_true, not_true_eq_false, not_false_eq_true, false_and, and_false, if_true, if_false, or_true, true_or, or_false, false_or, Classical.not_not, and_self, Int.reduceAdd, Int.reduceMul, Int.reduceSub, Int.reduceNeg, Int.reduceLT, Int.reduceLE, Int.reduceEq, Int.reduceNe, Int.reduceToNat, Nat.reduceAdd, Nat.reduceMul, Nat.reduceSub, Nat.reduceLeDiff, Nat.reduceLT, Nat.reduceEqDiff, reduceIte, Nat.zero_le, Nat.le_refl, Nat.add_zero, Nat.zero_add, twT hT, twV hV]
    (repeat (refine And.intro (by (first | omega | assumption | trivial | (simp only [inI]; omega) | (simp only [inL]; omega) | (refine jb_01) | (exact jb_in))) ?_))
    (first | refine ⟨fun h9 => (by exfalso; omega), fun _ => ?_⟩ | intro _)
    (repeat (refine And.intro (by (first | omega | assumption | trivial | (simp only [inI]; omega) | (simp only [inL]; omega) | (refine jb_01) | (exact jb_in))) ?_))
    refine ⟨fun h => ?_, fun h => ?_⟩
    · exact k3 (if_pos h) v jk.rf
    · (repeat (refine And.intro (by (first | omega | assumption | trivial | (simp only [inI]; omega) | (simp only [inL]; omega) | (refine jb_01) | (exact jb_in))) ?_))
      refine ⟨0, 0, ⟨by omega, by omega⟩, tw_doChange hT hV ⟨hE, by omega, by omega⟩ ?_⟩
      intro u hu
      have e : cgA (v 540) (v 542) x y = dcA (v 540) (v 542) x y := if_neg h
      have q := dcA_01 (A := v 540) (X := v 542) (x := x) (y := y)
      simp (disch := (first | decide | omega)) only [jxs, hps, jtsw, jlsw, List.length_cons, List.length_nil, true_and, and_true, true_implies, false_implies, implies_true, not_true_eq_false, not_false_eq_true, false_and, and_false, if_true, if_false, or_true, true_or, or_false, false_or, Classical.not_not, and_self, Int.reduceAdd, Int.reduceMul, Int.reduceSub, Int.reduceNeg, Int.reduceLT, Int.reduceLE, Int.reduceEq, Int.reduceNe, Int.reduceToNat, Nat.reduceAdd, Nat.reduceMul, Nat.reduceSub, Nat.reduceLeDiff, Nat.reduceLT, Nat.reduceEqDiff, reduceIte, Nat.zero_le, Nat.le_refl, Nat.add_zero, Nat.zero_add, twT hT, twV hV]
      refine ⟨fun h2 => ?_, fun h2 => ?_⟩
      · exact k3 (e.trans h2) u hu
      · exact k4 u 1 hu (by omega)
theorem tw_findChanges_1 (hT : PT T) : ∀ (n : Nat) (x : Int) (v : Int → Int → Int), PV v → TE v → 0 ≤ x → v 540 0 = x + n → CHp (v 540) (v 542) x 0 (v 548) →
    (∀ w, jkc v w → CH (v 540) (v 542) (w 548) → Q (.inl none) (w, T)) →
    jW bX2_findChanges (g, d + 6, 0, 0, Q) 1 [some (vR 539), some (vI x), none] [] (v, T) 0 0 := by
  intro n
  induction n with
  | zero =>
    intro x v hV hE hx hn hC hQ
    have h0 := hE.1.1
    refine jW_step ?_
    simp (disch := (first | decide | omega)) only [bX2_findChanges, jxs, hps, jtsw, jlsw, List.length_cons, List.length_nil, true_and, and_true, true_implies, false_implies, implies_true, not_true_eq_false, not_false_eq_true, false_and, and_false, if_true, if_false, or_true, true_or, or_false, false_or, Classical.not_not, and_self, Int.reduceAdd, Int.reduceMul, Int.reduceSub, Int.reduceNeg, Int.reduceLT, Int.reduceLE, Int.reduceEq, Int.reduceNe, Int.reduceToNat, Nat.reduceAdd, Nat.reduceMul, Nat.reduceSub, Nat.reduceLeDiff, Nat.reduceLT, Nat.reduceEqDiff, reduceIte, Nat.zero_le, Nat.le_refl, Nat.add_zero, Nat.zero_add, twT hT, twV hV]
    (repeat (refine And.intro (by (first | omega | assumption | trivial | (simp only [inI]; omega) | (simp only [inL]; omega) | (refine jb_01) | (exact jb_in))) ?_))
    (try refine ⟨fun _ => ?_, fun h9 => (by exfalso; omega)⟩)
    (repeat (refine And.intro (by (first | omega | assumption | trivial | (simp only [inI]; omega) | (simp only [inL]; omega) | (refine jb_01) | (exact jb_in))) ?_))
    exact hQ v jkc.rf (fun x' y' a1 a2 a3 a4 => hC x' y' a1 a2 a3 a4 (by omega))
  | succ n ih =>
    intro x v hV hE hx hn hC hQ
    have h0 := hE.1.1
    refine jW_step ?_
    simp (disch := (first | decide | omega)) only [bX2_findChanges, jxs, hps, jtsw, jlsw, List.length_cons, List.length_nil, true_and, and_true, true_implies, false_implies, implies_true, not_true_eq_false, not_false_eq_true, false_and, and_false, if_true, if_false, or_true, true_or, or_false, false_or, Classical.not_not, and_self, Int.reduceAdd, Int.reduceMul, Int.reduceSub, Int.reduceNeg, Int.reduceLT, Int.reduceLE, Int.reduceEq, Int.reduceNe, Int.reduceToNat, Nat.reduceAdd, Nat.reduceMul, Nat.reduceSub, Nat.reduceLeDiff, Nat.reduceLT, Nat.reduceEqDiff, reduceIte, Nat.zero_le, Nat.le_refl, Nat.add_zero, Nat.zero_add, twT hT, twV hV]
    (repeat (refine And.intro (by (first | omega | assumption | trivial | (simp only [inI]; omega) | (simp only [inL]; omega) | (refine jb_01) | (exact jb_in))) ?_))
    (first | refine ⟨fun h9 => (by exfalso; omega), fun _ => ?_⟩ | intro _)
    refine tw_findChanges_2 hT hx (v 540 0).toNat 0 v hV hE (by omega) (by omega) (by omega) hC ?_
    intro w y' hw hc
    refine ih (x + 1) w (hw.pv hV) (hw.te hE) (by omega) (by rw [hw.a]; omega) (by rw [hw.a, hw.x]; exact hc) ?_
    rw [hw.a, hw.x]
    intro u hu hcu
    exact hQ u (hw.tr hu) hcu
theorem tw_findChanges {v : Int → Int → Int} (hT : PT T) (hV : PV v) (hS : TE v) (hQ : ∀ w, jkc v w → CH (v 540) (v 542) (w 548) → Q (.inl none) (w, T)) : jmet g (d + 7) 0 0 MX2_findChanges [vR 539] (v, T) Q := by
  have h0 := hS.1.1
  refine jmet_of (ls := [some (vR 539), none, none]) sX2_findChanges rfl (by decide +kernel) (by decide) rfl (by simp [jent]) ?_
  refine jW_step ?_
  simp (disch := (first | decide | omega)) only [bX2_findChanges, jxs, hps, jtsw, jlsw, List.length_cons, List.length_nil, true_and, and_true, true_implies, false_implies, implies_true, not_true_eq_false, not_false_eq_true, false_and, and_false, if_true, if_false, or_true, true_or, or_false, false_or, Classical.not_not, and_self, Int.reduceAdd, Int.reduceMul, Int.reduceSub, Int.reduceNeg, Int.reduceLT, Int.reduceLE, Int.reduceEq, Int.reduceNe, Int.reduceToNat, Nat.reduceAdd, Nat.reduceMul, Nat.reduceSub, Nat.reduceLeDiff, Nat.reduceLT, Nat.reduceEqDiff, reduceIte, Nat.zero_le, Nat.le_refl, Nat.add_zero, Nat.zero_add, twT hT, twV hV]
  exact tw_findChanges_1 hT (v 540 0).toNat 0 v hV hS (by omega) (by omega) (fun x' y' a1 a2 a3 a4 a5 => by omega) hQ
/-- a row without a book: what lies in it, how many -/
def lrF (A : Int → Int) (s wo : Int) : Nat → Int → Int → (Int → Int) → (Int → Int) × Int
  | 0, _, m, f => (f, m)
  | n + 1, p, m, f => if A (16 + 10 * s + p) = wo then lrF A s wo n (p + 1) m f else lrF A s wo n (p + 1) (m + 1) (up1 f m (A (16 + 10 * s + p)))
/-- row and how many: the rest but what is worked with is as it was -/
def jkr (v : Int → Int → Int) (f : Int → Int) (m : Int) (w : Int → Int → Int) : Prop := w 549 = f ∧ w 539 = up1 (v 539) 28 m ∧ ∀ a, a ≠ 539 → a ≠ 549 → w a = v a
theorem jkr.pv {v w : Int → Int → Int} {f : Int → Int} {m : Int} (h : jkr v f m w) (hV : PV v) : PV w := by
  intro q hq
  by_cases e : q.1 = 539
  · rw [e, h.2.1]
    exact (PV.r hV).up (by decide) q hq e
  · rw [h.2.2 q.1 e (fun e2 => by have := pvL_A q hq; rw [e2] at this; revert this; decide)]
    exact hV q hq
theorem jkr.tr {u v w : Int → Int → Int} {f f' : Int → Int} {m m' : Int} (h : jkr u f m v) (h2 : jkr v f' m' w) : jkr u f' m' w := ⟨h2.1, by rw [h2.2.1, h.2.1, up1_same], fun a a1 a2 => (h2.2.2 a a1 a2).trans (h.2.2 a a1 a2)⟩
theorem tw_layRow_1 {s wo : Int} (hT : PT T) (hs : 0 ≤ s ∧ s < 3) : ∀ (n : Nat) (p : Int) (v : Int → Int → Int), PV v → 0 ≤ p → v 540 (13 + s) = p + n → v 540 (13 + s) ≤ 10 → 0 ≤ v 539 28 ∧ v 539 28 ≤ p →
    (∀ w, jkr v (lrF (v 540) s wo n p (v 539 28) (v 549)).1 (lrF (v 540) s wo n p (v 539 28) (v 549)).2 w → Q (.inl none) (w, T)) →
    jW bX2_layRow (g, d + 7, 0, 0, Q) 1 [some (vR 539), some (vI s), some (vI wo), some (vI p)] [] (v, T) 0 0 := by
  intro n
  induction n with
  | zero =>
    intro p v hV hp hn hm hr hQ
    refine jW_step ?_
    simp (disch := (first | decide | omega)) only [bX2_layRow, jxs, hps, jtsw, jlsw, List.length_cons, List.length_nil, true_and, and_true, true_implies, false_implies, implies_true, not_true_eq_false, not_false_eq_true, false_and, and_false, if_true, if_false, or_true, true_or, or_false, false_or, Classical.not_not, and_self, Int.reduceAdd, Int.reduceMul, Int.reduceSub, Int.reduceNeg, Int.reduceLT, Int.reduceLE, Int.reduceEq, Int.reduceNe, Int.reduceToNat, Nat.reduceAdd, Nat.reduceMul, Nat.reduceSub, Nat.reduceLeDiff, Nat.reduceLT, Nat.reduceEqDiff, reduceIte, Nat.zero_le, Nat.le_refl, Nat.add_zero, Nat.zero_add, twT hT, twV hV]
    (repeat (refine And.intro (by (first | omega | assumption | trivial | (simp only [inI]; omega) | (simp only [inL]; omega) | (refine jb_01) | (exact jb_in))) ?_))
    (try refine ⟨fun _ => ?_, fun h9 => (by exfalso; omega)⟩)
    (repeat (refine And.intro (by (first | omega | assumption | trivial | (simp only [inI]; omega) | (simp only [inL]; omega) | (refine jb_01) | (exact jb_in))) ?_))
    exact hQ v ⟨rfl, up1_id.symm, fun _ _ _ => rfl⟩
  | succ n ih =>
    intro p v hV hp hn hm hr hQ
    unfold lrF at hQ
    refine jW_step ?_
    simp (disch := (first | decide | omega)) only [bX2_layRow, jxs, hps, jtsw, jlsw, List.length_cons, List.length_nil, true_and, and_true, true_implies, false_implies, implies_true, not_true_eq_false, not_false_eq_true, false_and, and_false, if_true, if_false, or_true, true_or, or_false, false_or, Classical.not_not, and_self, Int.reduceAdd, Int.reduceMul, Int.reduceSub, Int.reduceNeg, Int.reduceLT, Int.reduceLE, Int.reduceEq, Int.reduceNe, Int.reduceToNat, Nat.reduceAdd, Nat.reduceMul, Nat.reduceSub, Nat.reduceLeDiff, Nat.reduceLT, Nat.reduceEqDiff, reduceIte, Nat.zero_le, Nat.le_refl, Nat.add_zero, Nat.zero_add, twT hT, twV hV]
    (repeat (refine And.intro (by (first | omega | assumption | trivial | (simp only [inI]; omega) | (simp only [inL]; omega) | (refine jb_01) | (exact jb_in))) ?_))
    (first | refine ⟨fun h9 => (by exfalso; omega), fun _ => ?_⟩ | intro _)
    (repeat (refine And.intro (by (first | omega | assumption | trivial | (simp only [inI]; omega) | (simp only [inL]; omega) | (refine jb_01) | (exact jb_in))) ?_))
    refine ⟨0, 0, ⟨by omega, by omega⟩, tw_bookAt hT (by (first | assumption | (repeat (first | assumption | refine PV.A ?_ (by decide) | refine PV.F ?_ ?_ | refine twR.up ?_ (by decide) | refine PV.r ?_)))) (by (first | omega | assumption | trivial | (simp only [inI]; omega) | (simp only [inL]; omega) | (refine jb_01) | (exact jb_in))) ?_⟩
    simp (disch := (first | decide | omega)) only [jxs, hps, jtsw, jlsw, List.length_cons, List.length_nil, true_and, and_true, true_implies, false_implies, implies_true, not_true_eq_false, not_false_eq_true, false_and, and_false, if_true, if_false, or_true, true_or, or_false, false_or, Classical.not_not, and_self, Int.reduceAdd, Int.reduceMul, Int.reduceSub, Int.reduceNeg, Int.reduceLT, Int.reduceLE, Int.reduceEq, Int.reduceNe, Int.reduceToNat, Nat.reduceAdd, Nat.reduceMul, Nat.reduceSub, Nat.reduceLeDiff, Nat.reduceLT, Nat.reduceEqDiff, reduceIte, Nat.zero_le, Nat.le_refl, Nat.add_zero, Nat.zero_add, twT hT, twV hV]
    refine ⟨fun h => ?_, fun h => ?_⟩
    · rw [if_neg h] at hQ
      (repeat (refine And.intro (by (first | omega | assumption | trivial | (simp only [inI]; omega) | (simp only [inL]; omega) | (refine jb_01) | (exact jb_in))) ?_))
      refine ⟨0, 0, ⟨by omega, by omega⟩, tw_bookAt hT (by (first | assumption | (repeat (first | assumption | refine PV.A ?_ (by decide) | refine PV.F ?_ ?_ | refine twR.up ?_ (by decide) | refine PV.r ?_)))) (by (first | omega | assumption | trivial | (simp only [inI]; omega) | (simp only [inL]; omega) | (refine jb_01) | (exact jb_in))) ?_⟩
      simp (disch := (first | decide | omega)) only [jxs, hps, jtsw, jlsw, List.length_cons, List.length_nil, true_and, and_true, true_implies, false_implies, implies_true, not_true_eq_false, not_false_eq_true, false_and, and_false, if_true, if_false, or_true, true_or, or_false, false_or, Classical.not_not, and_self, Int.reduceAdd, Int.reduceMul, Int.reduceSub, Int.reduceNeg, Int.reduceLT, Int.reduceLE, Int.reduceEq, Int.reduceNe, Int.reduceToNat, Nat.reduceAdd, Nat.reduceMul, Nat.reduceSub, Nat.reduceLeDiff, Nat.reduceLT, Nat.reduceEqDiff, reduceIte, Nat.zero_le, Nat.le_refl, Nat.add_zero, Nat.zero_add, twT hT, twV hV]
      (repeat (refine And.intro (by (first | omega | assumption | trivial | (simp only [inI]; omega) | (simp only [inL]; omega) | (refine jb_01) | (exact jb_in))) ?_))
      have j : jkr v (up1 (v 549) (v 539 28) (v 540 (16 + 10 * s + p))) (v 539 28 + 1) (upA (upA v 539 (up1 (v 539) 28 (v 539 28 + 1))) 549 (up1 (v 549) (v 539 28) (v 540 (16 + 10 * s + p)))) := by
        refine ⟨upA_eq, ?_, ?_⟩
        · rw [upA_ne (by omega), upA_eq]
        · intro a a1 a2
          rw [upA_ne a2, upA_ne a1]
      have e28 : (upA (upA v 539 (up1 (v 539) 28 (v 539 28 + 1))) 549 (up1 (v 549) (v 539 28) (v 540 (16 + 10 * s + p)))) 539 28 = v 539 28 + 1 := by rw [j.2.1, up1_eq]
      have e40 : (upA (upA v 539 (up1 (v 539) 28 (v 539 28 + 1))) 549 (up1 (v 549) (v 539 28) (v 540 (16 + 10 * s + p)))) 540 = v 540 := j.2.2 540 (by omega) (by omega)
      have e49 := j.1
      have hVj := j.pv hV
      generalize upA (upA v 539 (up1 (v 539) 28 (v 539 28 + 1))) 549 (up1 (v 549) (v 539 28) (v 540 (16 + 10 * s + p))) = u at *
      have hV := hVj
      refine jW_step ?_
      simp (disch := (first | decide | omega)) only [bX2_layRow, jxs, hps, jtsw, jlsw, List.length_cons, List.length_nil, true_and, and_true, true_implies, false_implies, implies_true, not_true_eq_false, not_false_eq_true, false_and, and_false, if_true, if_false, or_true, true_or, or_false, false_or, Classical.not_not, and_self, Int.reduceAdd, Int.reduceMul, Int.reduceSub, Int.reduceNeg, Int.reduceLT, Int.reduceLE, Int.reduceEq, Int.reduceNe, Int.reduceToNat, Nat.reduceAdd, Nat.reduceMul, Nat.reduceSub, Nat.reduceLeDiff, Nat.reduceLT, Nat.reduceEqDiff, reduceIte, Nat.zero_le, Nat.le_refl, Nat.add_zero, Nat.zero_add, twT hT, twV hV]
      (repeat (refine And.intro (by (first | omega | assumption | trivial | (simp only [inI]; omega) | (simp only [inL]; omega) | (refine jb_01) | (exact jb_in))) ?_))
      refine ih (p + 1) u hV (by omega) (by rw [e40]; omega) (by rw [e40]; omega) (by omega) ?_
      rw [e40, e28, e49]
      intro w hw
      exact hQ w (j.tr hw)
    · rw [if_pos h] at hQ
      (repeat (refine And.intro (by (first | omega | assumption | trivial | (simp only [inI]; omega) | (simp only [inL]; omega) | (refine jb_01) | (exact jb_in))) ?_))
      refine jW_step ?_
      simp (disch := (first | decide | omega)) only [bX2_layRow, jxs, hps, jtsw, jlsw, List.length_cons, List.length_nil, true_and, and_true, true_implies, false_implies, implies_true, not_true_eq_false, not_false_eq_true, false_and, and_false, if_true, if_false, or_true, true_or, or_false, false_or, Classical.not_not, and_self, Int.reduceAdd, Int.reduceMul, Int.reduceSub, Int.reduceNeg, Int.reduceLT, Int.reduceLE, Int.reduceEq, Int.reduceNe, Int.reduceToNat, Nat.reduceAdd, Nat.reduceMul, Nat.reduceSub, Nat.reduceLeDiff, Nat.reduceLT, Nat.reduceEqDiff, reduceIte, Nat.zero_le, Nat.le_refl, Nat.add_zero, Nat.zero_add, twT hT, twV hV]
      (repeat (refine And.intro (by (first | omega | assumption | trivial | (simp only [inI]; omega) | (simp only [inL]; omega) | (refine jb_01) | (exact jb_in))) ?_))
      exact ih (p + 1) v hV (by omega) (by omega) hm (by omega) hQ
def lrA (A : Int → Int) (s wo : Int) (f : Int → Int) : (Int → Int) × Int := lrF A s wo (A (13 + s)).toNat 0 0 f
theorem tw_layRow {v : Int → Int → Int} {s wo : Int} (hT : PT T) (hV : PV v) (hS : TE v ∧ (0 ≤ s ∧ s < 3)) (hQ : ∀ w w2, jkc v w → CH (v 540) (v 542) (w 548) → jkr w (lrA (v 540) s wo (v 549)).1 (lrA (v 540) s wo (v 549)).2 w2 → Q (.inl none) (w2, T)) : jmet g (d + 8) 0 0 MX2_layRow [vR 539, vI s, vI wo] (v, T) Q := by
  obtain ⟨hE, hs⟩ := hS
  have hm := hE.1.2.2.2.2.2.1 (13 + s) (by omega) (by omega)
  refine jmet_of (ls := [some (vR 539), some (vI s), some (vI wo), none]) sX2_layRow rfl (by decide +kernel) (by decide) rfl (by simp [jent]) ?_
  refine jW_step ?_
  simp (disch := (first | decide | omega)) only [bX2_layRow, jxs, hps, jtsw, jlsw, List.length_cons, List.length_nil, true_and, and_true, true_implies, false_implies, implies_true, not_true_eq_false, not_false_eq_true, false_and, and_false, if_true, if_false, or_true, true_or, or_false, false_or, Classical.not_not, and_self, Int.reduceAdd, Int.reduceMul, Int.reduceSub, Int.reduceNeg, Int.reduceLT, Int.reduceLE, Int.reduceEq, Int.reduceNe, Int.reduceToNat, Nat.reduceAdd, Nat.reduceMul, Nat.reduceSub, Nat.reduceLeDiff, Nat.reduceLT, Nat.reduceEqDiff, reduceIte, Nat.zero_le, Nat.le_refl, Nat.add_zero, Nat.zero_add, twT hT, twV hV]
  (repeat (refine And.intro (by (first | omega | assumption | trivial | (simp only [inI]; omega) | (simp only [inL]; omega) | (refine jb_01) | (exact jb_in))) ?_))
  refine ⟨0, 0, ⟨by omega, by omega⟩, tw_findChanges hT hV hE ?_⟩
  intro w hw hc
  have hVw := hw.pv hV
  have hV := hVw
  simp (disch := (first | decide | omega)) only [jxs, hps, jtsw, jlsw, List.length_cons, List.length_nil, true_and, and_true, true_implies, false_implies, implies_true, not_true_eq_false, not_false_eq_true, false_and, and_false, if_true, if_false, or_true, true_or, or_false, false_or, Classical.not_not, and_self, Int.reduceAdd, Int.reduceMul, Int.reduceSub, Int.reduceNeg, Int.reduceLT, Int.reduceLE, Int.reduceEq, Int.reduceNe, Int.reduceToNat, Nat.reduceAdd, Nat.reduceMul, Nat.reduceSub, Nat.reduceLeDiff, Nat.reduceLT, Nat.reduceEqDiff, reduceIte, Nat.zero_le, Nat.le_refl, Nat.add_zero, Nat.zero_add, twT hT, twV hV]
  (repeat (refine And.intro (by (first | omega | assumption | trivial | (simp only [inI]; omega) | (simp only [inL]; omega) | (refine jb_01) | (exact jb_in))) ?_))
  have j : jkr w (w 549) 0 (upA w 539 (up1 (w 539) 28 0)) := ⟨upA_ne (by omega), upA_eq, fun a a1 a2 => upA_ne a1⟩
  have e40 : upA w 539 (up1 (w 539) 28 0) 540 = v 540 := (upA_ne (by omega)).trans hw.a
  have e49 : upA w 539 (up1 (w 539) 28 0) 549 = v 549 := (upA_ne (by omega)).trans (hw 549 (by omega) (by omega) (by omega) (by omega))
  have e28 : upA w 539 (up1 (w 539) 28 0) 539 28 = 0 := by rw [upA_eq, up1_eq]
  refine tw_layRow_1 hT hs (v 540 (13 + s)).toNat 0 _ (j.pv hV) (by omega) (by rw [e40]; omega) (by rw [e40]; omega) (by omega) ?_
  rw [e40, e49, e28]
  intro w2 hw2
  exact hQ w w2 hw hc (j.tr hw2)
end TG
