/-! ===== the reference: steps emitted, what waits ===== -/
set_option maxRecDepth 100000
theorem cdl_snoc {X : Int → Int} : ∀ (n : Nat) (b : Int), cdl X b (n + 1) = cdl X b n ++ [(X (b + 2 * n), X (b + 2 * n + 1))]
  | 0, b => by
    show [(X b, X (b + 1))] = [] ++ [(X (b + 2 * ((0 : Nat) : Int)), X (b + 2 * ((0 : Nat) : Int) + 1))]
    rw [show b + 2 * ((0 : Nat) : Int) = b by omega]
    rfl
  | n + 1, b => by
    have ih := cdl_snoc (X := X) n (b + 2)
    show (X b, X (b + 1)) :: cdl X (b + 2) (n + 1) = ((X b, X (b + 1)) :: cdl X (b + 2) n) ++ _
    rw [ih, show b + 2 * ((n + 1 : Nat) : Int) = b + 2 + 2 * (n : Int) by omega]
    rfl
theorem cdl_cg {X Y : Int → Int} : ∀ (n : Nat) (b : Int), (∀ i, b ≤ i → i < b + 2 * n → Y i = X i) → cdl Y b n = cdl X b n
  | 0, b, h => rfl
  | n + 1, b, h => by
    unfold cdl
    rw [h b (by omega) (by omega), h (b + 1) (by omega) (by omega), cdl_cg n (b + 2) (fun i i0 i1 => h i (by omega) (by omega))]
/-- what is emitted; what waits -/
def EM (v : Int → Int → Int) (t : Int) (acc : List (Int × Int)) : Prop := v 539 12 = 705 * t ∧ (0 ≤ t ∧ t ≤ 3) ∧ v 539 14 = acc.length ∧ acc.length ≤ 304 ∧ cdl (v 542) (705 * t + 97) acc.length = acc
def PLr (f : Int → Int) : List Int → Prop
  | [] => True
  | x :: P => f P.length = x ∧ PLr f P
def PLq (v : Int → Int → Int) (P : List Int) : Prop := v 539 17 = P.length ∧ P.length ≤ 100 ∧ PLr (v 544) P
theorem PLr.cg {f g : Int → Int} : ∀ (P : List Int), (∀ i : Nat, i < P.length → g i = f i) → PLr f P → PLr g P
  | [], _, _ => trivial
  | x :: P, h, q => ⟨(h P.length (by simp)).trans q.1, PLr.cg P (fun i hi => h i (by simp; omega)) q.2⟩
def XS (t : Int) (v w : Int → Int → Int) : Prop := (∀ a, a ≠ 539 → a ≠ 542 → a ≠ 544 → w a = v a) ∧ (∀ j, (j < 7 ∨ j = 12 ∨ j = 13 ∨ j = 15 ∨ j = 16 ∨ 20 ≤ j) → w 539 j = v 539 j) ∧ (∀ i, (i < 705 * t + 97 ∨ 705 * t + 705 ≤ i) → w 542 i = v 542 i)
theorem XS.rf {t : Int} {v : Int → Int → Int} : XS t v v := ⟨fun _ _ _ _ => rfl, fun _ _ => rfl, fun _ _ => rfl⟩
theorem XS.tr {t : Int} {u v w : Int → Int → Int} (h : XS t u v) (h2 : XS t v w) : XS t u w := ⟨fun a a1 a2 a3 => (h2.1 a a1 a2 a3).trans (h.1 a a1 a2 a3), fun j hj => (h2.2.1 j hj).trans (h.2.1 j hj), fun i hi => (h2.2.2 i hi).trans (h.2.2 i hi)⟩
theorem RJ.xs {t : Int} {v w : Int → Int → Int} (h : RJ v w) : XS t v w := ⟨fun a a1 _ _ => h.1 a a1, fun j hj => h.2 j (by omega), fun i _ => by rw [h.1 542 (by decide)]⟩
theorem pvX : ∀ q ∈ pvL, (q.1 ≠ 542 ∧ q.1 ≠ 544) ∧ ¬ (q.1 = 539 ∧ ¬ (q.2.1 < 7 ∨ q.2.1 = 12 ∨ q.2.1 = 13 ∨ q.2.1 = 15 ∨ q.2.1 = 16 ∨ 20 ≤ q.2.1)) := by decide +kernel
theorem XS.pv {t : Int} {v w : Int → Int → Int} (h : XS t v w) (hV : PV v) : PV w := hV.fr2 (fun q hq => by
  have := pvX q hq
  by_cases e : q.1 = 539
  · rw [e]
    exact h.2.1 _ (Decidable.byContradiction (fun q2 => this.2 ⟨e, q2⟩))
  · rw [h.1 _ e this.1.1 this.1.2])
theorem R2.fr {v w : Int → Int → Int} {B : Int → Int} {n k : Nat} (h : R2 v B n k) (e : ∀ j, (j = 4 ∨ (7 ≤ j ∧ j ≤ 11)) → w 539 j = v 539 j) (e2 : w 543 = v 543) : R2 w B n k := by
  obtain ⟨⟨⟨a1, a2⟩, a3, a4⟩, h2, h3, h4, h5, h6⟩ := h
  refine ⟨⟨⟨(e 4 (by omega)).trans a1, (e 7 (by omega)).trans a2⟩, a3, by rw [e2]; exact a4⟩, (e 8 (by omega)).trans h2, by rw [e 9 (by omega)]; exact h3, by rw [e 10 (by omega)]; exact h4, by rw [e 9 (by omega), e 11 (by omega)]; exact h5, h6⟩
/-- the reference within a sum: token, what is emitted, what waits, opens, whether it is whole -/
def MS (v : Int → Int → Int) (B : Int → Int) (n k : Nat) (t : Int) (P : List Int) (acc : List (Int × Int)) (o z : Int) : Prop := R2 v B n k ∧ EM v t acc ∧ PLq v P ∧ v 539 18 = o ∧ v 539 19 = z
theorem EM.fr {v w : Int → Int → Int} {t : Int} {acc : List (Int × Int)} (h : EM v t acc) (e : w 539 12 = v 539 12) (e2 : w 539 14 = v 539 14) (e3 : w 542 = v 542) : EM w t acc := by
  unfold EM
  rw [e, e2, e3]
  exact h
theorem PLq.fr {v w : Int → Int → Int} {P : List Int} (h : PLq v P) (e : w 539 17 = v 539 17) (e3 : w 544 = v 544) : PLq w P := by
  unfold PLq
  rw [e, e3]
  exact h
section TG
variable {g : jjG} {d : Nat} {v : Int → Int → Int} {T : jjT} {Q : jjQ} {B : Int → Int} {n k : Nat} {t o z : Int} {P : List Int} {acc : List (Int × Int)}
theorem tw_emit {a b : Int} (hT : PT T) (hV : PV v) (hS : MS v B n k t P acc o z) (hl : acc.length < 304) (hQ : ∀ w, XS t v w → MS w B n k t P (acc ++ [(a, b)]) o z → Q (.inl none) (w, T)) : jmet g (d + 1) 0 0 MX2_emit [vR 539, vI a, vI b] (v, T) Q := by
  obtain ⟨hR, ⟨m1, m2, m3, m4, m5⟩, hP, hO, hZ⟩ := hS
  have key : ∀ w, w = upA (upA v 539 (up1 (v 539) 14 ((acc.length : Int) + 1))) 542 (up1 (up1 (v 542) (705 * t + 97 + 2 * (acc.length : Int)) a) (705 * t + 97 + 2 * (acc.length : Int) + 1) b) → Q (.inl none) (w, T) := by
    intro w hw
    have e39 : w 539 = up1 (v 539) 14 ((acc.length : Int) + 1) := by rw [hw, upA_ne (by decide), upA_eq]
    have e42 : w 542 = up1 (up1 (v 542) (705 * t + 97 + 2 * (acc.length : Int)) a) (705 * t + 97 + 2 * (acc.length : Int) + 1) b := by rw [hw, upA_eq]
    have eo : ∀ x, x ≠ 539 → x ≠ 542 → w x = v x := fun x x1 x2 => by rw [hw, upA_ne x2, upA_ne x1]
    have ej : ∀ j, j ≠ 14 → w 539 j = v 539 j := fun j hj => by rw [e39, up1_ne hj]
    refine hQ w ⟨fun x x1 x2 x3 => eo x x1 x2, fun j hj => ej j (by omega), fun i hi => by rw [e42, up1_ne (by omega), up1_ne (by omega)]⟩ ⟨hR.fr (fun j hj => ej j (by omega)) (eo 543 (by decide) (by decide)), ⟨(ej 12 (by omega)).trans m1, m2, ?_, ?_, ?_⟩, hP.fr (ej 17 (by omega)) (eo 544 (by decide) (by decide)), (ej 18 (by omega)).trans hO, (ej 19 (by omega)).trans hZ⟩
    · rw [e39, up1_eq, List.length_append]; rfl
    · rw [List.length_append]; simp only [List.length_cons, List.length_nil]; omega
    · rw [List.length_append]
      show cdl (w 542) (705 * t + 97) (acc.length + 1) = _
      rw [cdl_snoc, e42, up1_ne (by omega), up1_eq, up1_eq]
      rw [cdl_cg (X := v 542) (Y := up1 (up1 (v 542) (705 * t + 97 + 2 * (acc.length : Int)) a) (705 * t + 97 + 2 * (acc.length : Int) + 1) b) acc.length (705 * t + 97) (fun i i0 i1 => by rw [up1_ne (by omega), up1_ne (by omega)]), m5]
  refine jmet_of (ls := [some (vR 539), some (vI a), some (vI b)]) sX2_emit rfl (by decide +kernel) (by decide) rfl (by simp [jent]) ?_
  refine jW_step ?_
  simp (disch := (first | decide | omega)) only [bX2_emit, jxs, hps, jtsw, jlsw, List.length_cons, List.length_nil, true_and, and_true, true_implies, false_implies, implies_true, not_true_eq_false, not_false_eq_true, false_and, and_false, if_true, if_false, or_true, true_or, or_false, false_or, Classical.not_not, and_self, Int.reduceAdd, Int.reduceMul, Int.reduceSub, Int.reduceNeg, Int.reduceLT, Int.reduceLE, Int.reduceEq, Int.reduceNe, Int.reduceToNat, Nat.reduceAdd, Nat.reduceMul, Nat.reduceSub, Nat.reduceLeDiff, Nat.reduceLT, Nat.reduceEqDiff, reduceIte, Nat.zero_le, Nat.le_refl, Nat.add_zero, Nat.zero_add, twT hT, twV hV, m1, m3]
  (repeat (refine And.intro (by (first | omega | assumption | trivial | (simp only [inI]; omega) | (simp only [inL]; omega) | (refine jb_01) | (exact jb_in))) ?_))
  exact key _ rfl
theorem MS.pl {v : Int → Int → Int} (h : MS v B n k t P acc o z) {w : Int → Int → Int} {P' : List Int} {o' z' : Int} (hw : XS t v w) (e1 : ∀ j, (7 ≤ j ∧ j ≤ 14) → w 539 j = v 539 j) (e2 : w 542 = v 542) (hP : PLq w P') (ho : w 539 18 = o') (hz : w 539 19 = z') : MS w B n k t P' acc o' z' :=
  ⟨h.1.fr (fun j hj => by
    by_cases c : j = 4
    · rw [c]; exact hw.2.1 4 (by omega)
    · exact e1 j (by omega)) (hw.1 543 (by decide) (by decide) (by decide)), h.2.1.fr (e1 12 (by omega)) (e1 14 (by omega)) e2, hP, ho, hz⟩
theorem tw_push {x : Int} (hT : PT T) (hV : PV v) (hS : MS v B n k t P acc o z) (hl : P.length < 100) (hQ : ∀ w, XS t v w → MS w B n k t (x :: P) acc o z → Q (.inl none) (w, T)) : jmet g (d + 1) 0 0 MX2_push [vR 539, vI x] (v, T) Q := by
  have m1 := hS.2.2.1.1
  have key : ∀ w, w = upA (upA v 539 (up1 (v 539) 17 ((P.length : Int) + 1))) 544 (up1 (v 544) (P.length : Int) x) → Q (.inl none) (w, T) := by
    intro w hw
    have e39 : w 539 = up1 (v 539) 17 ((P.length : Int) + 1) := by rw [hw, upA_ne (by decide), upA_eq]
    have e44 : w 544 = up1 (v 544) (P.length : Int) x := by rw [hw, upA_eq]
    have eo : ∀ y, y ≠ 539 → y ≠ 544 → w y = v y := fun y x1 x2 => by rw [hw, upA_ne x2, upA_ne x1]
    have ej : ∀ j, j ≠ 17 → w 539 j = v 539 j := fun j hj => by rw [e39, up1_ne hj]
    have xs : XS t v w := ⟨fun y x1 x2 x3 => eo y x1 x3, fun j hj => ej j (by omega), fun i hi => by rw [eo 542 (by decide) (by decide)]⟩
    refine hQ w xs (hS.pl xs (fun j hj => ej j (by omega)) (eo 542 (by decide) (by decide)) ⟨?_, ?_, ?_, ?_⟩ ((ej 18 (by omega)).trans hS.2.2.2.1) ((ej 19 (by omega)).trans hS.2.2.2.2))
    · rw [e39, up1_eq, List.length_cons]; omega
    · rw [List.length_cons]; omega
    · rw [e44, up1_eq]
    · rw [e44]
      exact PLr.cg P (fun i hi => up1_ne (by omega)) hS.2.2.1.2.2
  refine jmet_of (ls := [some (vR 539), some (vI x)]) sX2_push rfl (by decide +kernel) (by decide) rfl (by simp [jent]) ?_
  refine jW_step ?_
  simp (disch := (first | decide | omega)) only [bX2_push, jxs, hps, jtsw, jlsw, List.length_cons, List.length_nil, true_and, and_true, true_implies, false_implies, implies_true, not_true_eq_false, not_false_eq_true, false_and, and_false, if_true, if_false, or_true, true_or, or_false, false_or, Classical.not_not, and_self, Int.reduceAdd, Int.reduceMul, Int.reduceSub, Int.reduceNeg, Int.reduceLT, Int.reduceLE, Int.reduceEq, Int.reduceNe, Int.reduceToNat, Nat.reduceAdd, Nat.reduceMul, Nat.reduceSub, Nat.reduceLeDiff, Nat.reduceLT, Nat.reduceEqDiff, reduceIte, Nat.zero_le, Nat.le_refl, Nat.add_zero, Nat.zero_add, twT hT, twV hV, m1]
  (repeat (refine And.intro (by (first | omega | assumption | trivial | (simp only [inI]; omega) | (simp only [inL]; omega) | (refine jb_01) | (exact jb_in))) ?_))
  exact key _ rfl
/-- one goes off the pile -/
theorem MS.pop {v : Int → Int → Int} {x : Int} (h : MS v B n k t (x :: P) acc o z) {o' : Int} {w : Int → Int → Int} (hw : ∀ a, a ≠ 539 → w a = v a) (h17 : w 539 17 = P.length) (h18 : w 539 18 = o') (ej : ∀ j, j ≠ 17 → j ≠ 18 → w 539 j = v 539 j) : XS t v w ∧ MS w B n k t P acc o' z := by
  have hl := h.2.2.1.2.1
  rw [List.length_cons] at hl
  have xs : XS t v w := ⟨fun y x1 x2 x3 => hw y x1, fun j hj => ej j (by omega) (by omega), fun i hi => by rw [hw 542 (by decide)]⟩
  exact ⟨xs, h.pl xs (fun j hj => ej j (by omega) (by omega)) (hw 542 (by decide)) ⟨h17, by omega, by rw [hw 544 (by decide)]; exact h.2.2.1.2.2.2⟩ h18 ((ej 19 (by omega) (by omega)).trans h.2.2.2.2)⟩
theorem tw_next {v : Int → Int → Int} (hT : PT T) (hV : PV v) (hS : MS v B n k t P acc o z) (hQ : ∀ w, XS t v w → MS w B n (nxT B n k) t P acc o z → Q (.inl none) (w, T)) : jmet g (d + 5) 0 0 MX2_nextToken [vR 539] (v, T) Q := by
  refine tw_nextToken hT hV hS.1.1 ?_
  intro w w1 w2
  have ej : ∀ j, (j < 7 ∨ 11 < j) → w 539 j = v 539 j := w1.2
  exact hQ w w1.xs ⟨w2, hS.2.1.fr (ej 12 (by omega)) (ej 14 (by omega)) (w1.1 542 (by decide)), hS.2.2.1.fr (ej 17 (by omega)) (w1.1 544 (by decide)), (ej 18 (by omega)).trans hS.2.2.2.1, (ej 19 (by omega)).trans hS.2.2.2.2⟩
end TG
