/-! ===== the reference: clauses found, names, what pushes ===== -/
set_option maxRecDepth 100000
/-- which names may stand in a clause of a sort -/
def allow (so i : Int) : Prop := (0 ≤ i ∧ i < 15) ∧ (i ≤ 5 ∨ (i < 12 ∧ so = 0) ∨ (12 ≤ i ∧ so = 1))
def tcode (X : Int → Int) (t k : Int) : List (Int × Int) := cdl X (705 * t + 97 + 2 * X (705 * t + 1 + 4 * k + 2)) (X (705 * t + 1 + 4 * k + 3) - X (705 * t + 1 + 4 * k + 2)).toNat
def clOK (X : Int → Int) (t k : Int) : Prop :=
  (0 ≤ X (705 * t + 1 + 4 * k) ∧ X (705 * t + 1 + 4 * k) ≤ 9) ∧
  (X (705 * t + 1 + 4 * k) ≤ 2 → (0 ≤ X (705 * t + 1 + 4 * k + 2) ∧ X (705 * t + 1 + 4 * k + 2) ≤ X (705 * t + 1 + 4 * k + 3) ∧ X (705 * t + 1 + 4 * k + 3) ≤ 304) ∧ (∀ q ∈ tcode X t k, okC (allow (X (705 * t + 1 + 4 * k))) q)) ∧
  (X (705 * t + 1 + 4 * k) ≤ 1 → ∀ N, ∃ b, rpn N (tcode X t k) ([], []) = some ([], [b])) ∧
  (X (705 * t + 1 + 4 * k) = 2 → ∀ N, ∃ z, rpn N (tcode X t k) ([], []) = some ([z], [])) ∧
  (X (705 * t + 1 + 4 * k) = 0 → 0 ≤ X (705 * t + 1 + 4 * k + 1) ∧ X (705 * t + 1 + 4 * k + 1) ≤ 5) ∧
  (X (705 * t + 1 + 4 * k) = 3 → 1 ≤ X (705 * t + 1 + 4 * k + 1) ∧ X (705 * t + 1 + 4 * k + 1) ≤ 2) ∧
  (X (705 * t + 1 + 4 * k) = 4 → 1 ≤ X (705 * t + 1 + 4 * k + 1) ∧ X (705 * t + 1 + 4 * k + 1) ≤ 99) ∧
  (X (705 * t + 1 + 4 * k) = 5 → (0 ≤ X (705 * t + 1 + 4 * k + 1) ∧ X (705 * t + 1 + 4 * k + 1) ≤ 2) ∧ (0 ≤ X (705 * t + 1 + 4 * k + 2) ∧ X (705 * t + 1 + 4 * k + 2) ≤ 9)) ∧
  (X (705 * t + 1 + 4 * k) = 6 → 0 ≤ X (705 * t + 1 + 4 * k + 1) ∧ X (705 * t + 1 + 4 * k + 1) ≤ 9) ∧
  (X (705 * t + 1 + 4 * k) = 7 → (0 ≤ X (705 * t + 1 + 4 * k + 1) ∧ X (705 * t + 1 + 4 * k + 1) ≤ 9) ∧ (0 ≤ X (705 * t + 1 + 4 * k + 2) ∧ X (705 * t + 1 + 4 * k + 2) ≤ 2) ∧ (0 ≤ X (705 * t + 1 + 4 * k + 3) ∧ X (705 * t + 1 + 4 * k + 3) ≤ 9))
/-- the texts that are told -/
def TX (n : Int) (X : Int → Int) : Prop := ∀ t, 0 ≤ t → t < n → (0 ≤ X (705 * t) ∧ X (705 * t) ≤ 24) ∧ ∀ k, 0 ≤ k → k < X (705 * t) → clOK X t k
/-- books, shelves, settings -/
def TB (A : Int → Int) : Prop := (0 ≤ A 0 ∧ A 0 ≤ 10) ∧ (0 ≤ A 2 ∧ A 2 ≤ 1) ∧ (1 ≤ A 3 ∧ A 3 ≤ 2) ∧ (0 ≤ A 5 ∧ A 5 ≤ 4) ∧ (-1 ≤ A 6 ∧ A 6 < A 5) ∧ (∀ i, 13 ≤ i → i < 16 → 0 ≤ A i ∧ A i ≤ 10) ∧ (∀ i, 16 ≤ i → i < 106 → 0 ≤ A i ∧ A i ≤ 9)
def TE (v : Int → Int → Int) : Prop := TB (v 540) ∧ TX (v 540 5) (v 542)
/-- only what is worked with differs -/
def jk (v w : Int → Int → Int) : Prop := ∀ a, a ≠ 545 → a ≠ 546 → a ≠ 547 → w a = v a
theorem jk.pv {v w : Int → Int → Int} (h : jk v w) (hV : PV v) : PV w := hV.fr (fun a ha => h a (fun e => by subst e; revert ha; decide) (fun e => by subst e; revert ha; decide) (fun e => by subst e; revert ha; decide))
theorem jk.tr {u v w : Int → Int → Int} (h : jk u v) (h2 : jk v w) : jk u w := fun a h3 h4 h5 => (h2 a h3 h4 h5).trans (h a h3 h4 h5)
theorem jk.rf {v : Int → Int → Int} : jk v v := fun _ _ _ _ => rfl
theorem jk.a {v w : Int → Int → Int} (h : jk v w) : w 540 = v 540 := h 540 (by omega) (by omega) (by omega)
theorem jk.x {v w : Int → Int → Int} (h : jk v w) : w 542 = v 542 := h 542 (by omega) (by omega) (by omega)
theorem jk.up {v : Int → Int → Int} {a : Int} {f : Int → Int} (h : a = 545 ∨ a = 546 ∨ a = 547) : jk v (upA v a f) := fun b h3 h4 h5 => upA_ne (by omega)
theorem jk.te {v w : Int → Int → Int} (h : jk v w) (hE : TE v) : TE w := by
  unfold TE
  rw [h.a, h.x]
  exact hE
/-- the clause of a sort (of a law) -/
def fcl (X : Int → Int) (b so la : Int) : Nat → Int → Int
  | 0, _ => -1
  | n + 1, k => if X (b + 1 + 4 * k) = so ∧ (¬ so = 0 ∨ X (b + 1 + 4 * k + 1) = la) then k else fcl X b so la n (k + 1)
def clA (A X : Int → Int) (so la : Int) : Int := if A 6 < 0 then -1 else fcl X (705 * A 6) so la (X (705 * A 6)).toNat 0
theorem fcl_in {X : Int → Int} {b so la : Int} : ∀ (n : Nat) (k : Int), 0 ≤ k → 0 ≤ fcl X b so la n k → k ≤ fcl X b so la n k ∧ fcl X b so la n k < k + n ∧ X (b + 1 + 4 * fcl X b so la n k) = so
  | 0, k, hk, h => by unfold fcl at h; omega
  | n + 1, k, hk, h => by
    unfold fcl at h ⊢
    by_cases q : X (b + 1 + 4 * k) = so ∧ (¬ so = 0 ∨ X (b + 1 + 4 * k + 1) = la)
    · rw [if_pos q] at h ⊢
      exact ⟨by omega, by omega, q.1⟩
    · rw [if_neg q] at h ⊢
      have := fcl_in n (k + 1) (by omega) h
      exact ⟨by omega, by omega, this.2.2⟩
theorem fcl_lo {X : Int → Int} {b so la : Int} : ∀ (n : Nat) (k : Int), 0 ≤ k → -1 ≤ fcl X b so la n k
  | 0, k, hk => by unfold fcl; omega
  | n + 1, k, hk => by
    unfold fcl
    split
    · omega
    · exact fcl_lo n (k + 1) (by omega)
theorem clA_in {v : Int → Int → Int} (hE : TE v) {so la : Int} (h : 0 ≤ clA (v 540) (v 542) so la) : (0 ≤ v 540 6 ∧ v 540 6 < v 540 5 ∧ v 540 5 ≤ 4) ∧ (0 ≤ clA (v 540) (v 542) so la ∧ clA (v 540) (v 542) so la < v 542 (705 * v 540 6) ∧ v 542 (705 * v 540 6) ≤ 24) ∧ v 542 (705 * v 540 6 + 1 + 4 * clA (v 540) (v 542) so la) = so ∧ clOK (v 542) (v 540 6) (clA (v 540) (v 542) so la) := by
  obtain ⟨hB, hX⟩ := hE
  obtain ⟨-, -, -, h5, h6, -, -⟩ := hB
  unfold clA at h ⊢
  by_cases q : v 540 6 < 0
  · rw [if_pos q] at h; omega
  · rw [if_neg q] at h ⊢
    have hx := hX (v 540 6) (by omega) h6.2
    have := fcl_in _ 0 (by omega) h
    have h9 : fcl (v 542) (705 * v 540 6) so la (v 542 (705 * v 540 6)).toNat 0 < v 542 (705 * v 540 6) := by omega
    exact ⟨⟨by omega, by omega, by omega⟩, ⟨by omega, h9, by omega⟩, this.2.2, hx.2 _ h h9⟩
section TG
variable {g : jjG} {d : Nat} {T : jjT} {Q : jjQ}
theorem tw_clauseOf_L {v : Int → Int → Int} {so la : Int} (hT : PT T) (hV : PV v) (hE : TE v) (h6 : ¬ v 540 6 < 0) : ∀ (n : Nat) (k : Int), 0 ≤ k → v 542 (705 * v 540 6) = k + n →
    Q (.inl (some (vI (fcl (v 542) (705 * v 540 6) so la n k)))) (v, T) → jW bX2_clauseOf (g, d, 0, 0, Q) 1 [some (vR 539), some (vI so), some (vI la), some (vI k), none] [] (v, T) 0 0 := by
  intro n
  have hB := hE.1.2.2.2.1
  have hB6 := hE.1.2.2.2.2.1
  have hx := (hE.2 (v 540 6) (by omega) (by omega)).1
  induction n with
  | zero =>
    intro k hk hn hQ
    refine jW_step ?_
    simp (disch := (first | decide | omega)) only [bX2_clauseOf, jxs, hps, jtsw, jlsw, List.length_cons, List.length_nil, true_and, and_true, true_implies, false_implies, implies_true, not_true_eq_false, not_false_eq_true, false_and, and_false, if_true, if_false, or_true, true_or, or_false, false_or, Classical.not_not, and_self, Int.reduceAdd, Int.reduceMul, Int.reduceSub, Int.reduceNeg, Int.reduceLT, Int.reduceLE, Int.reduceEq, Int.reduceNe, Int.reduceToNat, Nat.reduceAdd, Nat.reduceMul, Nat.reduceSub, Nat.reduceLeDiff, Nat.reduceLT, Nat.reduceEqDiff, reduceIte, Nat.zero_le, Nat.le_refl, Nat.add_zero, Nat.zero_add, twT hT, twV hV]
    (repeat (refine And.intro (by (first | omega | assumption | trivial | (simp only [inI]; omega) | (simp only [inL]; omega) | (refine jb_01) | (exact jb_in))) ?_))
    (first | refine ⟨fun h9 => (by exfalso; omega), fun _ => ?_⟩ | intro _)
    (repeat (refine And.intro (by (first | omega | assumption | trivial | (simp only [inI]; omega) | (simp only [inL]; omega) | (refine jb_01) | (exact jb_in))) ?_))
    (try refine ⟨fun _ => ?_, fun h9 => (by exfalso; omega)⟩)
    refine jW_step ?_
    simp (disch := (first | decide | omega)) only [bX2_clauseOf, jxs, hps, jtsw, jlsw, List.length_cons, List.length_nil, true_and, and_true, true_implies, false_implies, implies_true, not_true_eq_false, not_false_eq_true, false_and, and_false, if_true, if_false, or_true, true_or, or_false, false_or, Classical.not_not, and_self, Int.reduceAdd, Int.reduceMul, Int.reduceSub, Int.reduceNeg, Int.reduceLT, Int.reduceLE, Int.reduceEq, Int.reduceNe, Int.reduceToNat, Nat.reduceAdd, Nat.reduceMul, Nat.reduceSub, Nat.reduceLeDiff, Nat.reduceLT, Nat.reduceEqDiff, reduceIte, Nat.zero_le, Nat.le_refl, Nat.add_zero, Nat.zero_add, twT hT, twV hV]
    (repeat (refine And.intro (by (first | omega | assumption | trivial | (simp only [inI]; omega) | (simp only [inL]; omega) | (refine jb_01) | (exact jb_in))) ?_))
    exact hQ
  | succ n ih =>
    intro k hk hn hQ
    unfold fcl at hQ
    refine jW_step ?_
    simp (disch := (first | decide | omega)) only [bX2_clauseOf, jxs, hps, jtsw, jlsw, List.length_cons, List.length_nil, true_and, and_true, true_implies, false_implies, implies_true, not_true_eq_false, not_false_eq_true, false_and, and_false, if_true, if_false, or_true, true_or, or_false, false_or, Classical.not_not, and_self, Int.reduceAdd, Int.reduceMul, Int.reduceSub, Int.reduceNeg, Int.reduceLT, Int.reduceLE, Int.reduceEq, Int.reduceNe, Int.reduceToNat, Nat.reduceAdd, Nat.reduceMul, Nat.reduceSub, Nat.reduceLeDiff, Nat.reduceLT, Nat.reduceEqDiff, reduceIte, Nat.zero_le, Nat.le_refl, Nat.add_zero, Nat.zero_add, twT hT, twV hV]
    (repeat (refine And.intro (by (first | omega | assumption | trivial | (simp only [inI]; omega) | (simp only [inL]; omega) | (refine jb_01) | (exact jb_in))) ?_))
    (first | refine ⟨fun h9 => (by exfalso; omega), fun _ => ?_⟩ | intro _)
    (repeat (refine And.intro (by (first | omega | assumption | trivial | (simp only [inI]; omega) | (simp only [inL]; omega) | (refine jb_01) | (exact jb_in))) ?_))
    (first | refine ⟨fun h9 => (by exfalso; omega), fun _ => ?_⟩ | intro _)
    (repeat (refine And.intro (by (first | omega | assumption | trivial | (simp only [inI]; omega) | (simp only [inL]; omega) | (refine jb_01) | (exact jb_in))) ?_))
    have nx : ∀ z, ¬ (v 542 (705 * v 540 6 + 1 + 4 * k) = so ∧ (¬ so = 0 ∨ v 542 (705 * v 540 6 + 1 + 4 * k + 1) = la)) → jW bX2_clauseOf (g, d, 0, 0, Q) 3 [some (vR 539), some (vI so), some (vI la), some (vI k), some (vI z)] [] (v, T) 0 0 := by
      intro z hz
      rw [if_neg hz] at hQ
      refine jW_step ?_
      simp (disch := (first | decide | omega)) only [bX2_clauseOf, jxs, hps, jtsw, jlsw, List.length_cons, List.length_nil, true_and, and_true, true_implies, false_implies, implies_true, not_true_eq_false, not_false_eq_true, false_and, and_false, if_true, if_false, or_true, true_or, or_false, false_or, Classical.not_not, and_self, Int.reduceAdd, Int.reduceMul, Int.reduceSub, Int.reduceNeg, Int.reduceLT, Int.reduceLE, Int.reduceEq, Int.reduceNe, Int.reduceToNat, Nat.reduceAdd, Nat.reduceMul, Nat.reduceSub, Nat.reduceLeDiff, Nat.reduceLT, Nat.reduceEqDiff, reduceIte, Nat.zero_le, Nat.le_refl, Nat.add_zero, Nat.zero_add, twT hT, twV hV]
      (repeat (refine And.intro (by (first | omega | assumption | trivial | (simp only [inI]; omega) | (simp only [inL]; omega) | (refine jb_01) | (exact jb_in))) ?_))
      refine jW_sub (ls' := [some (vR 539), some (vI so), some (vI la), some (vI (k + 1)), none]) (by simp [jsub]) ?_
      exact ih (k + 1) (by omega) (by omega) hQ
    have fd : ∀ z, (v 542 (705 * v 540 6 + 1 + 4 * k) = so ∧ (¬ so = 0 ∨ v 542 (705 * v 540 6 + 1 + 4 * k + 1) = la)) → jW bX2_clauseOf (g, d, 0, 0, Q) 2 [some (vR 539), some (vI so), some (vI la), some (vI k), some (vI z)] [] (v, T) 0 0 := by
      intro z hz
      rw [if_pos hz] at hQ
      refine jW_step ?_
      simp (disch := (first | decide | omega)) only [bX2_clauseOf, jxs, hps, jtsw, jlsw, List.length_cons, List.length_nil, true_and, and_true, true_implies, false_implies, implies_true, not_true_eq_false, not_false_eq_true, false_and, and_false, if_true, if_false, or_true, true_or, or_false, false_or, Classical.not_not, and_self, Int.reduceAdd, Int.reduceMul, Int.reduceSub, Int.reduceNeg, Int.reduceLT, Int.reduceLE, Int.reduceEq, Int.reduceNe, Int.reduceToNat, Nat.reduceAdd, Nat.reduceMul, Nat.reduceSub, Nat.reduceLeDiff, Nat.reduceLT, Nat.reduceEqDiff, reduceIte, Nat.zero_le, Nat.le_refl, Nat.add_zero, Nat.zero_add, twT hT, twV hV]
      (repeat (refine And.intro (by (first | omega | assumption | trivial | (simp only [inI]; omega) | (simp only [inL]; omega) | (refine jb_01) | (exact jb_in))) ?_))
      exact hQ
    refine ⟨fun h1 => ?_, fun h1 => ?_⟩
    · exact nx _ (fun q => h1 q.1)
    · refine ⟨fun h2 => ?_, fun h2 => ?_⟩
      · exact fd _ ⟨h1, Or.inl h2⟩
      · (repeat (refine And.intro (by (first | omega | assumption | trivial | (simp only [inI]; omega) | (simp only [inL]; omega) | (refine jb_01) | (exact jb_in))) ?_))
        refine ⟨fun h3 => ?_, fun h3 => ?_⟩
        · exact nx _ (fun q => q.2.elim (fun e => e h2) h3)
        · exact fd _ ⟨h1, Or.inr h3⟩
theorem tw_clauseOf {v : Int → Int → Int} {so la : Int} (hT : PT T) (hV : PV v) (hS : TE v) (hQ : Q (.inl (some (vI (clA (v 540) (v 542) so la)))) (v, T)) : jmet g (d + 1) 0 0 MX2_clauseOf [vR 539, vI so, vI la] (v, T) Q := by
  refine jmet_of (ls := [some (vR 539), some (vI so), some (vI la), none, none]) sX2_clauseOf rfl (by decide +kernel) (by decide) rfl (by simp [jent]) ?_
  unfold clA at hQ
  refine jW_step ?_
  simp (disch := (first | decide | omega)) only [bX2_clauseOf, jxs, hps, jtsw, jlsw, List.length_cons, List.length_nil, true_and, and_true, true_implies, false_implies, implies_true, not_true_eq_false, not_false_eq_true, false_and, and_false, if_true, if_false, or_true, true_or, or_false, false_or, Classical.not_not, and_self, Int.reduceAdd, Int.reduceMul, Int.reduceSub, Int.reduceNeg, Int.reduceLT, Int.reduceLE, Int.reduceEq, Int.reduceNe, Int.reduceToNat, Nat.reduceAdd, Nat.reduceMul, Nat.reduceSub, Nat.reduceLeDiff, Nat.reduceLT, Nat.reduceEqDiff, reduceIte, Nat.zero_le, Nat.le_refl, Nat.add_zero, Nat.zero_add, twT hT, twV hV]
  by_cases h6 : v 540 6 < 0
  · rw [if_pos h6] at hQ
    refine jW_step ?_
    simp (disch := (first | decide | omega)) only [bX2_clauseOf, jxs, hps, jtsw, jlsw, List.length_cons, List.length_nil, true_and, and_true, true_implies, false_implies, implies_true, not_true_eq_false, not_false_eq_true, false_and, and_false, if_true, if_false, or_true, true_or, or_false, false_or, Classical.not_not, and_self, Int.reduceAdd, Int.reduceMul, Int.reduceSub, Int.reduceNeg, Int.reduceLT, Int.reduceLE, Int.reduceEq, Int.reduceNe, Int.reduceToNat, Nat.reduceAdd, Nat.reduceMul, Nat.reduceSub, Nat.reduceLeDiff, Nat.reduceLT, Nat.reduceEqDiff, reduceIte, Nat.zero_le, Nat.le_refl, Nat.add_zero, Nat.zero_add, twT hT, twV hV]
    (repeat (refine And.intro (by (first | omega | assumption | trivial | (simp only [inI]; omega) | (simp only [inL]; omega) | (refine jb_01) | (exact jb_in))) ?_))
    (try refine ⟨fun _ => ?_, fun h9 => (by exfalso; omega)⟩)
    refine jW_step ?_
    simp (disch := (first | decide | omega)) only [bX2_clauseOf, jxs, hps, jtsw, jlsw, List.length_cons, List.length_nil, true_and, and_true, true_implies, false_implies, implies_true, not_true_eq_false, not_false_eq_true, false_and, and_false, if_true, if_false, or_true, true_or, or_false, false_or, Classical.not_not, and_self, Int.reduceAdd, Int.reduceMul, Int.reduceSub, Int.reduceNeg, Int.reduceLT, Int.reduceLE, Int.reduceEq, Int.reduceNe, Int.reduceToNat, Nat.reduceAdd, Nat.reduceMul, Nat.reduceSub, Nat.reduceLeDiff, Nat.reduceLT, Nat.reduceEqDiff, reduceIte, Nat.zero_le, Nat.le_refl, Nat.add_zero, Nat.zero_add, twT hT, twV hV]
    (repeat (refine And.intro (by (first | omega | assumption | trivial | (simp only [inI]; omega) | (simp only [inL]; omega) | (refine jb_01) | (exact jb_in))) ?_))
    exact hQ
  · rw [if_neg h6] at hQ
    have hB := hS.1.2.2.2.1
    have hB6 := hS.1.2.2.2.2.1
    have hx := (hS.2 (v 540 6) (by omega) (by omega)).1
    exact tw_clauseOf_L hT hV hS h6 _ 0 (by omega) (by omega) hQ
/-- the need that counts -/
def needA (A X : Int → Int) : Int := if clA A X 3 0 < 0 then A 3 else X (705 * A 6 + 2 + 4 * clA A X 3 0)
theorem tw_needNow {v : Int → Int → Int} (hT : PT T) (hV : PV v) (hS : TE v) (hQ : Q (.inl (some (vI (needA (v 540) (v 542))))) (v, T)) : jmet g (d + 2) 0 0 MX2_needNow [vR 539] (v, T) Q := by
  refine jmet_of (ls := [some (vR 539), none]) sX2_needNow rfl (by decide +kernel) (by decide) rfl (by simp [jent]) ?_
  unfold needA at hQ
  refine jW_step ?_
  simp (disch := (first | decide | omega)) only [bX2_needNow, jxs, hps, jtsw, jlsw, List.length_cons, List.length_nil, true_and, and_true, true_implies, false_implies, implies_true, not_true_eq_false, not_false_eq_true, false_and, and_false, if_true, if_false, or_true, true_or, or_false, false_or, Classical.not_not, and_self, Int.reduceAdd, Int.reduceMul, Int.reduceSub, Int.reduceNeg, Int.reduceLT, Int.reduceLE, Int.reduceEq, Int.reduceNe, Int.reduceToNat, Nat.reduceAdd, Nat.reduceMul, Nat.reduceSub, Nat.reduceLeDiff, Nat.reduceLT, Nat.reduceEqDiff, reduceIte, Nat.zero_le, Nat.le_refl, Nat.add_zero, Nat.zero_add, twT hT, twV hV]
  (repeat (refine And.intro (by (first | omega | assumption | trivial | (simp only [inI]; omega) | (simp only [inL]; omega) | (refine jb_01) | (exact jb_in))) ?_))
  refine ⟨0, 0, ⟨by omega, by omega⟩, tw_clauseOf hT (by (first | assumption | (repeat (first | assumption | refine PV.A ?_ (by decide) | refine PV.F ?_ ?_ | refine twR.up ?_ (by decide) | refine PV.r ?_)))) (by (first | omega | assumption | trivial | (simp only [inI]; omega) | (simp only [inL]; omega) | (refine jb_01) | (exact jb_in))) ?_⟩
  simp (disch := (first | decide | omega)) only [jxs, hps, jtsw, jlsw, List.length_cons, List.length_nil, true_and, and_true, true_implies, false_implies, implies_true, not_true_eq_false, not_false_eq_true, false_and, and_false, if_true, if_false, or_true, true_or, or_false, false_or, Classical.not_not, and_self, Int.reduceAdd, Int.reduceMul, Int.reduceSub, Int.reduceNeg, Int.reduceLT, Int.reduceLE, Int.reduceEq, Int.reduceNe, Int.reduceToNat, Nat.reduceAdd, Nat.reduceMul, Nat.reduceSub, Nat.reduceLeDiff, Nat.reduceLT, Nat.reduceEqDiff, reduceIte, Nat.zero_le, Nat.le_refl, Nat.add_zero, Nat.zero_add, twT hT, twV hV]
  refine ⟨fun h => ?_, fun h => ?_⟩
  · rw [if_neg (by omega)] at hQ
    have hc := clA_in hS (by omega)
    (repeat (refine And.intro (by (first | omega | assumption | trivial | (simp only [inI]; omega) | (simp only [inL]; omega) | (refine jb_01) | (exact jb_in))) ?_))
    refine jW_step ?_
    simp (disch := (first | decide | omega)) only [bX2_needNow, jxs, hps, jtsw, jlsw, List.length_cons, List.length_nil, true_and, and_true, true_implies, false_implies, implies_true, not_true_eq_false, not_false_eq_true, false_and, and_false, if_true, if_false, or_true, true_or, or_false, false_or, Classical.not_not, and_self, Int.reduceAdd, Int.reduceMul, Int.reduceSub, Int.reduceNeg, Int.reduceLT, Int.reduceLE, Int.reduceEq, Int.reduceNe, Int.reduceToNat, Nat.reduceAdd, Nat.reduceMul, Nat.reduceSub, Nat.reduceLeDiff, Nat.reduceLT, Nat.reduceEqDiff, reduceIte, Nat.zero_le, Nat.le_refl, Nat.add_zero, Nat.zero_add, twT hT, twV hV]
    (repeat (refine And.intro (by (first | omega | assumption | trivial | (simp only [inI]; omega) | (simp only [inL]; omega) | (refine jb_01) | (exact jb_in))) ?_))
    exact hQ
  · rw [if_pos (by omega)] at hQ
    (repeat (refine And.intro (by (first | omega | assumption | trivial | (simp only [inI]; omega) | (simp only [inL]; omega) | (refine jb_01) | (exact jb_in))) ?_))
    refine jW_step ?_
    simp (disch := (first | decide | omega)) only [bX2_needNow, jxs, hps, jtsw, jlsw, List.length_cons, List.length_nil, true_and, and_true, true_implies, false_implies, implies_true, not_true_eq_false, not_false_eq_true, false_and, and_false, if_true, if_false, or_true, true_or, or_false, false_or, Classical.not_not, and_self, Int.reduceAdd, Int.reduceMul, Int.reduceSub, Int.reduceNeg, Int.reduceLT, Int.reduceLE, Int.reduceEq, Int.reduceNe, Int.reduceToNat, Nat.reduceAdd, Nat.reduceMul, Nat.reduceSub, Nat.reduceLeDiff, Nat.reduceLT, Nat.reduceEqDiff, reduceIte, Nat.zero_le, Nat.le_refl, Nat.add_zero, Nat.zero_add, twT hT, twV hV]
    (repeat (refine And.intro (by (first | omega | assumption | trivial | (simp only [inI]; omega) | (simp only [inL]; omega) | (refine jb_01) | (exact jb_in))) ?_))
    exact hQ
/-- a clause worked: sum or truth -/
theorem tw_work {v : Int → Int → Int} {k : Int} {s' : rpS} (hT : PT T) (hV : PV v) (hS : TE v ∧ (0 ≤ v 540 6 ∧ 0 ≤ k ∧ k < v 542 (705 * v 540 6)) ∧ v 542 (705 * v 540 6 + 1 + 4 * k) ≤ 2 ∧ (∀ j, allow (v 542 (705 * v 540 6 + 1 + 4 * k)) j → -1000000 ≤ v 545 j ∧ v 545 j ≤ 1000000) ∧ rpn (v 545) (tcode (v 542) (v 540 6) k) ([], []) = some s')
    (hQ : ∀ va tr, stk va s'.1 → stk tr s'.2 → Q (.inl none) (upA (upA v 546 va) 547 tr, T)) : jmet g (d + 3) 0 0 MX2_work [vR 539, vI k] (v, T) Q := by
  obtain ⟨hE, ⟨h6, hk0, hk1⟩, hs, hN, hr⟩ := hS
  refine jmet_of (ls := [some (vR 539), some (vI k), none, none, none, none, none, none, none]) sX2_work rfl (by decide +kernel) (by decide) rfl (by simp [jent]) ?_
  have hB := hE.1.2.2.2.1
  have hB6 := hE.1.2.2.2.2.1
  have hx := hE.2 (v 540 6) (by omega) (by omega)
  have hc := (hx.2 k hk0 hk1).2.1 hs
  have hx1 := hx.1
  refine jW_step ?_
  simp (disch := (first | decide | omega)) only [bX2_work, jxs, hps, jtsw, jlsw, List.length_cons, List.length_nil, true_and, and_true, true_implies, false_implies, implies_true, not_true_eq_false, not_false_eq_true, false_and, and_false, if_true, if_false, or_true, true_or, or_false, false_or, Classical.not_not, and_self, Int.reduceAdd, Int.reduceMul, Int.reduceSub, Int.reduceNeg, Int.reduceLT, Int.reduceLE, Int.reduceEq, Int.reduceNe, Int.reduceToNat, Nat.reduceAdd, Nat.reduceMul, Nat.reduceSub, Nat.reduceLeDiff, Nat.reduceLT, Nat.reduceEqDiff, reduceIte, Nat.zero_le, Nat.le_refl, Nat.add_zero, Nat.zero_add, twT hT, twV hV]
  (repeat (refine And.intro (by (first | omega | assumption | trivial | (simp only [inI]; omega) | (simp only [inL]; omega) | (refine jb_01) | (exact jb_in))) ?_))
  have e : ((tcode (v 542) (v 540 6) k).length : Int) = v 542 (705 * v 540 6 + 1 + 4 * k + 3) - v 542 (705 * v 540 6 + 1 + 4 * k + 2) := by
    unfold tcode
    rw [cdl_len]
    omega
  refine tw_work_L (p := allow (v 542 (705 * v 540 6 + 1 + 4 * k))) hT (by omega) (by omega) (tcode (v 542) (v 540 6) k) [] [] v (v 542 (705 * v 540 6 + 1 + 4 * k + 2)) hV (by omega) (by omega) (by omega) ?_ hc.2 (fun j hj => ⟨hj.1, hN j hj⟩) trivial trivial (fun _ h => absurd h (List.not_mem_nil)) (fun _ h => absurd h (List.not_mem_nil)) (by simp only [List.length_nil]; omega) (by simp only [List.length_nil]; omega) hr hQ
  conv => rhs; unfold tcode
  congr 1
  unfold tcode
  rw [cdl_len]
end TG
