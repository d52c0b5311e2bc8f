/-! ===== the reference: theft, cheapest ===== -/
set_option maxRecDepth 100000
theorem jkx.pv {v w : Int → Int → Int} (h : jkx v w) (hV : PV v) : PV w := by
  obtain ⟨⟨m, h1⟩, h2⟩ := h
  intro q hq
  by_cases e : q.1 = 539
  · rw [e, h1]
    exact (PV.r hV).up (by decide) q hq e
  · have key : ∀ a ∈ pvA, a = 539 ∨ ((a < 545 ∨ 550 < a) ∧ a ≠ 561) := by decide
    have := (key _ (pvL_A q hq)).resolve_left e
    rw [h2 q.1 e this.1 this.2]
    exact hV q hq
theorem jkx.a {v w : Int → Int → Int} (h : jkx v w) : w 540 = v 540 := h.2 540 (by omega) (by omega) (by omega)
theorem jkx.x {v w : Int → Int → Int} (h : jkx v w) : w 542 = v 542 := h.2 542 (by omega) (by omega) (by omega)
theorem jkx.te {v w : Int → Int → Int} (h : jkx v w) (hE : TE v) : TE w := by
  unfold TE
  rw [h.a, h.x]
  exact hE
theorem jkx.rf {v : Int → Int → Int} : jkx v v := ⟨⟨v 539 28, up1_id.symm⟩, fun _ _ _ _ => rfl⟩
theorem jkx.tr {u v w : Int → Int → Int} (h : jkx u v) (h2 : jkx v w) : jkx u w := by
  obtain ⟨⟨m, h3⟩, h4⟩ := h
  obtain ⟨⟨m2, h5⟩, h6⟩ := h2
  exact ⟨⟨m2, by rw [h5, h3, up1_same]⟩, fun a a1 a2 a3 => (h6 a a1 a2 a3).trans (h4 a a1 a2 a3)⟩
theorem coL_bd {f r : Int → Int} {b : Int} : ∀ (k : Nat) (p q n : Int), n ≤ coL f r b k p q n ∧ coL f r b k p q n ≤ n + k
  | 0, _, _, n => by unfold coL; omega
  | k + 1, p, q, n => by
    unfold coL
    by_cases h : f p = b
    · rw [if_pos h]
      have := coL_bd (f := f) (r := r) (b := b) k (p + 1) q n
      omega
    · rw [if_neg h]
      by_cases h2 : f p = r q
      · rw [if_pos h2]
        have := coL_bd (f := f) (r := r) (b := b) k (p + 1) (q + 1) (n + 0)
        omega
      · rw [if_neg h2]
        have := coL_bd (f := f) (r := r) (b := b) k (p + 1) (q + 1) (n + 1)
        omega
def thfA (A X : Int → Int) (b : Int) : Int := if (0 ≤ b ∧ b ≤ A 0 - 1) ∧ A (46 + 6 * b + 5) < 3 then coA A X b else -1
def chpL (A X : Int → Int) (s : Int) : Nat → Int → Int → Int → Int
  | 0, _, f, _ => f
  | n + 1, b, f, l => if A (46 + 6 * b + 5) = s then (if coA A X b < 0 then chpL A X s n (b + 1) f l else if l ≤ coA A X b then chpL A X s n (b + 1) f l else chpL A X s n (b + 1) b (coA A X b)) else chpL A X s n (b + 1) f l
def chpA (A X : Int → Int) (s : Int) : Int := if 0 ≤ s ∧ s ≤ 2 then chpL A X s (A 0).toNat 0 (-1) 1000000 else -1
section TG
variable {g : jjG} {d : Nat} {T : jjT} {Q : jjQ}
theorem tw_theft {v : Int → Int → Int} {b : Int} (hT : PT T) (hV : PV v) (hS : TE v ∧ SH (v 540) ∧ (0 ≤ v 540 1 ∧ v 540 1 < 100000)) (hQ : ∀ u, jkx v u → Q (.inl (some (vI (thfA (v 540) (v 542) b)))) (u, T)) : jmet g (d + 10) 0 0 MX2_theft [vR 539, vI b] (v, T) Q := by
  obtain ⟨hE, hH, h1⟩ := hS
  have h0 := hE.1.1
  unfold thfA at hQ
  refine jmet_of (ls := [some (vR 539), some (vI b)]) sX2_theft rfl (by decide +kernel) (by decide) rfl (by simp [jent]) ?_
  refine jW_step ?_
  simp (disch := (first | decide | omega)) only [bX2_theft, jxs, hps, jtsw, jlsw, List.length_cons, List.length_nil, true_and, and_true, true_implies, false_implies, implies_true, not_true_eq_false, not_false_eq_true, false_and, and_false, if_true, if_false, or_true, true_or, or_false, false_or, Classical.not_not, and_self, Int.reduceAdd, Int.reduceMul, Int.reduceSub, Int.reduceNeg, Int.reduceLT, Int.reduceLE, Int.reduceEq, Int.reduceNe, Int.reduceToNat, Nat.reduceAdd, Nat.reduceMul, Nat.reduceSub, Nat.reduceLeDiff, Nat.reduceLT, Nat.reduceEqDiff, reduceIte, Nat.zero_le, Nat.le_refl, Nat.add_zero, Nat.zero_add, twT hT, twV hV]
  (repeat (refine And.intro (by (first | omega | assumption | trivial | (simp only [inI]; omega) | (simp only [inL]; omega) | (refine jb_01) | (exact jb_in))) ?_))
  refine ⟨0, 0, ⟨by omega, by omega⟩, tw_isOnShelf hT (by (first | assumption | (repeat (first | assumption | refine PV.A ?_ (by decide) | refine PV.F ?_ ?_ | refine twR.up ?_ (by decide) | refine PV.r ?_)))) (by (first | omega | assumption | trivial | (simp only [inI]; omega) | (simp only [inL]; omega) | (refine jb_01) | (exact jb_in))) ?_⟩
  simp (disch := (first | decide | omega)) only [jxs, hps, jtsw, jlsw, List.length_cons, List.length_nil, true_and, and_true, true_implies, false_implies, implies_true, not_true_eq_false, not_false_eq_true, false_and, and_false, if_true, if_false, or_true, true_or, or_false, false_or, Classical.not_not, and_self, Int.reduceAdd, Int.reduceMul, Int.reduceSub, Int.reduceNeg, Int.reduceLT, Int.reduceLE, Int.reduceEq, Int.reduceNe, Int.reduceToNat, Nat.reduceAdd, Nat.reduceMul, Nat.reduceSub, Nat.reduceLeDiff, Nat.reduceLT, Nat.reduceEqDiff, reduceIte, Nat.zero_le, Nat.le_refl, Nat.add_zero, Nat.zero_add, twT hT, twV hV]
  refine ⟨fun h => ?_, fun h => ?_⟩
  · rw [if_neg h] at hQ
    refine jW_step ?_
    simp (disch := (first | decide | omega)) only [bX2_theft, jxs, hps, jtsw, jlsw, List.length_cons, List.length_nil, true_and, and_true, true_implies, false_implies, implies_true, not_true_eq_false, not_false_eq_true, false_and, and_false, if_true, if_false, or_true, true_or, or_false, false_or, Classical.not_not, and_self, Int.reduceAdd, Int.reduceMul, Int.reduceSub, Int.reduceNeg, Int.reduceLT, Int.reduceLE, Int.reduceEq, Int.reduceNe, Int.reduceToNat, Nat.reduceAdd, Nat.reduceMul, Nat.reduceSub, Nat.reduceLeDiff, Nat.reduceLT, Nat.reduceEqDiff, reduceIte, Nat.zero_le, Nat.le_refl, Nat.add_zero, Nat.zero_add, twT hT, twV hV]
    (repeat (refine And.intro (by (first | omega | assumption | trivial | (simp only [inI]; omega) | (simp only [inL]; omega) | (refine jb_01) | (exact jb_in))) ?_))
    exact hQ v jkx.rf
  · rw [if_pos h] at hQ
    (repeat (refine And.intro (by (first | omega | assumption | trivial | (simp only [inI]; omega) | (simp only [inL]; omega) | (refine jb_01) | (exact jb_in))) ?_))
    refine ⟨0, 0, ⟨by omega, by omega⟩, tw_costOf hT hV ⟨hE, hH, h1, by omega, h.2⟩ ?_⟩
    intro u hu
    simp (disch := (first | decide | omega)) only [jxs, hps, jtsw, jlsw, List.length_cons, List.length_nil, true_and, and_true, true_implies, false_implies, implies_true, not_true_eq_false, not_false_eq_true, false_and, and_false, if_true, if_false, or_true, true_or, or_false, false_or, Classical.not_not, and_self, Int.reduceAdd, Int.reduceMul, Int.reduceSub, Int.reduceNeg, Int.reduceLT, Int.reduceLE, Int.reduceEq, Int.reduceNe, Int.reduceToNat, Nat.reduceAdd, Nat.reduceMul, Nat.reduceSub, Nat.reduceLeDiff, Nat.reduceLT, Nat.reduceEqDiff, reduceIte, Nat.zero_le, Nat.le_refl, Nat.add_zero, Nat.zero_add, twT hT, twV hV]
    refine jW_step ?_
    simp (disch := (first | decide | omega)) only [bX2_theft, jxs, hps, jtsw, jlsw, List.length_cons, List.length_nil, true_and, and_true, true_implies, false_implies, implies_true, not_true_eq_false, not_false_eq_true, false_and, and_false, if_true, if_false, or_true, true_or, or_false, false_or, Classical.not_not, and_self, Int.reduceAdd, Int.reduceMul, Int.reduceSub, Int.reduceNeg, Int.reduceLT, Int.reduceLE, Int.reduceEq, Int.reduceNe, Int.reduceToNat, Nat.reduceAdd, Nat.reduceMul, Nat.reduceSub, Nat.reduceLeDiff, Nat.reduceLT, Nat.reduceEqDiff, reduceIte, Nat.zero_le, Nat.le_refl, Nat.add_zero, Nat.zero_add, twT hT, twV hV]
    (repeat (refine And.intro (by (first | omega | assumption | trivial | (simp only [inI]; omega) | (simp only [inL]; omega) | (refine jb_01) | (exact jb_in))) ?_))
    exact hQ u hu
theorem tw_cheapest_1 {s : Int} (hT : PT T) (hs : 0 ≤ s ∧ s ≤ 2) : ∀ (n : Nat) (b f l : Int) (v : Int → Int → Int), PV v → TE v → SH (v 540) → (0 ≤ v 540 1 ∧ v 540 1 < 100000) → 0 ≤ b → v 540 0 = b + n →
    (∀ u, jkx v u → Q (.inl (some (vI (chpL (v 540) (v 542) s n b f l)))) (u, T)) → jW bX2_cheapest (g, d + 9, 0, 0, Q) 1 [some (vR 539), some (vI s), some (vI f), some (vI l), some (vI b), none] [] (v, T) 0 0 := by
  intro n
  induction n with
  | zero =>
    intro b f l v hV hE hH h1 hb hn hQ
    have h0 := hE.1.1
    refine jW_step ?_
    simp (disch := (first | decide | omega)) only [bX2_cheapest, jxs, hps, jtsw, jlsw, List.length_cons, List.length_nil, true_and, and_true, true_implies, false_implies, implies_true, not_true_eq_false, not_false_eq_true, false_and, and_false, if_true, if_false, or_true, true_or, or_false, false_or, Classical.not_not, and_self, Int.reduceAdd, Int.reduceMul, Int.reduceSub, Int.reduceNeg, Int.reduceLT, Int.reduceLE, Int.reduceEq, Int.reduceNe, Int.reduceToNat, Nat.reduceAdd, Nat.reduceMul, Nat.reduceSub, Nat.reduceLeDiff, Nat.reduceLT, Nat.reduceEqDiff, reduceIte, Nat.zero_le, Nat.le_refl, Nat.add_zero, Nat.zero_add, twT hT, twV hV]
    (repeat (refine And.intro (by (first | omega | assumption | trivial | (simp only [inI]; omega) | (simp only [inL]; omega) | (refine jb_01) | (exact jb_in))) ?_))
    (try refine ⟨fun _ => ?_, fun h9 => (by exfalso; omega)⟩)
    (repeat (refine And.intro (by (first | omega | assumption | trivial | (simp only [inI]; omega) | (simp only [inL]; omega) | (refine jb_01) | (exact jb_in))) ?_))
    exact hQ v jkx.rf
  | succ n ih =>
    intro b f l v hV hE hH h1 hb hn hQ
    have h0 := hE.1.1
    unfold chpL at hQ
    have k2 : ∀ u f' l', jkx v u → (∀ y, jkx v y → Q (.inl (some (vI (chpL (v 540) (v 542) s n (b + 1) f' l')))) (y, T)) → jW bX2_cheapest (g, d + 9, 0, 0, Q) 2 [some (vR 539), some (vI s), some (vI f'), some (vI l'), some (vI b), none] [] (u, T) 0 0 := by
      intro u f' l' hu hq
      have ea := hu.a
      have ex := hu.x
      refine jW_step ?_
      simp (disch := (first | decide | omega)) only [bX2_cheapest, jxs, hps, jtsw, jlsw, List.length_cons, List.length_nil, true_and, and_true, true_implies, false_implies, implies_true, not_true_eq_false, not_false_eq_true, false_and, and_false, if_true, if_false, or_true, true_or, or_false, false_or, Classical.not_not, and_self, Int.reduceAdd, Int.reduceMul, Int.reduceSub, Int.reduceNeg, Int.reduceLT, Int.reduceLE, Int.reduceEq, Int.reduceNe, Int.reduceToNat, Nat.reduceAdd, Nat.reduceMul, Nat.reduceSub, Nat.reduceLeDiff, Nat.reduceLT, Nat.reduceEqDiff, reduceIte, Nat.zero_le, Nat.le_refl, Nat.add_zero, Nat.zero_add, twT hT, twV hV]
      (repeat (refine And.intro (by (first | omega | assumption | trivial | (simp only [inI]; omega) | (simp only [inL]; omega) | (refine jb_01) | (exact jb_in))) ?_))
      refine ih (b + 1) f' l' u (hu.pv hV) (hu.te hE) (by rw [ea]; exact hH) (by rw [ea]; exact h1) (by omega) (by rw [ea]; omega) ?_
      rw [ea, ex]
      intro y hy
      exact hq y (hu.tr hy)
    refine jW_step ?_
    simp (disch := (first | decide | omega)) only [bX2_cheapest, jxs, hps, jtsw, jlsw, List.length_cons, List.length_nil, true_and, and_true, true_implies, false_implies, implies_true, not_true_eq_false, not_false_eq_true, false_and, and_false, if_true, if_false, or_true, true_or, or_false, false_or, Classical.not_not, and_self, Int.reduceAdd, Int.reduceMul, Int.reduceSub, Int.reduceNeg, Int.reduceLT, Int.reduceLE, Int.reduceEq, Int.reduceNe, Int.reduceToNat, Nat.reduceAdd, Nat.reduceMul, Nat.reduceSub, Nat.reduceLeDiff, Nat.reduceLT, Nat.reduceEqDiff, reduceIte, Nat.zero_le, Nat.le_refl, Nat.add_zero, Nat.zero_add, twT hT, twV hV]
    (repeat (refine And.intro (by (first | omega | assumption | trivial | (simp only [inI]; omega) | (simp only [inL]; omega) | (refine jb_01) | (exact jb_in))) ?_))
    (first | refine ⟨fun h9 => (by exfalso; omega), fun _ => ?_⟩ | intro _)
    (repeat (refine And.intro (by (first | omega | assumption | trivial | (simp only [inI]; omega) | (simp only [inL]; omega) | (refine jb_01) | (exact jb_in))) ?_))
    refine ⟨0, 0, ⟨by omega, by omega⟩, tw_get hT (by (first | assumption | (repeat (first | assumption | refine PV.A ?_ (by decide) | refine PV.F ?_ ?_ | refine twR.up ?_ (by decide) | refine PV.r ?_)))) (by (first | omega | assumption | trivial | (simp only [inI]; omega) | (simp only [inL]; omega) | (refine jb_01) | (exact jb_in))) ?_⟩
    simp (disch := (first | decide | omega)) only [jxs, hps, jtsw, jlsw, List.length_cons, List.length_nil, true_and, and_true, true_implies, false_implies, implies_true, not_true_eq_false, not_false_eq_true, false_and, and_false, if_true, if_false, or_true, true_or, or_false, false_or, Classical.not_not, and_self, Int.reduceAdd, Int.reduceMul, Int.reduceSub, Int.reduceNeg, Int.reduceLT, Int.reduceLE, Int.reduceEq, Int.reduceNe, Int.reduceToNat, Nat.reduceAdd, Nat.reduceMul, Nat.reduceSub, Nat.reduceLeDiff, Nat.reduceLT, Nat.reduceEqDiff, reduceIte, Nat.zero_le, Nat.le_refl, Nat.add_zero, Nat.zero_add, twT hT, twV hV]
    refine ⟨fun h => ?_, fun h => ?_⟩
    · rw [if_pos h] at hQ
      (repeat (refine And.intro (by (first | omega | assumption | trivial | (simp only [inI]; omega) | (simp only [inL]; omega) | (refine jb_01) | (exact jb_in))) ?_))
      refine ⟨0, 0, ⟨by omega, by omega⟩, tw_costOf hT hV ⟨hE, hH, h1, by omega, by omega⟩ ?_⟩
      intro u hu
      have sub : ∀ f' l', (∀ y, jkx v y → Q (.inl (some (vI (chpL (v 540) (v 542) s n (b + 1) f' l')))) (y, T)) → jW bX2_cheapest (g, d + 9, 0, 0, Q) 2 [some (vR 539), some (vI s), some (vI f'), some (vI l'), some (vI b), some (vI (coA (v 540) (v 542) b))] [] (u, T) 0 0 := fun f' l' hq => jW_sub (ls' := [some (vR 539), some (vI s), some (vI f'), some (vI l'), some (vI b), none]) (by simp [jsub]) (k2 u f' l' hu hq)
      simp (disch := (first | decide | omega)) only [jxs, hps, jtsw, jlsw, List.length_cons, List.length_nil, true_and, and_true, true_implies, false_implies, implies_true, not_true_eq_false, not_false_eq_true, false_and, and_false, if_true, if_false, or_true, true_or, or_false, false_or, Classical.not_not, and_self, Int.reduceAdd, Int.reduceMul, Int.reduceSub, Int.reduceNeg, Int.reduceLT, Int.reduceLE, Int.reduceEq, Int.reduceNe, Int.reduceToNat, Nat.reduceAdd, Nat.reduceMul, Nat.reduceSub, Nat.reduceLeDiff, Nat.reduceLT, Nat.reduceEqDiff, reduceIte, Nat.zero_le, Nat.le_refl, Nat.add_zero, Nat.zero_add, twT hT, twV hV]
      refine ⟨fun h2 => ?_, fun h2 => ?_⟩
      · rw [if_pos h2] at hQ
        exact sub f l hQ
      · rw [if_neg h2] at hQ
        refine ⟨fun h3 => ?_, fun h3 => ?_⟩
        · rw [if_neg (by omega)] at hQ
          exact sub b _ hQ
        · rw [if_pos (by omega)] at hQ
          (repeat (refine And.intro (by (first | omega | assumption | trivial | (simp only [inI]; omega) | (simp only [inL]; omega) | (refine jb_01) | (exact jb_in))) ?_))
          exact sub f l hQ
    · rw [if_neg h] at hQ
      (repeat (refine And.intro (by (first | omega | assumption | trivial | (simp only [inI]; omega) | (simp only [inL]; omega) | (refine jb_01) | (exact jb_in))) ?_))
      exact k2 v f l jkx.rf hQ
theorem tw_cheapest {v : Int → Int → Int} {s : Int} (hT : PT T) (hV : PV v) (hS : TE v ∧ SH (v 540) ∧ (0 ≤ v 540 1 ∧ v 540 1 < 100000)) (hQ : ∀ u, jkx v u → Q (.inl (some (vI (chpA (v 540) (v 542) s)))) (u, T)) : jmet g (d + 10) 0 0 MX2_cheapest [vR 539, vI s] (v, T) Q := by
  obtain ⟨hE, hH, h1⟩ := hS
  have h0 := hE.1.1
  unfold chpA at hQ
  refine jmet_of (ls := [some (vR 539), some (vI s), none, none, none, none]) sX2_cheapest rfl (by decide +kernel) (by decide) rfl (by simp [jent]) ?_
  refine jW_step ?_
  simp (disch := (first | decide | omega)) only [bX2_cheapest, jxs, hps, jtsw, jlsw, List.length_cons, List.length_nil, true_and, and_true, true_implies, false_implies, implies_true, not_true_eq_false, not_false_eq_true, false_and, and_false, if_true, if_false, or_true, true_or, or_false, false_or, Classical.not_not, and_self, Int.reduceAdd, Int.reduceMul, Int.reduceSub, Int.reduceNeg, Int.reduceLT, Int.reduceLE, Int.reduceEq, Int.reduceNe, Int.reduceToNat, Nat.reduceAdd, Nat.reduceMul, Nat.reduceSub, Nat.reduceLeDiff, Nat.reduceLT, Nat.reduceEqDiff, reduceIte, Nat.zero_le, Nat.le_refl, Nat.add_zero, Nat.zero_add, twT hT, twV hV]
  (repeat (refine And.intro (by (first | omega | assumption | trivial | (simp only [inI]; omega) | (simp only [inL]; omega) | (refine jb_01) | (exact jb_in))) ?_))
  refine ⟨0, 0, ⟨by omega, by omega⟩, tw_isShelf hT (by (first | assumption | (repeat (first | assumption | refine PV.A ?_ (by decide) | refine PV.F ?_ ?_ | refine twR.up ?_ (by decide) | refine PV.r ?_)))) (by (first | omega | assumption | trivial | (simp only [inI]; omega) | (simp only [inL]; omega) | (refine jb_01) | (exact jb_in))) ?_⟩
  simp (disch := (first | decide | omega)) only [jxs, hps, jtsw, jlsw, List.length_cons, List.length_nil, true_and, and_true, true_implies, false_implies, implies_true, not_true_eq_false, not_false_eq_true, false_and, and_false, if_true, if_false, or_true, true_or, or_false, false_or, Classical.not_not, and_self, Int.reduceAdd, Int.reduceMul, Int.reduceSub, Int.reduceNeg, Int.reduceLT, Int.reduceLE, Int.reduceEq, Int.reduceNe, Int.reduceToNat, Nat.reduceAdd, Nat.reduceMul, Nat.reduceSub, Nat.reduceLeDiff, Nat.reduceLT, Nat.reduceEqDiff, reduceIte, Nat.zero_le, Nat.le_refl, Nat.add_zero, Nat.zero_add, twT hT, twV hV]
  refine ⟨fun h => ?_, fun h => ?_⟩
  · rw [if_pos h] at hQ
    (repeat (refine And.intro (by (first | omega | assumption | trivial | (simp only [inI]; omega) | (simp only [inL]; omega) | (refine jb_01) | (exact jb_in))) ?_))
    exact tw_cheapest_1 hT h (v 540 0).toNat 0 (-1) 1000000 v hV hE hH h1 (by omega) (by omega) hQ
  · rw [if_neg h] at hQ
    (repeat (refine And.intro (by (first | omega | assumption | trivial | (simp only [inI]; omega) | (simp only [inL]; omega) | (refine jb_01) | (exact jb_in))) ?_))
    exact hQ v jkx.rf
end TG
