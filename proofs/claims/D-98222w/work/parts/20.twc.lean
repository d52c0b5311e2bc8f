/-! ===== the reference: steps kept and taken back ===== -/
set_option maxRecDepth 100000
def whrK (A : Int → Int) (x k : Int) : Int → Int := fun i => if x + 38 + k ≤ i ∧ i < x + 48 then A (46 + 6 * (i - (x + 38)) + 5) else A i
theorem whrK_0 {A : Int → Int} {x : Int} : whrK A x 0 = whrS A x := by
  funext i; unfold whrK whrS; rw [show x + 38 + 0 = x + 38 by omega]
theorem whrK_end {A : Int → Int} {x : Int} : whrK A x 10 = A := by
  funext i; unfold whrK; rw [if_neg (by omega)]
theorem whrK_step {A : Int → Int} {x k : Int} (hx : 154 ≤ x) (h0 : 0 ≤ k) (h1 : k < 10) : whrK (up1 A (x + 38 + k) (A (46 + 6 * k + 5))) x (k + 1) = whrK A x k := by
  funext i; unfold whrK up1
  by_cases e : i = x + 38 + k
  · subst e
    rw [if_neg (by omega), if_pos rfl, if_pos (by omega), show x + 38 + k - (x + 38) = k by omega]
  · by_cases h2 : x + 38 + k ≤ i ∧ i < x + 48
    · rw [if_pos h2, if_pos (by omega), if_neg (by omega)]
    · rw [if_neg h2, if_neg (by omega), if_neg e]
/-- where the books go back to -/
def undW (A : Int → Int) (x k : Int) : Int → Int := fun i => if 51 + 6 * k ≤ i ∧ i < 51 + 6 * A 0 ∧ (i - 51) % 6 = 0 then (if (i - 51) / 6 < A x then A (x + 38 + (i - 51) / 6) else 3) else A i
theorem undW_end {A : Int → Int} {x k : Int} (h : A 0 ≤ k) : undW A x k = A := by
  funext i; unfold undW; rw [if_neg (by omega)]
theorem undW_step {A : Int → Int} {x k z : Int} (hx : 154 ≤ x) (h0 : 0 ≤ k) (h1 : k < A 0) (h2 : A 0 ≤ 10) (hz : z = if k < A x then A (x + 38 + k) else 3) : undW (up1 A (46 + 6 * k + 5) z) x (k + 1) = undW A x k := by
  subst hz
  funext i; unfold undW
  rw [up1_ne (show ¬ (0 : Int) = 46 + 6 * k + 5 by omega), up1_ne (show ¬ x = 46 + 6 * k + 5 by omega)]
  by_cases e : i = 46 + 6 * k + 5
  · subst e
    rw [if_neg (by omega), up1_eq, if_pos (show 51 + 6 * k ≤ 46 + 6 * k + 5 ∧ 46 + 6 * k + 5 < 51 + 6 * A 0 ∧ (46 + 6 * k + 5 - 51) % 6 = 0 by omega), show (46 + 6 * k + 5 - 51) / 6 = k by omega]
  · rw [up1_ne e]
    by_cases h3 : 51 + 6 * k ≤ i ∧ i < 51 + 6 * A 0 ∧ (i - 51) % 6 = 0
    · rw [if_pos h3, if_pos (by omega), up1_ne (by omega)]
    · rw [if_neg h3, if_neg (by omega)]
def undB (A : Int → Int) (x : Int) : Int → Int := up1 (up1 (up1 (up1 A 1 (A (x + 1))) 2 (A (x + 2))) 4 (A (x + 3))) 9 (A (x + 4))
def undC (A : Int → Int) (x : Int) : Int → Int := undW (cpA (undB A x) 13 (x + 5) 33) x 0
def undoA (A : Int → Int) : Int → Int := undC (up1 A 7 (A 7 - 1)) (154 + 48 * (A 7 - 1))
section TG
variable {g : jjG} {d : Nat} {T : jjT} {Q : jjQ}
theorem tw_keep_4 {x : Int} (hT : PT T) (hx : 154 ≤ x ∧ x ≤ 1546) : ∀ (n : Nat) (k : Int) (v : Int → Int → Int), PV v → 0 ≤ k → k + n = 10 → 0 ≤ v 540 7 ∧ v 540 7 < 30 →
    Q (.inl none) (upA v 540 (up1 (whrK (v 540) x k) 7 (v 540 7 + 1)), T) →
    jW bX2_keep (g, d + 1, 0, 0, Q) 4 [some (vR 539), some (vI x), some (vI k)] [] (v, T) 0 0 := by
  intro n
  induction n with
  | zero =>
    intro k v hV h0 hk hm hQ
    have e : k = 10 := by omega
    subst e
    refine jW_step ?_
    simp (disch := omega) only [bX2_keep, jxs, hps, jtsw, jlsw, List.length_cons, List.length_nil, true_and, and_true, true_implies, false_implies, implies_true, not_true_eq_false, not_false_eq_true, false_and, and_false, if_true, if_false, or_true, true_or, or_false, false_or, Classical.not_not, and_self, Int.reduceAdd, Int.reduceMul, Int.reduceSub, Int.reduceNeg, Int.reduceLT, Int.reduceLE, Int.reduceEq, Int.reduceNe, Int.reduceToNat, Nat.reduceAdd, Nat.reduceMul, Nat.reduceSub, Nat.reduceLeDiff, Nat.reduceLT, Nat.reduceEqDiff, reduceIte, Nat.zero_le, Nat.le_refl, Nat.add_zero, Nat.zero_add, twT hT, twV hV]
    (try refine ⟨fun _ => ?_, fun h9 => (by exfalso; omega)⟩)
    (repeat (refine And.intro (by (first | omega | assumption | trivial | (simp only [inI]; omega) | (simp only [inL]; omega) | (refine jb_01) | (exact jb_in))) ?_))
    rw [whrK_end] at hQ
    exact hQ
  | succ n ih =>
    intro k v hV h0 hk hm hQ
    refine jW_step ?_
    simp (disch := omega) only [bX2_keep, jxs, hps, jtsw, jlsw, List.length_cons, List.length_nil, true_and, and_true, true_implies, false_implies, implies_true, not_true_eq_false, not_false_eq_true, false_and, and_false, if_true, if_false, or_true, true_or, or_false, false_or, Classical.not_not, and_self, Int.reduceAdd, Int.reduceMul, Int.reduceSub, Int.reduceNeg, Int.reduceLT, Int.reduceLE, Int.reduceEq, Int.reduceNe, Int.reduceToNat, Nat.reduceAdd, Nat.reduceMul, Nat.reduceSub, Nat.reduceLeDiff, Nat.reduceLT, Nat.reduceEqDiff, reduceIte, Nat.zero_le, Nat.le_refl, Nat.add_zero, Nat.zero_add, twT hT, twV hV]
    (first | refine ⟨fun h9 => (by exfalso; omega), fun _ => ?_⟩ | intro _)
    (repeat (refine And.intro (by (first | omega | assumption | trivial | (simp only [inI]; omega) | (simp only [inL]; omega) | (refine jb_01) | (exact jb_in))) ?_))
    refine ⟨0, 0, ⟨by omega, by omega⟩, tw_get hT (by (first | assumption | (repeat (first | assumption | refine PV.A ?_ (by decide) | refine PV.F ?_ ?_ | refine twR.up ?_ (by decide) | refine PV.r ?_)))) (by (first | omega | assumption | trivial | (simp only [inI]; omega) | (simp only [inL]; omega) | (refine jb_01) | (exact jb_in))) ?_⟩
    simp (disch := omega) only [jxs, hps, jtsw, jlsw, List.length_cons, List.length_nil, true_and, and_true, true_implies, false_implies, implies_true, not_true_eq_false, not_false_eq_true, false_and, and_false, if_true, if_false, or_true, true_or, or_false, false_or, Classical.not_not, and_self, Int.reduceAdd, Int.reduceMul, Int.reduceSub, Int.reduceNeg, Int.reduceLT, Int.reduceLE, Int.reduceEq, Int.reduceNe, Int.reduceToNat, Nat.reduceAdd, Nat.reduceMul, Nat.reduceSub, Nat.reduceLeDiff, Nat.reduceLT, Nat.reduceEqDiff, reduceIte, Nat.zero_le, Nat.le_refl, Nat.add_zero, Nat.zero_add, twT hT, twV hV]
    (repeat (refine And.intro (by (first | omega | assumption | trivial | (simp only [inI]; omega) | (simp only [inL]; omega) | (refine jb_01) | (exact jb_in))) ?_))
    refine ih (k + 1) _ (by (first | assumption | (repeat (first | assumption | refine PV.A ?_ (by decide) | refine PV.F ?_ ?_ | refine twR.up ?_ (by decide) | refine PV.r ?_)))) (by omega) (by omega) ?_ ?_
    · simp (disch := omega) only [upA_eq, up1_ne]; omega
    · simp (disch := omega) only [upA_eq, up1_ne, upA_same]
      rw [whrK_step (by omega) h0 (by omega)]
      exact hQ
theorem tw_keep_3 {x : Int} (hT : PT T) (hx : 154 ≤ x ∧ x ≤ 1546) : ∀ (n : Nat) (k : Int) (v : Int → Int → Int), PV v → 0 ≤ k → k + n = 33 → 0 ≤ v 540 7 ∧ v 540 7 < 30 →
    Q (.inl none) (upA v 540 (up1 (whrS (cpA (v 540) (x + 5 + k) (13 + k) (33 - k)) x) 7 (v 540 7 + 1)), T) →
    jW bX2_keep (g, d + 1, 0, 0, Q) 3 [some (vR 539), some (vI x), some (vI k)] [] (v, T) 0 0 := by
  intro n
  induction n with
  | zero =>
    intro k v hV h0 hk hm hQ
    have e : k = 33 := by omega
    subst e
    refine jW_step ?_
    simp (disch := omega) only [bX2_keep, jxs, hps, jtsw, jlsw, List.length_cons, List.length_nil, true_and, and_true, true_implies, false_implies, implies_true, not_true_eq_false, not_false_eq_true, false_and, and_false, if_true, if_false, or_true, true_or, or_false, false_or, Classical.not_not, and_self, Int.reduceAdd, Int.reduceMul, Int.reduceSub, Int.reduceNeg, Int.reduceLT, Int.reduceLE, Int.reduceEq, Int.reduceNe, Int.reduceToNat, Nat.reduceAdd, Nat.reduceMul, Nat.reduceSub, Nat.reduceLeDiff, Nat.reduceLT, Nat.reduceEqDiff, reduceIte, Nat.zero_le, Nat.le_refl, Nat.add_zero, Nat.zero_add, twT hT, twV hV]
    (try refine ⟨fun _ => ?_, fun h9 => (by exfalso; omega)⟩)
    refine tw_keep_4 hT hx 10 0 v hV (by omega) (by omega) hm ?_
    rw [show (33 - 33 : Int) = 0 by omega, cpA_end] at hQ
    rw [whrK_0]
    exact hQ
  | succ n ih =>
    intro k v hV h0 hk hm hQ
    refine jW_step ?_
    simp (disch := omega) only [bX2_keep, jxs, hps, jtsw, jlsw, List.length_cons, List.length_nil, true_and, and_true, true_implies, false_implies, implies_true, not_true_eq_false, not_false_eq_true, false_and, and_false, if_true, if_false, or_true, true_or, or_false, false_or, Classical.not_not, and_self, Int.reduceAdd, Int.reduceMul, Int.reduceSub, Int.reduceNeg, Int.reduceLT, Int.reduceLE, Int.reduceEq, Int.reduceNe, Int.reduceToNat, Nat.reduceAdd, Nat.reduceMul, Nat.reduceSub, Nat.reduceLeDiff, Nat.reduceLT, Nat.reduceEqDiff, reduceIte, Nat.zero_le, Nat.le_refl, Nat.add_zero, Nat.zero_add, twT hT, twV hV]
    (first | refine ⟨fun h9 => (by exfalso; omega), fun _ => ?_⟩ | intro _)
    (repeat (refine And.intro (by (first | omega | assumption | trivial | (simp only [inI]; omega) | (simp only [inL]; omega) | (refine jb_01) | (exact jb_in))) ?_))
    refine ih (k + 1) _ (by (first | assumption | (repeat (first | assumption | refine PV.A ?_ (by decide) | refine PV.F ?_ ?_ | refine twR.up ?_ (by decide) | refine PV.r ?_)))) (by omega) (by omega) ?_ ?_
    · simp (disch := omega) only [upA_eq, up1_ne]; omega
    · simp (disch := omega) only [upA_eq, up1_ne, upA_same]
      rw [show x + 5 + (k + 1) = x + 5 + k + 1 by omega, show 13 + (k + 1) = 13 + k + 1 by omega, show 33 - (k + 1) = 33 - k - 1 by omega, cpA_step (by omega) (by omega)]
      exact hQ
theorem tw_keep_2 {v : Int → Int → Int} {l1 l2 : Option jjV} (hT : PT T) (hV : PV v) (hm : 0 ≤ v 540 7 ∧ v 540 7 < 30)
    (hQ : Q (.inl none) (upA v 540 (keep3 (v 540) (154 + 48 * v 540 7)), T)) : jW bX2_keep (g, d + 1, 0, 0, Q) 2 [some (vR 539), none, none] [] (v, T) 0 0 := by
  refine jW_step ?_
  simp (disch := omega) only [bX2_keep, jxs, hps, jtsw, jlsw, List.length_cons, List.length_nil, true_and, and_true, true_implies, false_implies, implies_true, not_true_eq_false, not_false_eq_true, false_and, and_false, if_true, if_false, or_true, true_or, or_false, false_or, Classical.not_not, and_self, Int.reduceAdd, Int.reduceMul, Int.reduceSub, Int.reduceNeg, Int.reduceLT, Int.reduceLE, Int.reduceEq, Int.reduceNe, Int.reduceToNat, Nat.reduceAdd, Nat.reduceMul, Nat.reduceSub, Nat.reduceLeDiff, Nat.reduceLT, Nat.reduceEqDiff, reduceIte, Nat.zero_le, Nat.le_refl, Nat.add_zero, Nat.zero_add, twT hT, twV hV]
  (repeat (refine And.intro (by (first | omega | assumption | trivial | (simp only [inI]; omega) | (simp only [inL]; omega) | (refine jb_01) | (exact jb_in))) ?_))
  refine tw_keep_3 hT (by omega) 33 0 _ (by (first | assumption | (repeat (first | assumption | refine PV.A ?_ (by decide) | refine PV.F ?_ ?_ | refine twR.up ?_ (by decide) | refine PV.r ?_)))) (by omega) (by omega) ?_ ?_
  · simp (disch := omega) only [upA_eq, up1_ne]; omega
  · simp (disch := omega) only [upA_eq, up1_ne, upA_same]
    rw [show 154 + 48 * v 540 7 + 5 + 0 = 154 + 48 * v 540 7 + 5 by omega, show (13 + 0 : Int) = 13 by omega, show (33 - 0 : Int) = 33 by omega]
    exact hQ
theorem tw_keep_1 (hT : PT T) : ∀ (n : Nat) (k : Int) (v : Int → Int → Int), PV v → 0 ≤ k → k + n = 1392 → v 540 7 = 30 →
    Q (.inl none) (upA v 540 (keep3 (up1 (cpA (v 540) (154 + k) (202 + k) (1392 - k)) 7 29) (154 + 48 * 29)), T) →
    jW bX2_keep (g, d + 1, 0, 0, Q) 1 [some (vR 539), some (vI k), none] [] (v, T) 0 0 := by
  intro n
  induction n with
  | zero =>
    intro k v hV h0 hk hm hQ
    have e : k = 1392 := by omega
    subst e
    refine jW_step ?_
    simp (disch := omega) only [bX2_keep, jxs, hps, jtsw, jlsw, List.length_cons, List.length_nil, true_and, and_true, true_implies, false_implies, implies_true, not_true_eq_false, not_false_eq_true, false_and, and_false, if_true, if_false, or_true, true_or, or_false, false_or, Classical.not_not, and_self, Int.reduceAdd, Int.reduceMul, Int.reduceSub, Int.reduceNeg, Int.reduceLT, Int.reduceLE, Int.reduceEq, Int.reduceNe, Int.reduceToNat, Nat.reduceAdd, Nat.reduceMul, Nat.reduceSub, Nat.reduceLeDiff, Nat.reduceLT, Nat.reduceEqDiff, reduceIte, Nat.zero_le, Nat.le_refl, Nat.add_zero, Nat.zero_add, twT hT, twV hV]
    (try refine ⟨fun _ => ?_, fun h9 => (by exfalso; omega)⟩)
    (repeat (refine And.intro (by (first | omega | assumption | trivial | (simp only [inI]; omega) | (simp only [inL]; omega) | (refine jb_01) | (exact jb_in))) ?_))
    refine jW_sub (ls' := [some (vR 539), none, none]) (by simp [jsub]) ?_
    refine tw_keep_2 (l1 := none) (l2 := none) hT (by (first | assumption | (repeat (first | assumption | refine PV.A ?_ (by decide) | refine PV.F ?_ ?_ | refine twR.up ?_ (by decide) | refine PV.r ?_)))) ?_ ?_
    · simp (disch := omega) only [upA_eq, up1_eq]; omega
    · simp (disch := omega) only [upA_eq, up1_eq, upA_same]
      rw [show (1392 - 1392 : Int) = 0 by omega, cpA_end] at hQ
      rw [hm]
      exact hQ
  | succ n ih =>
    intro k v hV h0 hk hm hQ
    refine jW_step ?_
    simp (disch := omega) only [bX2_keep, jxs, hps, jtsw, jlsw, List.length_cons, List.length_nil, true_and, and_true, true_implies, false_implies, implies_true, not_true_eq_false, not_false_eq_true, false_and, and_false, if_true, if_false, or_true, true_or, or_false, false_or, Classical.not_not, and_self, Int.reduceAdd, Int.reduceMul, Int.reduceSub, Int.reduceNeg, Int.reduceLT, Int.reduceLE, Int.reduceEq, Int.reduceNe, Int.reduceToNat, Nat.reduceAdd, Nat.reduceMul, Nat.reduceSub, Nat.reduceLeDiff, Nat.reduceLT, Nat.reduceEqDiff, reduceIte, Nat.zero_le, Nat.le_refl, Nat.add_zero, Nat.zero_add, twT hT, twV hV]
    (first | refine ⟨fun h9 => (by exfalso; omega), fun _ => ?_⟩ | intro _)
    (repeat (refine And.intro (by (first | omega | assumption | trivial | (simp only [inI]; omega) | (simp only [inL]; omega) | (refine jb_01) | (exact jb_in))) ?_))
    refine ih (k + 1) _ (by (first | assumption | (repeat (first | assumption | refine PV.A ?_ (by decide) | refine PV.F ?_ ?_ | refine twR.up ?_ (by decide) | refine PV.r ?_)))) (by omega) (by omega) ?_ ?_
    · simp (disch := omega) only [upA_eq, up1_ne]; omega
    · simp (disch := omega) only [upA_eq, up1_ne, upA_same]
      rw [show 154 + (k + 1) = 154 + k + 1 by omega, show 202 + (k + 1) = 202 + k + 1 by omega, show 1392 - (k + 1) = 1392 - k - 1 by omega, cpA_step (by omega) (by omega)]
      exact hQ
theorem tw_keep {v : Int → Int → Int} (hT : PT T) (hV : PV v) (hS : 0 ≤ v 540 7 ∧ v 540 7 ≤ 30)
    (hQ : Q (.inl none) (upA v 540 (keepA (v 540)), T)) : jmet g (d + 2) 0 0 MX2_keep [vR 539] (v, T) Q := by
  refine jmet_of (ls := [some (vR 539), none, none]) sX2_keep rfl (by decide +kernel) (by decide) rfl (by simp [jent]) ?_
  unfold keepA keep1 at hQ
  refine jW_step ?_
  simp (disch := omega) only [bX2_keep, jxs, hps, jtsw, jlsw, List.length_cons, List.length_nil, true_and, and_true, true_implies, false_implies, implies_true, not_true_eq_false, not_false_eq_true, false_and, and_false, if_true, if_false, or_true, true_or, or_false, false_or, Classical.not_not, and_self, Int.reduceAdd, Int.reduceMul, Int.reduceSub, Int.reduceNeg, Int.reduceLT, Int.reduceLE, Int.reduceEq, Int.reduceNe, Int.reduceToNat, Nat.reduceAdd, Nat.reduceMul, Nat.reduceSub, Nat.reduceLeDiff, Nat.reduceLT, Nat.reduceEqDiff, reduceIte, Nat.zero_le, Nat.le_refl, Nat.add_zero, Nat.zero_add, twT hT, twV hV]
  (repeat (refine And.intro (by (first | omega | assumption | trivial | (simp only [inI]; omega) | (simp only [inL]; omega) | (refine jb_01) | (exact jb_in))) ?_))
  refine ⟨fun h => ?_, fun h => ?_⟩
  · rw [if_neg h] at hQ
    exact tw_keep_2 (l1 := none) (l2 := none) hT hV (by omega) hQ
  · rw [if_pos h, up1_eq] at hQ
    exact tw_keep_1 hT 1392 0 v hV (by omega) (by omega) h hQ
theorem tw_undo_2 {x : Int} (hT : PT T) (hx : 154 ≤ x ∧ x ≤ 1546) : ∀ (n : Nat) (k : Int) (v : Int → Int → Int), PV v → 0 ≤ k → k + n = v 540 0 → v 540 0 ≤ 10 →
    Q (.inl (some (vI (v 540 7)))) (upA v 540 (undW (v 540) x k), T) →
    jW bX2_undo (g, d + 1, 0, 0, Q) 2 [some (vR 539), some (vI x), some (vI k)] [] (v, T) 0 0 := by
  intro n
  induction n with
  | zero =>
    intro k v hV h0 hk hm hQ
    refine jW_step ?_
    simp (disch := omega) only [bX2_undo, jxs, hps, jtsw, jlsw, List.length_cons, List.length_nil, true_and, and_true, true_implies, false_implies, implies_true, not_true_eq_false, not_false_eq_true, false_and, and_false, if_true, if_false, or_true, true_or, or_false, false_or, Classical.not_not, and_self, Int.reduceAdd, Int.reduceMul, Int.reduceSub, Int.reduceNeg, Int.reduceLT, Int.reduceLE, Int.reduceEq, Int.reduceNe, Int.reduceToNat, Nat.reduceAdd, Nat.reduceMul, Nat.reduceSub, Nat.reduceLeDiff, Nat.reduceLT, Nat.reduceEqDiff, reduceIte, Nat.zero_le, Nat.le_refl, Nat.add_zero, Nat.zero_add, twT hT, twV hV]
    (repeat (refine And.intro (by (first | omega | assumption | trivial | (simp only [inI]; omega) | (simp only [inL]; omega) | (refine jb_01) | (exact jb_in))) ?_))
    (try refine ⟨fun _ => ?_, fun h9 => (by exfalso; omega)⟩)
    (repeat (refine And.intro (by (first | omega | assumption | trivial | (simp only [inI]; omega) | (simp only [inL]; omega) | (refine jb_01) | (exact jb_in))) ?_))
    rw [undW_end (by omega), upA_id] at hQ
    exact hQ
  | succ n ih =>
    intro k v hV h0 hk hm hQ
    refine jW_step ?_
    simp (disch := omega) only [bX2_undo, jxs, hps, jtsw, jlsw, List.length_cons, List.length_nil, true_and, and_true, true_implies, false_implies, implies_true, not_true_eq_false, not_false_eq_true, false_and, and_false, if_true, if_false, or_true, true_or, or_false, false_or, Classical.not_not, and_self, Int.reduceAdd, Int.reduceMul, Int.reduceSub, Int.reduceNeg, Int.reduceLT, Int.reduceLE, Int.reduceEq, Int.reduceNe, Int.reduceToNat, Nat.reduceAdd, Nat.reduceMul, Nat.reduceSub, Nat.reduceLeDiff, Nat.reduceLT, Nat.reduceEqDiff, reduceIte, Nat.zero_le, Nat.le_refl, Nat.add_zero, Nat.zero_add, twT hT, twV hV]
    (repeat (refine And.intro (by (first | omega | assumption | trivial | (simp only [inI]; omega) | (simp only [inL]; omega) | (refine jb_01) | (exact jb_in))) ?_))
    (first | refine ⟨fun h9 => (by exfalso; omega), fun _ => ?_⟩ | intro _)
    (repeat (refine And.intro (by (first | omega | assumption | trivial | (simp only [inI]; omega) | (simp only [inL]; omega) | (refine jb_01) | (exact jb_in))) ?_))
    have fin : ∀ z, z = (if k < v 540 x then v 540 (x + 38 + k) else 3) → jW bX2_undo (g, d + 1, 0, 0, Q) 3 [some (vR 539), some (vI x), some (vI k)] [vI z, vI 5, vI k, vR 539] (v, T) 0 0 := by
      intro z hz
      refine jW_step ?_
      simp (disch := omega) only [bX2_undo, jxs, hps, jtsw, jlsw, List.length_cons, List.length_nil, true_and, and_true, true_implies, false_implies, implies_true, not_true_eq_false, not_false_eq_true, false_and, and_false, if_true, if_false, or_true, true_or, or_false, false_or, Classical.not_not, and_self, Int.reduceAdd, Int.reduceMul, Int.reduceSub, Int.reduceNeg, Int.reduceLT, Int.reduceLE, Int.reduceEq, Int.reduceNe, Int.reduceToNat, Nat.reduceAdd, Nat.reduceMul, Nat.reduceSub, Nat.reduceLeDiff, Nat.reduceLT, Nat.reduceEqDiff, reduceIte, Nat.zero_le, Nat.le_refl, Nat.add_zero, Nat.zero_add, twT hT, twV hV]
      (repeat (refine And.intro (by (first | omega | assumption | trivial | (simp only [inI]; omega) | (simp only [inL]; omega) | (refine jb_01) | (exact jb_in))) ?_))
      refine ⟨0, 0, ⟨by omega, by omega⟩, tw_set hT (by (first | assumption | (repeat (first | assumption | refine PV.A ?_ (by decide) | refine PV.F ?_ ?_ | refine twR.up ?_ (by decide) | refine PV.r ?_)))) (by (first | omega | assumption | trivial | (simp only [inI]; omega) | (simp only [inL]; omega) | (refine jb_01) | (exact jb_in))) ?_⟩
      simp (disch := omega) only [jxs, hps, jtsw, jlsw, List.length_cons, List.length_nil, true_and, and_true, true_implies, false_implies, implies_true, not_true_eq_false, not_false_eq_true, false_and, and_false, if_true, if_false, or_true, true_or, or_false, false_or, Classical.not_not, and_self, Int.reduceAdd, Int.reduceMul, Int.reduceSub, Int.reduceNeg, Int.reduceLT, Int.reduceLE, Int.reduceEq, Int.reduceNe, Int.reduceToNat, Nat.reduceAdd, Nat.reduceMul, Nat.reduceSub, Nat.reduceLeDiff, Nat.reduceLT, Nat.reduceEqDiff, reduceIte, Nat.zero_le, Nat.le_refl, Nat.add_zero, Nat.zero_add, twT hT, twV hV]
      (repeat (refine And.intro (by (first | omega | assumption | trivial | (simp only [inI]; omega) | (simp only [inL]; omega) | (refine jb_01) | (exact jb_in))) ?_))
      refine ih (k + 1) _ (by (first | assumption | (repeat (first | assumption | refine PV.A ?_ (by decide) | refine PV.F ?_ ?_ | refine twR.up ?_ (by decide) | refine PV.r ?_)))) (by omega) ?_ ?_ ?_
      · simp (disch := omega) only [upA_eq, up1_ne]; omega
      · simp (disch := omega) only [upA_eq, up1_ne]; omega
      · simp (disch := omega) only [upA_eq, up1_ne, upA_same]
        rw [undW_step (by omega) h0 (by omega) hm hz]
        exact hQ
    refine ⟨fun h => ?_, fun h => ?_⟩
    · exact fin 3 (by rw [if_neg (by omega)])
    · (repeat (refine And.intro (by (first | omega | assumption | trivial | (simp only [inI]; omega) | (simp only [inL]; omega) | (refine jb_01) | (exact jb_in))) ?_))
      exact fin _ (by rw [if_pos (by omega)])
theorem tw_undo_1 {x : Int} (hT : PT T) (hx : 154 ≤ x ∧ x ≤ 1546) : ∀ (n : Nat) (k : Int) (v : Int → Int → Int), PV v → 0 ≤ k → k + n = 33 → 0 ≤ v 540 0 ∧ v 540 0 ≤ 10 →
    Q (.inl (some (vI (v 540 7)))) (upA v 540 (undW (cpA (v 540) (13 + k) (x + 5 + k) (33 - k)) x 0), T) →
    jW bX2_undo (g, d + 1, 0, 0, Q) 1 [some (vR 539), some (vI x), some (vI k)] [] (v, T) 0 0 := by
  intro n
  induction n with
  | zero =>
    intro k v hV h0 hk hm hQ
    have e : k = 33 := by omega
    subst e
    refine jW_step ?_
    simp (disch := omega) only [bX2_undo, jxs, hps, jtsw, jlsw, List.length_cons, List.length_nil, true_and, and_true, true_implies, false_implies, implies_true, not_true_eq_false, not_false_eq_true, false_and, and_false, if_true, if_false, or_true, true_or, or_false, false_or, Classical.not_not, and_self, Int.reduceAdd, Int.reduceMul, Int.reduceSub, Int.reduceNeg, Int.reduceLT, Int.reduceLE, Int.reduceEq, Int.reduceNe, Int.reduceToNat, Nat.reduceAdd, Nat.reduceMul, Nat.reduceSub, Nat.reduceLeDiff, Nat.reduceLT, Nat.reduceEqDiff, reduceIte, Nat.zero_le, Nat.le_refl, Nat.add_zero, Nat.zero_add, twT hT, twV hV]
    (try refine ⟨fun _ => ?_, fun h9 => (by exfalso; omega)⟩)
    refine tw_undo_2 hT hx (v 540 0).toNat 0 v hV (by omega) (by omega) hm.2 ?_
    rw [show (33 - 33 : Int) = 0 by omega, cpA_end] at hQ
    exact hQ
  | succ n ih =>
    intro k v hV h0 hk hm hQ
    refine jW_step ?_
    simp (disch := omega) only [bX2_undo, jxs, hps, jtsw, jlsw, List.length_cons, List.length_nil, true_and, and_true, true_implies, false_implies, implies_true, not_true_eq_false, not_false_eq_true, false_and, and_false, if_true, if_false, or_true, true_or, or_false, false_or, Classical.not_not, and_self, Int.reduceAdd, Int.reduceMul, Int.reduceSub, Int.reduceNeg, Int.reduceLT, Int.reduceLE, Int.reduceEq, Int.reduceNe, Int.reduceToNat, Nat.reduceAdd, Nat.reduceMul, Nat.reduceSub, Nat.reduceLeDiff, Nat.reduceLT, Nat.reduceEqDiff, reduceIte, Nat.zero_le, Nat.le_refl, Nat.add_zero, Nat.zero_add, twT hT, twV hV]
    (first | refine ⟨fun h9 => (by exfalso; omega), fun _ => ?_⟩ | intro _)
    (repeat (refine And.intro (by (first | omega | assumption | trivial | (simp only [inI]; omega) | (simp only [inL]; omega) | (refine jb_01) | (exact jb_in))) ?_))
    refine ih (k + 1) _ (by (first | assumption | (repeat (first | assumption | refine PV.A ?_ (by decide) | refine PV.F ?_ ?_ | refine twR.up ?_ (by decide) | refine PV.r ?_)))) (by omega) (by omega) ?_ ?_
    · simp (disch := omega) only [upA_eq, up1_ne]; omega
    · simp (disch := omega) only [upA_eq, up1_ne, upA_same]
      rw [show x + 5 + (k + 1) = x + 5 + k + 1 by omega, show 13 + (k + 1) = 13 + k + 1 by omega, show 33 - (k + 1) = 33 - k - 1 by omega, cpA_step (by omega) (by omega)]
      exact hQ
theorem tw_undo {v : Int → Int → Int} (hT : PT T) (hV : PV v) (hS : 0 ≤ v 540 7 ∧ v 540 7 ≤ 30 ∧ 0 ≤ v 540 0 ∧ v 540 0 ≤ 10)
    (hQ : (v 540 7 = 0 → Q (.inl (some (vI (-1)))) (v, T)) ∧ (¬ v 540 7 = 0 → Q (.inl (some (vI (v 540 7 - 1)))) (upA v 540 (undoA (v 540)), T))) : jmet g (d + 2) 0 0 MX2_undo [vR 539] (v, T) Q := by
  refine jmet_of (ls := [some (vR 539), none, none]) sX2_undo rfl (by decide +kernel) (by decide) rfl (by simp [jent]) ?_
  refine jW_step ?_
  simp (disch := omega) only [bX2_undo, jxs, hps, jtsw, jlsw, List.length_cons, List.length_nil, true_and, and_true, true_implies, false_implies, implies_true, not_true_eq_false, not_false_eq_true, false_and, and_false, if_true, if_false, or_true, true_or, or_false, false_or, Classical.not_not, and_self, Int.reduceAdd, Int.reduceMul, Int.reduceSub, Int.reduceNeg, Int.reduceLT, Int.reduceLE, Int.reduceEq, Int.reduceNe, Int.reduceToNat, Nat.reduceAdd, Nat.reduceMul, Nat.reduceSub, Nat.reduceLeDiff, Nat.reduceLT, Nat.reduceEqDiff, reduceIte, Nat.zero_le, Nat.le_refl, Nat.add_zero, Nat.zero_add, twT hT, twV hV]
  (repeat (refine And.intro (by (first | omega | assumption | trivial | (simp only [inI]; omega) | (simp only [inL]; omega) | (refine jb_01) | (exact jb_in))) ?_))
  refine ⟨fun h => ?_, fun h => ?_⟩
  · have hq := hQ.2 h
    unfold undoA undC undB at hq
    (repeat (refine And.intro (by (first | omega | assumption | trivial | (simp only [inI]; omega) | (simp only [inL]; omega) | (refine jb_01) | (exact jb_in))) ?_))
    refine tw_undo_1 hT (x := 154 + 48 * (v 540 7 - 1)) (by omega) 33 0 _ (by (first | assumption | (repeat (first | assumption | refine PV.A ?_ (by decide) | refine PV.F ?_ ?_ | refine twR.up ?_ (by decide) | refine PV.r ?_)))) (by omega) (by omega) ?_ ?_
    · simp (disch := omega) only [upA_eq, up1_ne]; omega
    · simp (disch := omega) only [upA_eq, up1_ne, up1_eq, upA_same] at hq ⊢
      rw [show 154 + 48 * (v 540 7 - 1) + 5 + 0 = 154 + 48 * (v 540 7 - 1) + 5 by omega, show (13 + 0 : Int) = 13 by omega, show (33 - 0 : Int) = 33 by omega]
      exact hq
  · (repeat (refine And.intro (by (first | omega | assumption | trivial | (simp only [inI]; omega) | (simp only [inL]; omega) | (refine jb_01) | (exact jb_in))) ?_))
    exact hQ.1 h
end TG
