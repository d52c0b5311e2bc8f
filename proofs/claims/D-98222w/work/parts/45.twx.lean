/-! ===== the reference: orders ===== -/
set_option maxRecDepth 100000
def facF : Nat → Int
  | 0 => 1
  | n + 1 => facF n * ((n : Int) + 1)
theorem facF_bd : ∀ n : Nat, n ≤ 6 → 1 ≤ facF n ∧ facF n ≤ 720 := by
  have key : ∀ k : Fin 7, 1 ≤ facF k.val ∧ facF k.val ≤ 720 := by decide +kernel
  exact fun n h => key ⟨n, by omega⟩
def fac (n : Int) : Int := facF n.toNat
theorem fac_bd {n : Int} (h : n ≤ 6) : 1 ≤ fac n ∧ fac n ≤ 720 := facF_bd _ (by omega)
section TG
variable {g : jjG} {d : Nat} {T : jjT} {Q : jjQ} {v : Int → Int → Int}
theorem tw_factorial_L {m : Int} (hT : PT T) (hV : PV v) (hm : 0 ≤ m ∧ m ≤ 6) (hQ : Q (.inl (some (vI (fac m)))) (v, T)) : ∀ (n k : Nat), 1 ≤ k → (k : Int) + n = m ∨ (m ≤ k ∧ k = 1 ∧ n = 0) → jW bX2_factorial (g, d, 0, 0, Q) 1 [some (vI m), some (vI (facF k)), some (vI ((k : Int) + 1))] [] (v, T) 0 0 := by
  intro n
  induction n with
  | zero =>
    intro k hk h
    have e : facF k = fac m := by
      rcases h with h | h
      · unfold fac; rw [show m.toNat = k by omega]
      · have : m = 0 ∨ m = 1 := by omega
        rw [h.2.1]
        rcases this with rfl | rfl <;> rfl
    rw [e]
    refine jW_step ?_
    simp (disch := (first | decide | omega)) only [bX2_factorial, jxs, hps, jtsw, jlsw, List.length_cons, List.length_nil, true_and, and_true, true_implies, false_implies, implies_true, not_true_eq_false, not_false_eq_true, false_and, and_false, if_true, if_false, or_true, true_or, or_false, false_or, Classical.not_not, and_self, Int.reduceAdd, Int.reduceMul, Int.reduceSub, Int.reduceNeg, Int.reduceLT, Int.reduceLE, Int.reduceEq, Int.reduceNe, Int.reduceToNat, Nat.reduceAdd, Nat.reduceMul, Nat.reduceSub, Nat.reduceLeDiff, Nat.reduceLT, Nat.reduceEqDiff, reduceIte, Nat.zero_le, Nat.le_refl, Nat.add_zero, Nat.zero_add, twT hT, twV hV]
    (try refine ⟨fun _ => ?_, fun h9 => (by exfalso; omega)⟩)
    (repeat (refine And.intro (by (first | omega | assumption | trivial | (simp only [inI]; omega) | (simp only [inL]; omega) | (refine jb_01) | (exact jb_in))) ?_))
    exact hQ
  | succ n ih =>
    intro k hk h
    have hkm : (k : Int) + 1 ≤ m := by omega
    have b := facF_bd (k + 1) (by omega)
    have e : facF k * ((k : Int) + 1) = facF (k + 1) := rfl
    refine jW_step ?_
    simp (disch := (first | decide | omega)) only [bX2_factorial, jxs, hps, jtsw, jlsw, List.length_cons, List.length_nil, true_and, and_true, true_implies, false_implies, implies_true, not_true_eq_false, not_false_eq_true, false_and, and_false, if_true, if_false, or_true, true_or, or_false, false_or, Classical.not_not, and_self, Int.reduceAdd, Int.reduceMul, Int.reduceSub, Int.reduceNeg, Int.reduceLT, Int.reduceLE, Int.reduceEq, Int.reduceNe, Int.reduceToNat, Nat.reduceAdd, Nat.reduceMul, Nat.reduceSub, Nat.reduceLeDiff, Nat.reduceLT, Nat.reduceEqDiff, reduceIte, Nat.zero_le, Nat.le_refl, Nat.add_zero, Nat.zero_add, twT hT, twV hV]
    (first | refine ⟨fun h9 => (by exfalso; omega), fun _ => ?_⟩ | intro _)
    rw [e]
    (repeat (refine And.intro (by (first | omega | assumption | trivial | (simp only [inI]; omega) | (simp only [inL]; omega) | (refine jb_01) | (exact jb_in))) ?_))
    exact ih (k + 1) (by omega) (Or.inl (by omega))
theorem tw_factorial {m : Int} (hT : PT T) (hV : PV v) (hS : 0 ≤ m ∧ m ≤ 6) (hQ : Q (.inl (some (vI (fac m)))) (v, T)) : jmet g (d + 1) 0 0 MX2_factorial [vI m] (v, T) Q := by
  refine jmet_of (ls := [some (vI m), none, none]) sX2_factorial rfl (by decide +kernel) (by decide) rfl (by simp [jent]) ?_
  refine jW_step ?_
  simp (disch := (first | decide | omega)) only [bX2_factorial, jxs, hps, jtsw, jlsw, List.length_cons, List.length_nil, true_and, and_true, true_implies, false_implies, implies_true, not_true_eq_false, not_false_eq_true, false_and, and_false, if_true, if_false, or_true, true_or, or_false, false_or, Classical.not_not, and_self, Int.reduceAdd, Int.reduceMul, Int.reduceSub, Int.reduceNeg, Int.reduceLT, Int.reduceLE, Int.reduceEq, Int.reduceNe, Int.reduceToNat, Nat.reduceAdd, Nat.reduceMul, Nat.reduceSub, Nat.reduceLeDiff, Nat.reduceLT, Nat.reduceEqDiff, reduceIte, Nat.zero_le, Nat.le_refl, Nat.add_zero, Nat.zero_add, twT hT, twV hV]
  exact tw_factorial_L hT hV hS hQ (m - 1).toNat 1 (by omega) (by omega)
theorem tw_changeOrder {p : Int} (hT : PT T) (hV : PV v) (hS : 0 ≤ p ∧ p < 5) (hQ : Q (.inl none) (upA v 555 (swp (v 555) p), T)) : jmet g (d + 1) 0 0 MX2_changeOrder [vR 539, vI p] (v, T) Q := by
  refine jmet_of (ls := [some (vR 539), some (vI p), none]) sX2_changeOrder rfl (by decide +kernel) (by decide) rfl (by simp [jent]) ?_
  refine jW_step ?_
  simp (disch := (first | decide | omega)) only [bX2_changeOrder, jxs, hps, jtsw, jlsw, List.length_cons, List.length_nil, true_and, and_true, true_implies, false_implies, implies_true, not_true_eq_false, not_false_eq_true, false_and, and_false, if_true, if_false, or_true, true_or, or_false, false_or, Classical.not_not, and_self, Int.reduceAdd, Int.reduceMul, Int.reduceSub, Int.reduceNeg, Int.reduceLT, Int.reduceLE, Int.reduceEq, Int.reduceNe, Int.reduceToNat, Nat.reduceAdd, Nat.reduceMul, Nat.reduceSub, Nat.reduceLeDiff, Nat.reduceLT, Nat.reduceEqDiff, reduceIte, Nat.zero_le, Nat.le_refl, Nat.add_zero, Nat.zero_add, twT hT, twV hV]
  (repeat (refine And.intro (by (first | omega | assumption | trivial | (simp only [inI]; omega) | (simp only [inL]; omega) | (refine jb_01) | (exact jb_in))) ?_))
  exact hQ
theorem tw_doOrder {p : Int} (hT : PT T) (hV : PV v) (hS : (0 ≤ p ∧ p < 5) ∧ (0 ≤ v 555 p ∧ v 555 p < 10) ∧ (0 ≤ v 555 (p + 1) ∧ v 555 (p + 1) < 10) ∧ (0 ≤ v 554 (v 555 p) ∧ v 554 (v 555 p) < 10) ∧ (0 ≤ v 554 (v 555 (p + 1)) ∧ v 554 (v 555 (p + 1)) < 10) ∧ (0 ≤ v 548 (10 * v 554 (v 555 p) + v 554 (v 555 (p + 1))) ∧ v 548 (10 * v 554 (v 555 p) + v 554 (v 555 (p + 1))) ≤ 1)) (hQ : Q (.inl (some (vI (v 548 (10 * v 554 (v 555 p) + v 554 (v 555 (p + 1))))))) (v, T)) : jmet g (d + 1) 0 0 MX2_doOrder [vR 539, vI p] (v, T) Q := by
  refine jmet_of (ls := [some (vR 539), some (vI p)]) sX2_doOrder rfl (by decide +kernel) (by decide) rfl (by simp [jent]) ?_
  refine jW_step ?_
  simp (disch := (first | decide | omega)) only [bX2_doOrder, jxs, hps, jtsw, jlsw, List.length_cons, List.length_nil, true_and, and_true, true_implies, false_implies, implies_true, not_true_eq_false, not_false_eq_true, false_and, and_false, if_true, if_false, or_true, true_or, or_false, false_or, Classical.not_not, and_self, Int.reduceAdd, Int.reduceMul, Int.reduceSub, Int.reduceNeg, Int.reduceLT, Int.reduceLE, Int.reduceEq, Int.reduceNe, Int.reduceToNat, Nat.reduceAdd, Nat.reduceMul, Nat.reduceSub, Nat.reduceLeDiff, Nat.reduceLT, Nat.reduceEqDiff, reduceIte, Nat.zero_le, Nat.le_refl, Nat.add_zero, Nat.zero_add, twT hT, twV hV]
  (repeat (refine And.intro (by (first | omega | assumption | trivial | (simp only [inI]; omega) | (simp only [inL]; omega) | (refine jb_01) | (exact jb_in))) ?_))
  exact hQ
theorem tw_takeOrder_L {k : Int} (hT : PT T) (hk : 0 ≤ k ∧ k < 720) : ∀ (n : Nat) (p : Int) (v : Int → Int → Int), PV v → 0 ≤ p → v 539 34 = p + n → v 539 34 ≤ 6 →
    Q (.inl none) (upA v 555 (fun i => if p ≤ i ∧ i < v 539 34 then v 551 (6 * k + i) else v 555 i), T) → jW bX2_takeOrder (g, d, 0, 0, Q) 1 [some (vR 539), some (vI k), some (vI p)] [] (v, T) 0 0 := by
  intro n
  induction n with
  | zero =>
    intro p v hV hp hn hm hQ
    have e : upA v 555 (fun i => if p ≤ i ∧ i < v 539 34 then v 551 (6 * k + i) else v 555 i) = v := by
      have : (fun i => if p ≤ i ∧ i < v 539 34 then v 551 (6 * k + i) else v 555 i) = v 555 := by
        funext i; rw [if_neg (by omega)]
      rw [this, upA_id]
    rw [e] at hQ
    refine jW_step ?_
    simp (disch := (first | decide | omega)) only [bX2_takeOrder, jxs, hps, jtsw, jlsw, List.length_cons, List.length_nil, true_and, and_true, true_implies, false_implies, implies_true, not_true_eq_false, not_false_eq_true, false_and, and_false, if_true, if_false, or_true, true_or, or_false, false_or, Classical.not_not, and_self, Int.reduceAdd, Int.reduceMul, Int.reduceSub, Int.reduceNeg, Int.reduceLT, Int.reduceLE, Int.reduceEq, Int.reduceNe, Int.reduceToNat, Nat.reduceAdd, Nat.reduceMul, Nat.reduceSub, Nat.reduceLeDiff, Nat.reduceLT, Nat.reduceEqDiff, reduceIte, Nat.zero_le, Nat.le_refl, Nat.add_zero, Nat.zero_add, twT hT, twV hV]
    (repeat (refine And.intro (by (first | omega | assumption | trivial | (simp only [inI]; omega) | (simp only [inL]; omega) | (refine jb_01) | (exact jb_in))) ?_))
    (try refine ⟨fun _ => ?_, fun h9 => (by exfalso; omega)⟩)
    (repeat (refine And.intro (by (first | omega | assumption | trivial | (simp only [inI]; omega) | (simp only [inL]; omega) | (refine jb_01) | (exact jb_in))) ?_))
    exact hQ
  | succ n ih =>
    intro p v hV hp hn hm hQ
    refine jW_step ?_
    simp (disch := (first | decide | omega)) only [bX2_takeOrder, jxs, hps, jtsw, jlsw, List.length_cons, List.length_nil, true_and, and_true, true_implies, false_implies, implies_true, not_true_eq_false, not_false_eq_true, false_and, and_false, if_true, if_false, or_true, true_or, or_false, false_or, Classical.not_not, and_self, Int.reduceAdd, Int.reduceMul, Int.reduceSub, Int.reduceNeg, Int.reduceLT, Int.reduceLE, Int.reduceEq, Int.reduceNe, Int.reduceToNat, Nat.reduceAdd, Nat.reduceMul, Nat.reduceSub, Nat.reduceLeDiff, Nat.reduceLT, Nat.reduceEqDiff, reduceIte, Nat.zero_le, Nat.le_refl, Nat.add_zero, Nat.zero_add, twT hT, twV hV]
    (repeat (refine And.intro (by (first | omega | assumption | trivial | (simp only [inI]; omega) | (simp only [inL]; omega) | (refine jb_01) | (exact jb_in))) ?_))
    (first | refine ⟨fun h9 => (by exfalso; omega), fun _ => ?_⟩ | intro _)
    (repeat (refine And.intro (by (first | omega | assumption | trivial | (simp only [inI]; omega) | (simp only [inL]; omega) | (refine jb_01) | (exact jb_in))) ?_))
    refine ih (p + 1) _ (by (first | assumption | (repeat (first | assumption | refine PV.A ?_ (by decide) | refine PV.F ?_ ?_ | refine twR.up ?_ (by decide) | refine PV.r ?_)))) (by omega) (by rw [upA_ne (by omega)]; omega) (by rw [upA_ne (by omega)]; omega) ?_
    rw [upA_same, upA_eq, upA_ne (by omega), upA_ne (by omega)]
    have e : (fun i => if p + 1 ≤ i ∧ i < v 539 34 then v 551 (6 * k + i) else up1 (v 555) p (v 551 (6 * k + p)) i) = (fun i => if p ≤ i ∧ i < v 539 34 then v 551 (6 * k + i) else v 555 i) := by
      funext i
      by_cases h1 : i = p
      · subst h1; rw [if_neg (by omega), up1_eq, if_pos (by omega)]
      · rw [up1_ne h1]
        by_cases h2 : p ≤ i ∧ i < v 539 34
        · rw [if_pos h2, if_pos (by omega)]
        · rw [if_neg h2, if_neg (by omega)]
    rw [e]
    exact hQ
theorem tw_takeOrder {k : Int} (hT : PT T) (hV : PV v) (hS : (0 ≤ k ∧ k < 720) ∧ (0 ≤ v 539 34 ∧ v 539 34 ≤ 6)) (hQ : Q (.inl none) (upA v 555 (fun i => if 0 ≤ i ∧ i < v 539 34 then v 551 (6 * k + i) else v 555 i), T)) : jmet g (d + 1) 0 0 MX2_takeOrder [vR 539, vI k] (v, T) Q := by
  refine jmet_of (ls := [some (vR 539), some (vI k), none]) sX2_takeOrder rfl (by decide +kernel) (by decide) rfl (by simp [jent]) ?_
  refine jW_step ?_
  simp (disch := (first | decide | omega)) only [bX2_takeOrder, jxs, hps, jtsw, jlsw, List.length_cons, List.length_nil, true_and, and_true, true_implies, false_implies, implies_true, not_true_eq_false, not_false_eq_true, false_and, and_false, if_true, if_false, or_true, true_or, or_false, false_or, Classical.not_not, and_self, Int.reduceAdd, Int.reduceMul, Int.reduceSub, Int.reduceNeg, Int.reduceLT, Int.reduceLE, Int.reduceEq, Int.reduceNe, Int.reduceToNat, Nat.reduceAdd, Nat.reduceMul, Nat.reduceSub, Nat.reduceLeDiff, Nat.reduceLT, Nat.reduceEqDiff, reduceIte, Nat.zero_le, Nat.le_refl, Nat.add_zero, Nat.zero_add, twT hT, twV hV]
  exact tw_takeOrder_L hT hS.1 (v 539 34).toNat 0 v hV (by omega) (by omega) (by omega) hQ
end TG
