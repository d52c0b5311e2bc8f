/-! ===== the reference: an order's number; ends ===== -/
set_option maxRecDepth 100000
/-- how many behind a place are lower -/
def lwF (w : Int → Int) (p : Int) : Nat → Int → Int
  | 0, _ => 0
  | n + 1, q => (if w q < w p then 1 else 0) + lwF w p n (q + 1)
def ooF (w : Int → Int) (m : Int) : Nat → Int → Int → Int
  | 0, _, x => x
  | n + 1, p, x => ooF w m n (p + 1) (x * (m - p) + lwF w p (m - p - 1).toNat (p + 1))
def ooA (w : Int → Int) (m : Int) : Int := ooF w m m.toNat 0 0
theorem lwF_bd {w : Int → Int} {p : Int} : ∀ (n : Nat) (q : Int), 0 ≤ lwF w p n q ∧ lwF w p n q ≤ n
  | 0, _ => by unfold lwF; omega
  | n + 1, q => by
    have := lwF_bd (w := w) (p := p) n (q + 1)
    unfold lwF
    split <;> omega
section TG
variable {g : jjG} {d : Nat} {T : jjT} {Q : jjQ} {v : Int → Int → Int}
theorem tw_orderOf_2 {x p : Int} (hT : PT T) (hV : PV v) (hp : 0 ≤ p ∧ p < v 539 34 ∧ v 539 34 ≤ 6) : ∀ (n : Nat) (q lo : Int), p < q → v 539 34 = q + n → (0 ≤ lo ∧ lo + n ≤ 10) →
    (jW bX2_orderOf (g, d, 0, 0, Q) 2 [some (vR 539), some (vI x), some (vI p), some (vI (lo + lwF (v 555) p n q)), some (vI (v 539 34))] [] (v, T) 0 0) →
    jW bX2_orderOf (g, d, 0, 0, Q) 2 [some (vR 539), some (vI x), some (vI p), some (vI lo), some (vI q)] [] (v, T) 0 0 := by
  intro n
  induction n with
  | zero =>
    intro q lo hq hn hl hQ
    unfold lwF at hQ
    rw [Int.add_zero, show v 539 34 = q by omega] at hQ
    exact hQ
  | succ n ih =>
    intro q lo hq hn hl hQ
    unfold lwF at hQ
    have k3 : ∀ z, z = (if v 555 q < v 555 p then (1 : Int) else 0) → jW bX2_orderOf (g, d, 0, 0, Q) 3 [some (vR 539), some (vI x), some (vI p), some (vI lo), some (vI q)] [vI z, vI lo] (v, T) 0 0 := by
      intro z hz
      have z1 : 0 ≤ z ∧ z ≤ 1 := by rw [hz]; split <;> omega
      rw [← hz] at hQ
      refine jW_step ?_
      simp (disch := (first | decide | omega)) only [bX2_orderOf, jxs, hps, jtsw, jlsw, List.length_cons, List.length_nil, true_and, and_true, true_implies, false_implies, implies_true, not_true_eq_false, not_false_eq_true, false_and, and_false, if_true, if_false, or_true, true_or, or_false, false_or, Classical.not_not, and_self, Int.reduceAdd, Int.reduceMul, Int.reduceSub, Int.reduceNeg, Int.reduceLT, Int.reduceLE, Int.reduceEq, Int.reduceNe, Int.reduceToNat, Nat.reduceAdd, Nat.reduceMul, Nat.reduceSub, Nat.reduceLeDiff, Nat.reduceLT, Nat.reduceEqDiff, reduceIte, Nat.zero_le, Nat.le_refl, Nat.add_zero, Nat.zero_add, twT hT, twV hV]
      (repeat (refine And.intro (by (first | omega | assumption | trivial | (simp only [inI]; omega) | (simp only [inL]; omega) | (refine jb_01) | (exact jb_in))) ?_))
      refine ih (q + 1) (lo + z) (by omega) (by omega) (by omega) ?_
      rw [show lo + z + lwF (v 555) p n (q + 1) = lo + (z + lwF (v 555) p n (q + 1)) by omega]
      exact hQ
    refine jW_step ?_
    simp (disch := (first | decide | omega)) only [bX2_orderOf, jxs, hps, jtsw, jlsw, List.length_cons, List.length_nil, true_and, and_true, true_implies, false_implies, implies_true, not_true_eq_false, not_false_eq_true, false_and, and_false, if_true, if_false, or_true, true_or, or_false, false_or, Classical.not_not, and_self, Int.reduceAdd, Int.reduceMul, Int.reduceSub, Int.reduceNeg, Int.reduceLT, Int.reduceLE, Int.reduceEq, Int.reduceNe, Int.reduceToNat, Nat.reduceAdd, Nat.reduceMul, Nat.reduceSub, Nat.reduceLeDiff, Nat.reduceLT, Nat.reduceEqDiff, reduceIte, Nat.zero_le, Nat.le_refl, Nat.add_zero, Nat.zero_add, twT hT, twV hV]
    (repeat (refine And.intro (by (first | omega | assumption | trivial | (simp only [inI]; omega) | (simp only [inL]; omega) | (refine jb_01) | (exact jb_in))) ?_))
    (first | refine ⟨fun h9 => (by exfalso; omega), fun _ => ?_⟩ | intro _)
    (repeat (refine And.intro (by (first | omega | assumption | trivial | (simp only [inI]; omega) | (simp only [inL]; omega) | (refine jb_01) | (exact jb_in))) ?_))
    refine ⟨fun h => ?_, fun h => ?_⟩
    · exact k3 0 (by rw [if_neg (by omega)])
    · exact k3 1 (by rw [if_pos (by omega)])
theorem tw_orderOf_1 (hT : PT T) (hV : PV v) (hm : 0 ≤ v 539 34 ∧ v 539 34 ≤ 6) : ∀ (n : Nat) (p x : Int) (l3 l4 : Option jjV), 0 ≤ p → v 539 34 = p + n → (0 ≤ x ∧ x < 10 ^ p.toNat) →
    Q (.inl (some (vI (ooF (v 555) (v 539 34) n p x)))) (v, T) → jW bX2_orderOf (g, d, 0, 0, Q) 1 [some (vR 539), some (vI x), some (vI p), none, none] [] (v, T) 0 0 := by
  intro n
  induction n with
  | zero =>
    intro p x l3 l4 hp hn hx hQ
    refine jW_step ?_
    simp (disch := (first | decide | omega)) only [bX2_orderOf, jxs, hps, jtsw, jlsw, List.length_cons, List.length_nil, true_and, and_true, true_implies, false_implies, implies_true, not_true_eq_false, not_false_eq_true, false_and, and_false, if_true, if_false, or_true, true_or, or_false, false_or, Classical.not_not, and_self, Int.reduceAdd, Int.reduceMul, Int.reduceSub, Int.reduceNeg, Int.reduceLT, Int.reduceLE, Int.reduceEq, Int.reduceNe, Int.reduceToNat, Nat.reduceAdd, Nat.reduceMul, Nat.reduceSub, Nat.reduceLeDiff, Nat.reduceLT, Nat.reduceEqDiff, reduceIte, Nat.zero_le, Nat.le_refl, Nat.add_zero, Nat.zero_add, twT hT, twV hV]
    (repeat (refine And.intro (by (first | omega | assumption | trivial | (simp only [inI]; omega) | (simp only [inL]; omega) | (refine jb_01) | (exact jb_in))) ?_))
    (try refine ⟨fun _ => ?_, fun h9 => (by exfalso; omega)⟩)
    (repeat (refine And.intro (by (first | omega | assumption | trivial | (simp only [inI]; omega) | (simp only [inL]; omega) | (refine jb_01) | (exact jb_in))) ?_))
    exact hQ
  | succ n ih =>
    intro p x l3 l4 hp hn hx hQ
    unfold ooF at hQ
    have b := lwF_bd (w := v 555) (p := p) (v 539 34 - p - 1).toNat (p + 1)
    have hpow : (10 : Int) ^ (p + 1).toNat = 10 ^ p.toNat * 10 := by
      rw [show (p + 1).toNat = p.toNat + 1 by omega, Int.pow_succ]
    have hp10 : (10 : Int) ^ p.toNat ≤ 100000 := by
      have key : ∀ k : Fin 6, (10 : Int) ^ k.val ≤ 100000 := by decide +kernel
      exact key ⟨p.toNat, by omega⟩
    have hprod : 0 ≤ x * (v 539 34 - p) ∧ x * (v 539 34 - p) ≤ x * 6 := ⟨Int.mul_nonneg hx.1 (by omega), Int.mul_le_mul_of_nonneg_left (by omega) hx.1⟩
    refine jW_step ?_
    simp (disch := (first | decide | omega)) only [bX2_orderOf, jxs, hps, jtsw, jlsw, List.length_cons, List.length_nil, true_and, and_true, true_implies, false_implies, implies_true, not_true_eq_false, not_false_eq_true, false_and, and_false, if_true, if_false, or_true, true_or, or_false, false_or, Classical.not_not, and_self, Int.reduceAdd, Int.reduceMul, Int.reduceSub, Int.reduceNeg, Int.reduceLT, Int.reduceLE, Int.reduceEq, Int.reduceNe, Int.reduceToNat, Nat.reduceAdd, Nat.reduceMul, Nat.reduceSub, Nat.reduceLeDiff, Nat.reduceLT, Nat.reduceEqDiff, reduceIte, Nat.zero_le, Nat.le_refl, Nat.add_zero, Nat.zero_add, twT hT, twV hV]
    (repeat (refine And.intro (by (first | omega | assumption | trivial | (simp only [inI]; omega) | (simp only [inL]; omega) | (refine jb_01) | (exact jb_in))) ?_))
    (first | refine ⟨fun h9 => (by exfalso; omega), fun _ => ?_⟩ | intro _)
    (repeat (refine And.intro (by (first | omega | assumption | trivial | (simp only [inI]; omega) | (simp only [inL]; omega) | (refine jb_01) | (exact jb_in))) ?_))
    refine tw_orderOf_2 hT hV (by omega) (v 539 34 - p - 1).toNat (p + 1) 0 (by omega) (by omega) (by omega) ?_
    rw [Int.zero_add]
    generalize lwF (v 555) p (v 539 34 - p - 1).toNat (p + 1) = lo at *
    refine jW_step ?_
    simp (disch := (first | decide | omega)) only [bX2_orderOf, jxs, hps, jtsw, jlsw, List.length_cons, List.length_nil, true_and, and_true, true_implies, false_implies, implies_true, not_true_eq_false, not_false_eq_true, false_and, and_false, if_true, if_false, or_true, true_or, or_false, false_or, Classical.not_not, and_self, Int.reduceAdd, Int.reduceMul, Int.reduceSub, Int.reduceNeg, Int.reduceLT, Int.reduceLE, Int.reduceEq, Int.reduceNe, Int.reduceToNat, Nat.reduceAdd, Nat.reduceMul, Nat.reduceSub, Nat.reduceLeDiff, Nat.reduceLT, Nat.reduceEqDiff, reduceIte, Nat.zero_le, Nat.le_refl, Nat.add_zero, Nat.zero_add, twT hT, twV hV]
    (repeat (refine And.intro (by (first | omega | assumption | trivial | (simp only [inI]; omega) | (simp only [inL]; omega) | (refine jb_01) | (exact jb_in))) ?_))
    (try refine ⟨fun _ => ?_, fun h9 => (by exfalso; omega)⟩)
    (repeat (refine And.intro (by (first | omega | assumption | trivial | (simp only [inI]; omega) | (simp only [inL]; omega) | (refine jb_01) | (exact jb_in))) ?_))
    generalize x * (v 539 34 - p) = y at *
    refine jW_sub (ls' := [some (vR 539), some (vI (y + lo)), some (vI (p + 1)), none, none]) (by simp [jsub]) ?_
    exact ih (p + 1) (y + lo) none none (by omega) (by omega) (by rw [hpow]; omega) hQ
theorem tw_orderOf (hT : PT T) (hV : PV v) (hS : 0 ≤ v 539 34 ∧ v 539 34 ≤ 6) (hQ : Q (.inl (some (vI (ooA (v 555) (v 539 34))))) (v, T)) : jmet g (d + 1) 0 0 MX2_orderOf [vR 539] (v, T) Q := by
  refine jmet_of (ls := [some (vR 539), none, none, none, none]) sX2_orderOf rfl (by decide +kernel) (by decide) rfl (by simp [jent]) ?_
  refine jW_step ?_
  simp (disch := (first | decide | omega)) only [bX2_orderOf, jxs, hps, jtsw, jlsw, List.length_cons, List.length_nil, true_and, and_true, true_implies, false_implies, implies_true, not_true_eq_false, not_false_eq_true, false_and, and_false, if_true, if_false, or_true, true_or, or_false, false_or, Classical.not_not, and_self, Int.reduceAdd, Int.reduceMul, Int.reduceSub, Int.reduceNeg, Int.reduceLT, Int.reduceLE, Int.reduceEq, Int.reduceNe, Int.reduceToNat, Nat.reduceAdd, Nat.reduceMul, Nat.reduceSub, Nat.reduceLeDiff, Nat.reduceLT, Nat.reduceEqDiff, reduceIte, Nat.zero_le, Nat.le_refl, Nat.add_zero, Nat.zero_add, twT hT, twV hV]
  exact tw_orderOf_1 hT hV hS (v 539 34).toNat 0 0 none none (by omega) (by omega) (by decide) hQ
end TG
