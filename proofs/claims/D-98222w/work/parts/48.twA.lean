/-! ===== the reference: a row as a number ===== -/
set_option maxRecDepth 100000
def rnF (f : Int → Int) : Nat → Int
  | 0 => 0
  | n + 1 => 10 * rnF f n + f n
theorem rnF_bd {f : Int → Int} {m : Int} (h : RO f m) : ∀ n : Nat, (n : Int) ≤ m → 0 ≤ rnF f n ∧ rnF f n < 10 ^ n
  | 0, _ => by unfold rnF; simp
  | n + 1, hn => by
    have a := rnF_bd h n (by omega)
    have b := h.2 n (by omega) (by omega)
    have e : (10 : Int) ^ (n + 1) = 10 ^ n * 10 := Int.pow_succ ..
    unfold rnF
    rw [e]
    omega
theorem pow10_bd {n : Nat} (h : n ≤ 10) : (10 : Int) ^ n ≤ 10000000000 := by
  have key : ∀ k : Fin 11, (10 : Int) ^ k.val ≤ 10000000000 := by decide +kernel
  exact key ⟨n, by omega⟩
section TG
variable {g : jjG} {d : Nat} {T : jjT} {Q : jjQ} {v : Int → Int → Int}
theorem tw_rowNumber_L (hT : PT T) (hV : PV v) (hR : RO (v 549) (v 539 28)) (hQ : Q (.inl (some (vL (rnF (v 549) (v 539 28).toNat)))) (v, T)) : ∀ (n p : Nat), v 539 28 = ((p + n : Nat) : Int) →
    jW bX2_rowNumber (g, d, 0, 0, Q) 1 [some (vR 539), some (vL (rnF (v 549) p)), none, some (vI (p : Int))] [] (v, T) 0 0 := by
  have h1 := hR.1
  intro n
  induction n with
  | zero =>
    intro p hp
    rw [show (v 539 28).toNat = p by omega] at hQ
    refine jW_step ?_
    simp (disch := (first | decide | omega)) only [bX2_rowNumber, jxs, hps, jtsw, jlsw, List.length_cons, List.length_nil, true_and, and_true, true_implies, false_implies, implies_true, not_true_eq_false, not_false_eq_true, false_and, and_false, if_true, if_false, or_true, true_or, or_false, false_or, Classical.not_not, and_self, Int.reduceAdd, Int.reduceMul, Int.reduceSub, Int.reduceNeg, Int.reduceLT, Int.reduceLE, Int.reduceEq, Int.reduceNe, Int.reduceToNat, Nat.reduceAdd, Nat.reduceMul, Nat.reduceSub, Nat.reduceLeDiff, Nat.reduceLT, Nat.reduceEqDiff, reduceIte, Nat.zero_le, Nat.le_refl, Nat.add_zero, Nat.zero_add, twT hT, twV hV]
    (repeat (refine And.intro (by (first | omega | assumption | trivial | (simp only [inI]; omega) | (simp only [inL]; omega) | (refine jb_01) | (exact jb_in))) ?_))
    (try refine ⟨fun _ => ?_, fun h9 => (by exfalso; omega)⟩)
    (repeat (refine And.intro (by (first | omega | assumption | trivial | (simp only [inI]; omega) | (simp only [inL]; omega) | (refine jb_01) | (exact jb_in))) ?_))
    exact hQ
  | succ n ih =>
    intro p hp
    have a := rnF_bd hR p (by omega)
    have b := hR.2 p (by omega) (by omega)
    have c := pow10_bd (n := p) (by omega)
    have q := ih (p + 1) (by omega)
    unfold rnF at q
    refine jW_step ?_
    simp (disch := (first | decide | omega)) only [bX2_rowNumber, jxs, hps, jtsw, jlsw, List.length_cons, List.length_nil, true_and, and_true, true_implies, false_implies, implies_true, not_true_eq_false, not_false_eq_true, false_and, and_false, if_true, if_false, or_true, true_or, or_false, false_or, Classical.not_not, and_self, Int.reduceAdd, Int.reduceMul, Int.reduceSub, Int.reduceNeg, Int.reduceLT, Int.reduceLE, Int.reduceEq, Int.reduceNe, Int.reduceToNat, Nat.reduceAdd, Nat.reduceMul, Nat.reduceSub, Nat.reduceLeDiff, Nat.reduceLT, Nat.reduceEqDiff, reduceIte, Nat.zero_le, Nat.le_refl, Nat.add_zero, Nat.zero_add, twT hT, twV hV]
    (repeat (refine And.intro (by (first | omega | assumption | trivial | (simp only [inI]; omega) | (simp only [inL]; omega) | (refine jb_01) | (exact jb_in))) ?_))
    (first | refine ⟨fun h9 => (by exfalso; omega), fun _ => ?_⟩ | intro _)
    (repeat (refine And.intro (by (first | omega | assumption | trivial | (simp only [inI]; omega) | (simp only [inL]; omega) | (refine jb_01) | (exact jb_in))) ?_))
    exact q
theorem tw_rowNumber (hT : PT T) (hV : PV v) (hS : RO (v 549) (v 539 28)) (hQ : Q (.inl (some (vL (rnF (v 549) (v 539 28).toNat)))) (v, T)) : jmet g (d + 1) 0 0 MX2_rowNumber [vR 539] (v, T) Q := by
  have h1 := hS.1
  refine jmet_of (ls := [some (vR 539), none, none, none]) sX2_rowNumber rfl (by decide +kernel) (by decide) rfl (by simp [jent]) ?_
  refine jW_step ?_
  simp (disch := (first | decide | omega)) only [bX2_rowNumber, jxs, hps, jtsw, jlsw, List.length_cons, List.length_nil, true_and, and_true, true_implies, false_implies, implies_true, not_true_eq_false, not_false_eq_true, false_and, and_false, if_true, if_false, or_true, true_or, or_false, false_or, Classical.not_not, and_self, Int.reduceAdd, Int.reduceMul, Int.reduceSub, Int.reduceNeg, Int.reduceLT, Int.reduceLE, Int.reduceEq, Int.reduceNe, Int.reduceToNat, Nat.reduceAdd, Nat.reduceMul, Nat.reduceSub, Nat.reduceLeDiff, Nat.reduceLT, Nat.reduceEqDiff, reduceIte, Nat.zero_le, Nat.le_refl, Nat.add_zero, Nat.zero_add, twT hT, twV hV]
  exact tw_rowNumber_L hT hV hS hQ (v 539 28).toNat 0 (by omega)
/-- the rows by nights -/
def seqR (ch : Int → Int) (m ni : Int) (f : Int → Int) : Nat → (Int → Int)
  | 0 => f
  | n + 1 => nitR ch m ((ni + n) % 2) (seqR ch m ni f n)
theorem seqR_RO {ch : Int → Int} {m ni : Int} {f : Int → Int} (h : RO f m) : ∀ n : Nat, RO (seqR ch m ni f n) m
  | 0 => h
  | n + 1 => nitR_RO (by omega) (seqR_RO h n)
end TG
