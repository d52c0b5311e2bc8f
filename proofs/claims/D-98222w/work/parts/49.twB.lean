/-! ===== the reference: round ===== -/
set_option maxRecDepth 100000
def roL (ch : Int → Int) (m ni : Int) : Nat → Int → (Int → Int) → (Int → Int) → Option (Int → Int)
  | 0, _, _, st => some st
  | r + 1, k, f, st => if clmR ch f m = 0 then roL ch m ni r (k + 1) (nitR ch m ((ni + k) % 2) f) (up1 st k (rnF f m.toNat)) else none
def inF (st : Int → Int) (n : Int) : Nat → Int → Option Int
  | 0, _ => none
  | r + 1, e => if 500 < n + e then none else if st n = st (n + e) then some e else inF st n r (e + 2)
def ouF (st : Int → Int) (len : Int) : Nat → Int → Int
  | 0, _ => -1
  | r + 1, n => match inF st n 260 2 with
    | some e => if len = 0 then n else e
    | none => ouF st len r (n + 1)
section TG
variable {g : jjG} {d : Nat} {T : jjT} {Q : jjQ}
theorem tw_round_3 {v : Int → Int → Int} {s len n : Int} (hT : PT T) (hV : PV v) (hn : 0 ≤ n ∧ n ≤ 500) : ∀ (r : Nat) (e : Int), 2 ≤ e → 500 < n + e + 2 * r → e ≤ 600 →
    (∀ z, inF (v 550) n r e = some z → Q (.inl (some (vI (if len = 0 then n else z)))) (v, T)) → (inF (v 550) n r e = none → ∀ y, jW bX2_round (g, d + 9, 0, 0, Q) 2 [some (vR 539), some (vI s), some (vI len), some (vI (n + 1)), some (vI y)] [] (v, T) 0 0) →
    jW bX2_round (g, d + 9, 0, 0, Q) 3 [some (vR 539), some (vI s), some (vI len), some (vI n), some (vI e)] [] (v, T) 0 0 := by
  intro r
  induction r with
  | zero =>
    intro e he hr he2 hQ hN
    refine jW_step ?_
    simp (disch := (first | decide | omega)) only [bX2_round, jxs, hps, jtsw, jlsw, List.length_cons, List.length_nil, true_and, and_true, true_implies, false_implies, implies_true, not_true_eq_false, not_false_eq_true, false_and, and_false, if_true, if_false, or_true, true_or, or_false, false_or, Classical.not_not, and_self, Int.reduceAdd, Int.reduceMul, Int.reduceSub, Int.reduceNeg, Int.reduceLT, Int.reduceLE, Int.reduceEq, Int.reduceNe, Int.reduceToNat, Nat.reduceAdd, Nat.reduceMul, Nat.reduceSub, Nat.reduceLeDiff, Nat.reduceLT, Nat.reduceEqDiff, reduceIte, Nat.zero_le, Nat.le_refl, Nat.add_zero, Nat.zero_add, twT hT, twV hV]
    (repeat (refine And.intro (by (first | omega | assumption | trivial | (simp only [inI]; omega) | (simp only [inL]; omega) | (refine jb_01) | (exact jb_in))) ?_))
    (try refine ⟨fun _ => ?_, fun h9 => (by exfalso; omega)⟩)
    (repeat (refine And.intro (by (first | omega | assumption | trivial | (simp only [inI]; omega) | (simp only [inL]; omega) | (refine jb_01) | (exact jb_in))) ?_))
    exact hN rfl e
  | succ r ih =>
    intro e he hr he2 hQ hN
    unfold inF at hQ hN
    refine jW_step ?_
    simp (disch := (first | decide | omega)) only [bX2_round, jxs, hps, jtsw, jlsw, List.length_cons, List.length_nil, true_and, and_true, true_implies, false_implies, implies_true, not_true_eq_false, not_false_eq_true, false_and, and_false, if_true, if_false, or_true, true_or, or_false, false_or, Classical.not_not, and_self, Int.reduceAdd, Int.reduceMul, Int.reduceSub, Int.reduceNeg, Int.reduceLT, Int.reduceLE, Int.reduceEq, Int.reduceNe, Int.reduceToNat, Nat.reduceAdd, Nat.reduceMul, Nat.reduceSub, Nat.reduceLeDiff, Nat.reduceLT, Nat.reduceEqDiff, reduceIte, Nat.zero_le, Nat.le_refl, Nat.add_zero, Nat.zero_add, twT hT, twV hV, jcs]
    (repeat (refine And.intro (by (first | omega | assumption | trivial | (simp only [inI]; omega) | (simp only [inL]; omega) | (refine jb_01) | (exact jb_in))) ?_))
    refine ⟨fun h => ?_, fun h => ?_⟩
    · rw [if_pos h] at hN
      (repeat (refine And.intro (by (first | omega | assumption | trivial | (simp only [inI]; omega) | (simp only [inL]; omega) | (refine jb_01) | (exact jb_in))) ?_))
      exact hN rfl e
    · rw [if_neg h] at hQ hN
      (repeat (refine And.intro (by (first | omega | assumption | trivial | (simp only [inI]; omega) | (simp only [inL]; omega) | (refine jb_01) | (exact jb_in))) ?_))
      refine ⟨fun h2 => ?_, fun h2 => ?_⟩
      · rw [if_neg h2] at hQ hN
        (repeat (refine And.intro (by (first | omega | assumption | trivial | (simp only [inI]; omega) | (simp only [inL]; omega) | (refine jb_01) | (exact jb_in))) ?_))
        exact ih (e + 2) (by omega) (by omega) (by omega) hQ hN
      · rw [if_pos h2] at hQ
        have hq := hQ e rfl
        refine ⟨fun h3 => ?_, fun h3 => ?_⟩
        · rw [if_pos h3] at hq
          refine jW_step ?_
          simp (disch := (first | decide | omega)) only [bX2_round, jxs, hps, jtsw, jlsw, List.length_cons, List.length_nil, true_and, and_true, true_implies, false_implies, implies_true, not_true_eq_false, not_false_eq_true, false_and, and_false, if_true, if_false, or_true, true_or, or_false, false_or, Classical.not_not, and_self, Int.reduceAdd, Int.reduceMul, Int.reduceSub, Int.reduceNeg, Int.reduceLT, Int.reduceLE, Int.reduceEq, Int.reduceNe, Int.reduceToNat, Nat.reduceAdd, Nat.reduceMul, Nat.reduceSub, Nat.reduceLeDiff, Nat.reduceLT, Nat.reduceEqDiff, reduceIte, Nat.zero_le, Nat.le_refl, Nat.add_zero, Nat.zero_add, twT hT, twV hV]
          (repeat (refine And.intro (by (first | omega | assumption | trivial | (simp only [inI]; omega) | (simp only [inL]; omega) | (refine jb_01) | (exact jb_in))) ?_))
          exact hq
        · rw [if_neg h3] at hq
          (repeat (refine And.intro (by (first | omega | assumption | trivial | (simp only [inI]; omega) | (simp only [inL]; omega) | (refine jb_01) | (exact jb_in))) ?_))
          refine jW_step ?_
          simp (disch := (first | decide | omega)) only [bX2_round, jxs, hps, jtsw, jlsw, List.length_cons, List.length_nil, true_and, and_true, true_implies, false_implies, implies_true, not_true_eq_false, not_false_eq_true, false_and, and_false, if_true, if_false, or_true, true_or, or_false, false_or, Classical.not_not, and_self, Int.reduceAdd, Int.reduceMul, Int.reduceSub, Int.reduceNeg, Int.reduceLT, Int.reduceLE, Int.reduceEq, Int.reduceNe, Int.reduceToNat, Nat.reduceAdd, Nat.reduceMul, Nat.reduceSub, Nat.reduceLeDiff, Nat.reduceLT, Nat.reduceEqDiff, reduceIte, Nat.zero_le, Nat.le_refl, Nat.add_zero, Nat.zero_add, twT hT, twV hV]
          (repeat (refine And.intro (by (first | omega | assumption | trivial | (simp only [inI]; omega) | (simp only [inL]; omega) | (refine jb_01) | (exact jb_in))) ?_))
          exact hq
theorem tw_round_2 {v : Int → Int → Int} {s len : Int} (hT : PT T) (hV : PV v) : ∀ (r : Nat) (n : Int), 0 ≤ n → n + r = 501 → Q (.inl (some (vI (ouF (v 550) len r n)))) (v, T) → ∀ y, jW bX2_round (g, d + 9, 0, 0, Q) 2 [some (vR 539), some (vI s), some (vI len), some (vI n), y] [] (v, T) 0 0 := by
  intro r
  induction r with
  | zero =>
    intro n h0 hn hQ y
    refine jW_step ?_
    simp (disch := (first | decide | omega)) only [bX2_round, jxs, hps, jtsw, jlsw, List.length_cons, List.length_nil, true_and, and_true, true_implies, false_implies, implies_true, not_true_eq_false, not_false_eq_true, false_and, and_false, if_true, if_false, or_true, true_or, or_false, false_or, Classical.not_not, and_self, Int.reduceAdd, Int.reduceMul, Int.reduceSub, Int.reduceNeg, Int.reduceLT, Int.reduceLE, Int.reduceEq, Int.reduceNe, Int.reduceToNat, Nat.reduceAdd, Nat.reduceMul, Nat.reduceSub, Nat.reduceLeDiff, Nat.reduceLT, Nat.reduceEqDiff, reduceIte, Nat.zero_le, Nat.le_refl, Nat.add_zero, Nat.zero_add, twT hT, twV hV]
    (try refine ⟨fun _ => ?_, fun h9 => (by exfalso; omega)⟩)
    (repeat (refine And.intro (by (first | omega | assumption | trivial | (simp only [inI]; omega) | (simp only [inL]; omega) | (refine jb_01) | (exact jb_in))) ?_))
    exact hQ
  | succ r ih =>
    intro n h0 hn hQ y
    unfold ouF at hQ
    refine jW_step ?_
    simp (disch := (first | decide | omega)) only [bX2_round, jxs, hps, jtsw, jlsw, List.length_cons, List.length_nil, true_and, and_true, true_implies, false_implies, implies_true, not_true_eq_false, not_false_eq_true, false_and, and_false, if_true, if_false, or_true, true_or, or_false, false_or, Classical.not_not, and_self, Int.reduceAdd, Int.reduceMul, Int.reduceSub, Int.reduceNeg, Int.reduceLT, Int.reduceLE, Int.reduceEq, Int.reduceNe, Int.reduceToNat, Nat.reduceAdd, Nat.reduceMul, Nat.reduceSub, Nat.reduceLeDiff, Nat.reduceLT, Nat.reduceEqDiff, reduceIte, Nat.zero_le, Nat.le_refl, Nat.add_zero, Nat.zero_add, twT hT, twV hV]
    (first | refine ⟨fun h9 => (by exfalso; omega), fun _ => ?_⟩ | intro _)
    refine tw_round_3 hT hV (by omega) 260 2 (by omega) (by omega) (by omega) ?_ ?_
    · intro z hz
      rw [hz] at hQ
      exact hQ
    · intro hz y
      rw [hz] at hQ
      exact ih (n + 1) (by omega) (by omega) hQ _
theorem tw_round_1 {s len : Int} (hT : PT T) : ∀ (r : Nat) (k : Int) (v : Int → Int → Int), PV v → RO (v 549) (v 539 28) → 0 ≤ k → k + r = 501 → (0 ≤ v 540 1 ∧ v 540 1 < 100000) →
    (∀ w, (∀ a, a ≠ 549 → a ≠ 550 → w a = v a) → (roL (v 548) (v 539 28) (v 540 1) r k (v 549) (v 550) = none → Q (.inl (some (vI (-1)))) (w, T)) ∧ (∀ st, roL (v 548) (v 539 28) (v 540 1) r k (v 549) (v 550) = some st → Q (.inl (some (vI (ouF st len 501 0)))) (w, T))) →
    ∀ y, jW bX2_round (g, d + 9, 0, 0, Q) 1 [some (vR 539), some (vI s), some (vI len), some (vI k), y] [] (v, T) 0 0 := by
  intro r
  induction r with
  | zero =>
    intro k v hV hR h0 hk h1 hQ y
    have hq := (hQ v (fun _ _ _ => rfl)).2 (v 550) rfl
    refine jW_step ?_
    simp (disch := (first | decide | omega)) only [bX2_round, jxs, hps, jtsw, jlsw, List.length_cons, List.length_nil, true_and, and_true, true_implies, false_implies, implies_true, not_true_eq_false, not_false_eq_true, false_and, and_false, if_true, if_false, or_true, true_or, or_false, false_or, Classical.not_not, and_self, Int.reduceAdd, Int.reduceMul, Int.reduceSub, Int.reduceNeg, Int.reduceLT, Int.reduceLE, Int.reduceEq, Int.reduceNe, Int.reduceToNat, Nat.reduceAdd, Nat.reduceMul, Nat.reduceSub, Nat.reduceLeDiff, Nat.reduceLT, Nat.reduceEqDiff, reduceIte, Nat.zero_le, Nat.le_refl, Nat.add_zero, Nat.zero_add, twT hT, twV hV]
    (try refine ⟨fun _ => ?_, fun h9 => (by exfalso; omega)⟩)
    exact tw_round_2 hT hV 501 0 (by omega) (by omega) hq y
  | succ r ih =>
    intro k v hV hR h0 hk h1 hQ y
    unfold roL at hQ
    refine jW_step ?_
    simp (disch := (first | decide | omega)) only [bX2_round, jxs, hps, jtsw, jlsw, List.length_cons, List.length_nil, true_and, and_true, true_implies, false_implies, implies_true, not_true_eq_false, not_false_eq_true, false_and, and_false, if_true, if_false, or_true, true_or, or_false, false_or, Classical.not_not, and_self, Int.reduceAdd, Int.reduceMul, Int.reduceSub, Int.reduceNeg, Int.reduceLT, Int.reduceLE, Int.reduceEq, Int.reduceNe, Int.reduceToNat, Nat.reduceAdd, Nat.reduceMul, Nat.reduceSub, Nat.reduceLeDiff, Nat.reduceLT, Nat.reduceEqDiff, reduceIte, Nat.zero_le, Nat.le_refl, Nat.add_zero, Nat.zero_add, twT hT, twV hV]
    (first | refine ⟨fun h9 => (by exfalso; omega), fun _ => ?_⟩ | intro _)
    (repeat (refine And.intro (by (first | omega | assumption | trivial | (simp only [inI]; omega) | (simp only [inL]; omega) | (refine jb_01) | (exact jb_in))) ?_))
    refine ⟨0, 0, ⟨by omega, by omega⟩, tw_isCalm hT hV hR ?_⟩
    simp (disch := (first | decide | omega)) only [jxs, hps, jtsw, jlsw, List.length_cons, List.length_nil, true_and, and_true, true_implies, false_implies, implies_true, not_true_eq_false, not_false_eq_true, false_and, and_false, if_true, if_false, or_true, true_or, or_false, false_or, Classical.not_not, and_self, Int.reduceAdd, Int.reduceMul, Int.reduceSub, Int.reduceNeg, Int.reduceLT, Int.reduceLE, Int.reduceEq, Int.reduceNe, Int.reduceToNat, Nat.reduceAdd, Nat.reduceMul, Nat.reduceSub, Nat.reduceLeDiff, Nat.reduceLT, Nat.reduceEqDiff, reduceIte, Nat.zero_le, Nat.le_refl, Nat.add_zero, Nat.zero_add, twT hT, twV hV]
    refine ⟨fun h => ?_, fun h => ?_⟩
    · rw [if_pos h] at hQ
      (repeat (refine And.intro (by (first | omega | assumption | trivial | (simp only [inI]; omega) | (simp only [inL]; omega) | (refine jb_01) | (exact jb_in))) ?_))
      refine ⟨0, 0, ⟨by omega, by omega⟩, tw_rowNumber hT hV hR ?_⟩
      simp (disch := (first | decide | omega)) only [jxs, hps, jtsw, jlsw, List.length_cons, List.length_nil, true_and, and_true, true_implies, false_implies, implies_true, not_true_eq_false, not_false_eq_true, false_and, and_false, if_true, if_false, or_true, true_or, or_false, false_or, Classical.not_not, and_self, Int.reduceAdd, Int.reduceMul, Int.reduceSub, Int.reduceNeg, Int.reduceLT, Int.reduceLE, Int.reduceEq, Int.reduceNe, Int.reduceToNat, Nat.reduceAdd, Nat.reduceMul, Nat.reduceSub, Nat.reduceLeDiff, Nat.reduceLT, Nat.reduceEqDiff, reduceIte, Nat.zero_le, Nat.le_refl, Nat.add_zero, Nat.zero_add, twT hT, twV hV]
      (repeat (refine And.intro (by (first | omega | assumption | trivial | (simp only [inI]; omega) | (simp only [inL]; omega) | (refine jb_01) | (exact jb_in))) ?_))
      refine ⟨0, 0, ⟨by omega, by omega⟩, tw_nightOn hT (by (first | assumption | (repeat (first | assumption | refine PV.A ?_ (by decide) | refine PV.F ?_ ?_ | refine twR.up ?_ (by decide) | refine PV.r ?_)))) ⟨by rw [upA_ne (by omega), upA_ne (by omega)]; exact hR, by omega⟩ ?_⟩
      simp (disch := (first | decide | omega)) only [jxs, hps, jtsw, jlsw, List.length_cons, List.length_nil, true_and, and_true, true_implies, false_implies, implies_true, not_true_eq_false, not_false_eq_true, false_and, and_false, if_true, if_false, or_true, true_or, or_false, false_or, Classical.not_not, and_self, Int.reduceAdd, Int.reduceMul, Int.reduceSub, Int.reduceNeg, Int.reduceLT, Int.reduceLE, Int.reduceEq, Int.reduceNe, Int.reduceToNat, Nat.reduceAdd, Nat.reduceMul, Nat.reduceSub, Nat.reduceLeDiff, Nat.reduceLT, Nat.reduceEqDiff, reduceIte, Nat.zero_le, Nat.le_refl, Nat.add_zero, Nat.zero_add, twT hT, twV hV]
      (repeat (refine And.intro (by (first | omega | assumption | trivial | (simp only [inI]; omega) | (simp only [inL]; omega) | (refine jb_01) | (exact jb_in))) ?_))
      refine ih (k + 1) _ (by (first | assumption | (repeat (first | assumption | refine PV.A ?_ (by decide) | refine PV.F ?_ ?_ | refine twR.up ?_ (by decide) | refine PV.r ?_)))) ?_ (by omega) (by omega) ?_ ?_ y
      · simp (disch := omega) only [upA_eq, upA_ne]; exact nitR_RO (by omega) hR
      · simp (disch := omega) only [upA_ne]; exact h1
      · simp (disch := omega) only [upA_eq, upA_ne]
        intro w hw
        refine hQ w ?_
        intro a a1 a2
        rw [hw a a1 a2]
        simp (disch := omega) only [upA_ne]
    · rw [if_neg h] at hQ
      (repeat (refine And.intro (by (first | omega | assumption | trivial | (simp only [inI]; omega) | (simp only [inL]; omega) | (refine jb_01) | (exact jb_in))) ?_))
      exact (hQ v (fun _ _ _ => rfl)).1 rfl
end TG
