/-! ===== the reference: a row by nights ===== -/
set_option maxRecDepth 100000
/-- whether a row is calm: ch the table, m how many -/
def clmF (ch f : Int → Int) (m : Int) : Nat → Int → Int
  | 0, _ => 1
  | n + 1, p => if m ≤ p + 1 then 1 else if ch (10 * f p + f (p + 1)) = 0 then clmF ch f m n (p + 1) else 0
def clmR (ch f : Int → Int) (m : Int) : Int := clmF ch f m 10 0
def swp (f : Int → Int) (p : Int) : Int → Int := up1 (up1 f p (f (p + 1))) (p + 1) (f p)
def nitL (ch : Int → Int) (m : Int) : Nat → Int → (Int → Int) → (Int → Int)
  | 0, _, f => f
  | n + 1, p, f => if m ≤ p + 1 then f else nitL ch m n (p + 2) (if ch (10 * f p + f (p + 1)) = 0 then f else swp f p)
def nitR (ch : Int → Int) (m kind : Int) (f : Int → Int) : Int → Int := nitL ch m 6 kind f
/-- a row of books -/
def RO (f : Int → Int) (m : Int) : Prop := (0 ≤ m ∧ m ≤ 10) ∧ ∀ i, 0 ≤ i → i < m → 0 ≤ f i ∧ f i < 10
theorem RO.sw {f : Int → Int} {m p : Int} (h : RO f m) (hp : 0 ≤ p ∧ p + 1 < m) : RO (swp f p) m := by
  refine ⟨h.1, fun i h0 h1 => ?_⟩
  unfold swp
  by_cases e : i = p + 1
  · subst e; rw [up1_eq]; exact h.2 p (by omega) (by omega)
  · rw [up1_ne e]
    by_cases e2 : i = p
    · subst e2; rw [up1_eq]; exact h.2 (i + 1) (by omega) (by omega)
    · rw [up1_ne e2]; exact h.2 i h0 h1
theorem nitL_RO {ch : Int → Int} {m : Int} : ∀ (n : Nat) (p : Int) (f : Int → Int), 0 ≤ p → RO f m → RO (nitL ch m n p f) m
  | 0, _, f, _, h => by unfold nitL; exact h
  | n + 1, p, f, hp, h => by
    unfold nitL
    split
    · exact h
    · refine nitL_RO n (p + 2) _ (by omega) ?_
      split
      · exact h
      · exact h.sw ⟨hp, by omega⟩
theorem nitR_RO {ch : Int → Int} {m kind : Int} {f : Int → Int} (hk : 0 ≤ kind) (h : RO f m) : RO (nitR ch m kind f) m := nitL_RO 6 kind f hk h
/-- until it rests: the row, the nights -/
def rstL (ch : Int → Int) (m ni : Int) : Nat → Int → (Int → Int) → (Int → Int) × Int
  | 0, _, f => (f, -1)
  | n + 1, k, f => if clmR ch f m = 0 then rstL ch m ni n (k + 1) (nitR ch m ((ni + k) % 2) f) else (f, k)
def rstR (ch : Int → Int) (m ni : Int) (f : Int → Int) : (Int → Int) × Int := rstL ch m ni 501 0 f
section TG
variable {g : jjG} {d : Nat} {T : jjT} {Q : jjQ}
theorem tw_isCalm_L {v : Int → Int → Int} (hT : PT T) (hV : PV v) (hR : RO (v 549) (v 539 28)) : ∀ (n : Nat) (p : Int), 0 ≤ p → v 539 28 < p + n + 1 → p ≤ 20 →
    Q (.inl (some (vI (clmF (v 548) (v 549) (v 539 28) n p)))) (v, T) → jW bX2_isCalm (g, d, 0, 0, Q) 1 [some (vR 539), some (vI p)] [] (v, T) 0 0 := by
  intro n
  have h1 := hR.1
  induction n with
  | zero =>
    intro p hp hm hp2 hQ
    unfold clmF at hQ
    refine jW_step ?_
    simp (disch := (first | decide | omega)) only [bX2_isCalm, jxs, hps, jtsw, jlsw, List.length_cons, List.length_nil, true_and, and_true, true_implies, false_implies, implies_true, not_true_eq_false, not_false_eq_true, false_and, and_false, if_true, if_false, or_true, true_or, or_false, false_or, Classical.not_not, and_self, Int.reduceAdd, Int.reduceMul, Int.reduceSub, Int.reduceNeg, Int.reduceLT, Int.reduceLE, Int.reduceEq, Int.reduceNe, Int.reduceToNat, Nat.reduceAdd, Nat.reduceMul, Nat.reduceSub, Nat.reduceLeDiff, Nat.reduceLT, Nat.reduceEqDiff, reduceIte, Nat.zero_le, Nat.le_refl, Nat.add_zero, Nat.zero_add, twT hT, twV hV]
    (repeat (refine And.intro (by (first | omega | assumption | trivial | (simp only [inI]; omega) | (simp only [inL]; omega) | (refine jb_01) | (exact jb_in))) ?_))
    (try refine ⟨fun _ => ?_, fun h9 => (by exfalso; omega)⟩)
    (repeat (refine And.intro (by (first | omega | assumption | trivial | (simp only [inI]; omega) | (simp only [inL]; omega) | (refine jb_01) | (exact jb_in))) ?_))
    exact hQ
  | succ n ih =>
    intro p hp hm hp2 hQ
    unfold clmF at hQ
    refine jW_step ?_
    simp (disch := (first | decide | omega)) only [bX2_isCalm, jxs, hps, jtsw, jlsw, List.length_cons, List.length_nil, true_and, and_true, true_implies, false_implies, implies_true, not_true_eq_false, not_false_eq_true, false_and, and_false, if_true, if_false, or_true, true_or, or_false, false_or, Classical.not_not, and_self, Int.reduceAdd, Int.reduceMul, Int.reduceSub, Int.reduceNeg, Int.reduceLT, Int.reduceLE, Int.reduceEq, Int.reduceNe, Int.reduceToNat, Nat.reduceAdd, Nat.reduceMul, Nat.reduceSub, Nat.reduceLeDiff, Nat.reduceLT, Nat.reduceEqDiff, reduceIte, Nat.zero_le, Nat.le_refl, Nat.add_zero, Nat.zero_add, twT hT, twV hV]
    (repeat (refine And.intro (by (first | omega | assumption | trivial | (simp only [inI]; omega) | (simp only [inL]; omega) | (refine jb_01) | (exact jb_in))) ?_))
    refine ⟨fun h => ?_, fun h => ?_⟩
    · rw [if_pos h] at hQ
      (repeat (refine And.intro (by (first | omega | assumption | trivial | (simp only [inI]; omega) | (simp only [inL]; omega) | (refine jb_01) | (exact jb_in))) ?_))
      exact hQ
    · rw [if_neg h] at hQ
      have a := hR.2 p hp (by omega)
      have b := hR.2 (p + 1) (by omega) (by omega)
      (repeat (refine And.intro (by (first | omega | assumption | trivial | (simp only [inI]; omega) | (simp only [inL]; omega) | (refine jb_01) | (exact jb_in))) ?_))
      refine ⟨fun h2 => ?_, fun h2 => ?_⟩
      · rw [if_pos h2] at hQ
        (repeat (refine And.intro (by (first | omega | assumption | trivial | (simp only [inI]; omega) | (simp only [inL]; omega) | (refine jb_01) | (exact jb_in))) ?_))
        exact ih (p + 1) (by omega) (by omega) (by omega) hQ
      · rw [if_neg h2] at hQ
        (repeat (refine And.intro (by (first | omega | assumption | trivial | (simp only [inI]; omega) | (simp only [inL]; omega) | (refine jb_01) | (exact jb_in))) ?_))
        exact hQ
theorem tw_isCalm {v : Int → Int → Int} (hT : PT T) (hV : PV v) (hS : RO (v 549) (v 539 28)) (hQ : Q (.inl (some (vI (clmR (v 548) (v 549) (v 539 28))))) (v, T)) : jmet g (d + 1) 0 0 MX2_isCalm [vR 539] (v, T) Q := by
  have h1 := hS.1
  refine jmet_of (ls := [some (vR 539), none]) sX2_isCalm rfl (by decide +kernel) (by decide) rfl (by simp [jent]) ?_
  refine jW_step ?_
  simp (disch := (first | decide | omega)) only [bX2_isCalm, jxs, hps, jtsw, jlsw, List.length_cons, List.length_nil, true_and, and_true, true_implies, false_implies, implies_true, not_true_eq_false, not_false_eq_true, false_and, and_false, if_true, if_false, or_true, true_or, or_false, false_or, Classical.not_not, and_self, Int.reduceAdd, Int.reduceMul, Int.reduceSub, Int.reduceNeg, Int.reduceLT, Int.reduceLE, Int.reduceEq, Int.reduceNe, Int.reduceToNat, Nat.reduceAdd, Nat.reduceMul, Nat.reduceSub, Nat.reduceLeDiff, Nat.reduceLT, Nat.reduceEqDiff, reduceIte, Nat.zero_le, Nat.le_refl, Nat.add_zero, Nat.zero_add, twT hT, twV hV]
  exact tw_isCalm_L hT hV hS 10 0 (by omega) (by omega) (by omega) hQ
theorem tw_swapRow {v : Int → Int → Int} {p : Int} (hT : PT T) (hV : PV v) (hS : 0 ≤ p ∧ p < 9) (hQ : Q (.inl none) (upA v 549 (swp (v 549) p), T)) : jmet g (d + 1) 0 0 MX2_swapRow [vR 539, vI p] (v, T) Q := by
  refine jmet_of (ls := [some (vR 539), some (vI p), none]) sX2_swapRow rfl (by decide +kernel) (by decide) rfl (by simp [jent]) ?_
  refine jW_step ?_
  simp (disch := (first | decide | omega)) only [bX2_swapRow, jxs, hps, jtsw, jlsw, List.length_cons, List.length_nil, true_and, and_true, true_implies, false_implies, implies_true, not_true_eq_false, not_false_eq_true, false_and, and_false, if_true, if_false, or_true, true_or, or_false, false_or, Classical.not_not, and_self, Int.reduceAdd, Int.reduceMul, Int.reduceSub, Int.reduceNeg, Int.reduceLT, Int.reduceLE, Int.reduceEq, Int.reduceNe, Int.reduceToNat, Nat.reduceAdd, Nat.reduceMul, Nat.reduceSub, Nat.reduceLeDiff, Nat.reduceLT, Nat.reduceEqDiff, reduceIte, Nat.zero_le, Nat.le_refl, Nat.add_zero, Nat.zero_add, twT hT, twV hV]
  (repeat (refine And.intro (by (first | omega | assumption | trivial | (simp only [inI]; omega) | (simp only [inL]; omega) | (refine jb_01) | (exact jb_in))) ?_))
  exact hQ
theorem tw_nightOn_L {kind : Int} (hT : PT T) : ∀ (n : Nat) (p : Int) (v : Int → Int → Int), PV v → RO (v 549) (v 539 28) → 0 ≤ p → v 539 28 < p + 2 * n + 1 → p ≤ 20 →
    Q (.inl none) (upA v 549 (nitL (v 548) (v 539 28) n p (v 549)), T) → jW bX2_nightOn (g, d + 1, 0, 0, Q) 1 [some (vR 539), some (vI kind), some (vI p)] [] (v, T) 0 0 := by
  intro n
  induction n with
  | zero =>
    intro p v hV hR hp hm hp2 hQ
    have h1 := hR.1
    unfold nitL at hQ
    rw [upA_id] at hQ
    refine jW_step ?_
    simp (disch := (first | decide | omega)) only [bX2_nightOn, jxs, hps, jtsw, jlsw, List.length_cons, List.length_nil, true_and, and_true, true_implies, false_implies, implies_true, not_true_eq_false, not_false_eq_true, false_and, and_false, if_true, if_false, or_true, true_or, or_false, false_or, Classical.not_not, and_self, Int.reduceAdd, Int.reduceMul, Int.reduceSub, Int.reduceNeg, Int.reduceLT, Int.reduceLE, Int.reduceEq, Int.reduceNe, Int.reduceToNat, Nat.reduceAdd, Nat.reduceMul, Nat.reduceSub, Nat.reduceLeDiff, Nat.reduceLT, Nat.reduceEqDiff, reduceIte, Nat.zero_le, Nat.le_refl, Nat.add_zero, Nat.zero_add, twT hT, twV hV]
    (repeat (refine And.intro (by (first | omega | assumption | trivial | (simp only [inI]; omega) | (simp only [inL]; omega) | (refine jb_01) | (exact jb_in))) ?_))
    (try refine ⟨fun _ => ?_, fun h9 => (by exfalso; omega)⟩)
    (repeat (refine And.intro (by (first | omega | assumption | trivial | (simp only [inI]; omega) | (simp only [inL]; omega) | (refine jb_01) | (exact jb_in))) ?_))
    exact hQ
  | succ n ih =>
    intro p v hV hR hp hm hp2 hQ
    have h1 := hR.1
    unfold nitL at hQ
    refine jW_step ?_
    simp (disch := (first | decide | omega)) only [bX2_nightOn, jxs, hps, jtsw, jlsw, List.length_cons, List.length_nil, true_and, and_true, true_implies, false_implies, implies_true, not_true_eq_false, not_false_eq_true, false_and, and_false, if_true, if_false, or_true, true_or, or_false, false_or, Classical.not_not, and_self, Int.reduceAdd, Int.reduceMul, Int.reduceSub, Int.reduceNeg, Int.reduceLT, Int.reduceLE, Int.reduceEq, Int.reduceNe, Int.reduceToNat, Nat.reduceAdd, Nat.reduceMul, Nat.reduceSub, Nat.reduceLeDiff, Nat.reduceLT, Nat.reduceEqDiff, reduceIte, Nat.zero_le, Nat.le_refl, Nat.add_zero, Nat.zero_add, twT hT, twV hV]
    (repeat (refine And.intro (by (first | omega | assumption | trivial | (simp only [inI]; omega) | (simp only [inL]; omega) | (refine jb_01) | (exact jb_in))) ?_))
    refine ⟨fun h => ?_, fun h => ?_⟩
    · rw [if_pos h, upA_id] at hQ
      (repeat (refine And.intro (by (first | omega | assumption | trivial | (simp only [inI]; omega) | (simp only [inL]; omega) | (refine jb_01) | (exact jb_in))) ?_))
      exact hQ
    · rw [if_neg h] at hQ
      have a := hR.2 p hp (by omega)
      have b := hR.2 (p + 1) (by omega) (by omega)
      (repeat (refine And.intro (by (first | omega | assumption | trivial | (simp only [inI]; omega) | (simp only [inL]; omega) | (refine jb_01) | (exact jb_in))) ?_))
      refine ⟨fun h2 => ?_, fun h2 => ?_⟩
      · rw [if_pos h2] at hQ
        refine jW_step ?_
        simp (disch := (first | decide | omega)) only [bX2_nightOn, jxs, hps, jtsw, jlsw, List.length_cons, List.length_nil, true_and, and_true, true_implies, false_implies, implies_true, not_true_eq_false, not_false_eq_true, false_and, and_false, if_true, if_false, or_true, true_or, or_false, false_or, Classical.not_not, and_self, Int.reduceAdd, Int.reduceMul, Int.reduceSub, Int.reduceNeg, Int.reduceLT, Int.reduceLE, Int.reduceEq, Int.reduceNe, Int.reduceToNat, Nat.reduceAdd, Nat.reduceMul, Nat.reduceSub, Nat.reduceLeDiff, Nat.reduceLT, Nat.reduceEqDiff, reduceIte, Nat.zero_le, Nat.le_refl, Nat.add_zero, Nat.zero_add, twT hT, twV hV]
        (repeat (refine And.intro (by (first | omega | assumption | trivial | (simp only [inI]; omega) | (simp only [inL]; omega) | (refine jb_01) | (exact jb_in))) ?_))
        exact ih (p + 2) v hV hR (by omega) (by omega) (by omega) hQ
      · rw [if_neg h2] at hQ
        (repeat (refine And.intro (by (first | omega | assumption | trivial | (simp only [inI]; omega) | (simp only [inL]; omega) | (refine jb_01) | (exact jb_in))) ?_))
        refine ⟨0, 0, ⟨by omega, by omega⟩, tw_swapRow hT hV (by omega) ?_⟩
        simp (disch := (first | decide | omega)) only [jxs, hps, jtsw, jlsw, List.length_cons, List.length_nil, true_and, and_true, true_implies, false_implies, implies_true, not_true_eq_false, not_false_eq_true, false_and, and_false, if_true, if_false, or_true, true_or, or_false, false_or, Classical.not_not, and_self, Int.reduceAdd, Int.reduceMul, Int.reduceSub, Int.reduceNeg, Int.reduceLT, Int.reduceLE, Int.reduceEq, Int.reduceNe, Int.reduceToNat, Nat.reduceAdd, Nat.reduceMul, Nat.reduceSub, Nat.reduceLeDiff, Nat.reduceLT, Nat.reduceEqDiff, reduceIte, Nat.zero_le, Nat.le_refl, Nat.add_zero, Nat.zero_add, twT hT, twV hV]
        refine jW_step ?_
        simp (disch := (first | decide | omega)) only [bX2_nightOn, jxs, hps, jtsw, jlsw, List.length_cons, List.length_nil, true_and, and_true, true_implies, false_implies, implies_true, not_true_eq_false, not_false_eq_true, false_and, and_false, if_true, if_false, or_true, true_or, or_false, false_or, Classical.not_not, and_self, Int.reduceAdd, Int.reduceMul, Int.reduceSub, Int.reduceNeg, Int.reduceLT, Int.reduceLE, Int.reduceEq, Int.reduceNe, Int.reduceToNat, Nat.reduceAdd, Nat.reduceMul, Nat.reduceSub, Nat.reduceLeDiff, Nat.reduceLT, Nat.reduceEqDiff, reduceIte, Nat.zero_le, Nat.le_refl, Nat.add_zero, Nat.zero_add, twT hT, twV hV]
        (repeat (refine And.intro (by (first | omega | assumption | trivial | (simp only [inI]; omega) | (simp only [inL]; omega) | (refine jb_01) | (exact jb_in))) ?_))
        refine ih (p + 2) _ (by (first | assumption | (repeat (first | assumption | refine PV.A ?_ (by decide) | refine PV.F ?_ ?_ | refine twR.up ?_ (by decide) | refine PV.r ?_)))) ?_ (by omega) ?_ (by omega) ?_
        · rw [upA_eq, upA_ne (by omega)]; exact hR.sw (by omega)
        · rw [upA_ne (by omega)]; omega
        · rw [upA_eq, upA_ne (by omega), upA_ne (by omega), upA_same]
          exact hQ
theorem tw_nightOn {v : Int → Int → Int} {kind : Int} (hT : PT T) (hV : PV v) (hS : RO (v 549) (v 539 28) ∧ (0 ≤ kind ∧ kind ≤ 1)) (hQ : Q (.inl none) (upA v 549 (nitR (v 548) (v 539 28) kind (v 549)), T)) : jmet g (d + 2) 0 0 MX2_nightOn [vR 539, vI kind] (v, T) Q := by
  have h1 := hS.1.1
  refine jmet_of (ls := [some (vR 539), some (vI kind), none]) sX2_nightOn rfl (by decide +kernel) (by decide) rfl (by simp [jent]) ?_
  refine jW_step ?_
  simp (disch := (first | decide | omega)) only [bX2_nightOn, jxs, hps, jtsw, jlsw, List.length_cons, List.length_nil, true_and, and_true, true_implies, false_implies, implies_true, not_true_eq_false, not_false_eq_true, false_and, and_false, if_true, if_false, or_true, true_or, or_false, false_or, Classical.not_not, and_self, Int.reduceAdd, Int.reduceMul, Int.reduceSub, Int.reduceNeg, Int.reduceLT, Int.reduceLE, Int.reduceEq, Int.reduceNe, Int.reduceToNat, Nat.reduceAdd, Nat.reduceMul, Nat.reduceSub, Nat.reduceLeDiff, Nat.reduceLT, Nat.reduceEqDiff, reduceIte, Nat.zero_le, Nat.le_refl, Nat.add_zero, Nat.zero_add, twT hT, twV hV]
  exact tw_nightOn_L hT 6 kind v hV hS.1 (by omega) (by omega) (by omega) hQ
theorem clmF_01 {ch f : Int → Int} {m : Int} : ∀ (n : Nat) (p : Int), 0 ≤ clmF ch f m n p ∧ clmF ch f m n p ≤ 1
  | 0, _ => by unfold clmF; omega
  | n + 1, p => by
    unfold clmF
    split
    · omega
    · split
      · exact clmF_01 n (p + 1)
      · omega
theorem tw_goToRest_L (hT : PT T) : ∀ (n : Nat) (k : Int) (v : Int → Int → Int), PV v → RO (v 549) (v 539 28) → 0 ≤ k → k + n = 501 → (0 ≤ v 540 1 ∧ v 540 1 < 100000) →
    Q (.inl (some (vI (rstL (v 548) (v 539 28) (v 540 1) n k (v 549)).2))) (upA v 549 (rstL (v 548) (v 539 28) (v 540 1) n k (v 549)).1, T) → jW bX2_goToRest (g, d + 2, 0, 0, Q) 1 [some (vR 539), some (vI k)] [] (v, T) 0 0 := by
  intro n
  induction n with
  | zero =>
    intro k v hV hR hk hn h1 hQ
    unfold rstL at hQ
    dsimp only at hQ
    rw [upA_id] at hQ
    refine jW_step ?_
    simp (disch := (first | decide | omega)) only [bX2_goToRest, jxs, hps, jtsw, jlsw, List.length_cons, List.length_nil, true_and, and_true, true_implies, false_implies, implies_true, not_true_eq_false, not_false_eq_true, false_and, and_false, if_true, if_false, or_true, true_or, or_false, false_or, Classical.not_not, and_self, Int.reduceAdd, Int.reduceMul, Int.reduceSub, Int.reduceNeg, Int.reduceLT, Int.reduceLE, Int.reduceEq, Int.reduceNe, Int.reduceToNat, Nat.reduceAdd, Nat.reduceMul, Nat.reduceSub, Nat.reduceLeDiff, Nat.reduceLT, Nat.reduceEqDiff, reduceIte, Nat.zero_le, Nat.le_refl, Nat.add_zero, Nat.zero_add, twT hT, twV hV]
    (try refine ⟨fun _ => ?_, fun h9 => (by exfalso; omega)⟩)
    (repeat (refine And.intro (by (first | omega | assumption | trivial | (simp only [inI]; omega) | (simp only [inL]; omega) | (refine jb_01) | (exact jb_in))) ?_))
    exact hQ
  | succ n ih =>
    intro k v hV hR hk hn h1 hQ
    unfold rstL at hQ
    refine jW_step ?_
    simp (disch := (first | decide | omega)) only [bX2_goToRest, jxs, hps, jtsw, jlsw, List.length_cons, List.length_nil, true_and, and_true, true_implies, false_implies, implies_true, not_true_eq_false, not_false_eq_true, false_and, and_false, if_true, if_false, or_true, true_or, or_false, false_or, Classical.not_not, and_self, Int.reduceAdd, Int.reduceMul, Int.reduceSub, Int.reduceNeg, Int.reduceLT, Int.reduceLE, Int.reduceEq, Int.reduceNe, Int.reduceToNat, Nat.reduceAdd, Nat.reduceMul, Nat.reduceSub, Nat.reduceLeDiff, Nat.reduceLT, Nat.reduceEqDiff, reduceIte, Nat.zero_le, Nat.le_refl, Nat.add_zero, Nat.zero_add, twT hT, twV hV]
    (first | refine ⟨fun h9 => (by exfalso; omega), fun _ => ?_⟩ | intro _)
    (repeat (refine And.intro (by (first | omega | assumption | trivial | (simp only [inI]; omega) | (simp only [inL]; omega) | (refine jb_01) | (exact jb_in))) ?_))
    refine ⟨0, 0, ⟨by omega, by omega⟩, tw_isCalm hT hV hR ?_⟩
    simp (disch := (first | decide | omega)) only [jxs, hps, jtsw, jlsw, List.length_cons, List.length_nil, true_and, and_true, true_implies, false_implies, implies_true, not_true_eq_false, not_false_eq_true, false_and, and_false, if_true, if_false, or_true, true_or, or_false, false_or, Classical.not_not, and_self, Int.reduceAdd, Int.reduceMul, Int.reduceSub, Int.reduceNeg, Int.reduceLT, Int.reduceLE, Int.reduceEq, Int.reduceNe, Int.reduceToNat, Nat.reduceAdd, Nat.reduceMul, Nat.reduceSub, Nat.reduceLeDiff, Nat.reduceLT, Nat.reduceEqDiff, reduceIte, Nat.zero_le, Nat.le_refl, Nat.add_zero, Nat.zero_add, twT hT, twV hV]
    refine ⟨fun h => ?_, fun h => ?_⟩
    · rw [if_pos h] at hQ
      (repeat (refine And.intro (by (first | omega | assumption | trivial | (simp only [inI]; omega) | (simp only [inL]; omega) | (refine jb_01) | (exact jb_in))) ?_))
      refine ⟨0, 0, ⟨by omega, by omega⟩, tw_nightOn hT hV ⟨hR, by omega⟩ ?_⟩
      simp (disch := (first | decide | omega)) only [jxs, hps, jtsw, jlsw, List.length_cons, List.length_nil, true_and, and_true, true_implies, false_implies, implies_true, not_true_eq_false, not_false_eq_true, false_and, and_false, if_true, if_false, or_true, true_or, or_false, false_or, Classical.not_not, and_self, Int.reduceAdd, Int.reduceMul, Int.reduceSub, Int.reduceNeg, Int.reduceLT, Int.reduceLE, Int.reduceEq, Int.reduceNe, Int.reduceToNat, Nat.reduceAdd, Nat.reduceMul, Nat.reduceSub, Nat.reduceLeDiff, Nat.reduceLT, Nat.reduceEqDiff, reduceIte, Nat.zero_le, Nat.le_refl, Nat.add_zero, Nat.zero_add, twT hT, twV hV]
      (repeat (refine And.intro (by (first | omega | assumption | trivial | (simp only [inI]; omega) | (simp only [inL]; omega) | (refine jb_01) | (exact jb_in))) ?_))
      refine ih (k + 1) _ (by (first | assumption | (repeat (first | assumption | refine PV.A ?_ (by decide) | refine PV.F ?_ ?_ | refine twR.up ?_ (by decide) | refine PV.r ?_)))) ?_ (by omega) (by omega) (by rw [upA_ne (by omega)]; exact h1) ?_
      · rw [upA_eq, upA_ne (by omega)]; exact nitR_RO (by omega) hR
      · rw [upA_eq, upA_ne (by omega), upA_ne (by omega), upA_ne (by omega), upA_same]
        exact hQ
    · rw [if_neg h] at hQ
      dsimp only at hQ
      rw [upA_id] at hQ
      (repeat (refine And.intro (by (first | omega | assumption | trivial | (simp only [inI]; omega) | (simp only [inL]; omega) | (refine jb_01) | (exact jb_in))) ?_))
      exact hQ
theorem tw_goToRest {v : Int → Int → Int} (hT : PT T) (hV : PV v) (hS : RO (v 549) (v 539 28) ∧ (0 ≤ v 540 1 ∧ v 540 1 < 100000)) (hQ : Q (.inl (some (vI (rstR (v 548) (v 539 28) (v 540 1) (v 549)).2))) (upA v 549 (rstR (v 548) (v 539 28) (v 540 1) (v 549)).1, T)) : jmet g (d + 3) 0 0 MX2_goToRest [vR 539] (v, T) Q := by
  refine jmet_of (ls := [some (vR 539), none]) sX2_goToRest rfl (by decide +kernel) (by decide) rfl (by simp [jent]) ?_
  refine jW_step ?_
  simp (disch := (first | decide | omega)) only [bX2_goToRest, jxs, hps, jtsw, jlsw, List.length_cons, List.length_nil, true_and, and_true, true_implies, false_implies, implies_true, not_true_eq_false, not_false_eq_true, false_and, and_false, if_true, if_false, or_true, true_or, or_false, false_or, Classical.not_not, and_self, Int.reduceAdd, Int.reduceMul, Int.reduceSub, Int.reduceNeg, Int.reduceLT, Int.reduceLE, Int.reduceEq, Int.reduceNe, Int.reduceToNat, Nat.reduceAdd, Nat.reduceMul, Nat.reduceSub, Nat.reduceLeDiff, Nat.reduceLT, Nat.reduceEqDiff, reduceIte, Nat.zero_le, Nat.le_refl, Nat.add_zero, Nat.zero_add, twT hT, twV hV]
  exact tw_goToRest_L hT 501 0 v hV hS.1 (by omega) (by omega) hS.2 hQ
end TG
