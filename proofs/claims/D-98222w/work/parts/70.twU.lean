/-! ===== the reference: the game ===== -/
set_option maxRecDepth 100000
/-- what a move (none: passing) makes of an order -/
def mvA (ld : Int → Int) (m n mv kind : Int) : Int := ld (2 * (if mv = -1 then n else ndA m n mv) + kind)
def boF (ld wo : Int → Int) (m n kind le : Int) : Nat → Int → Int → Int
  | 0, _, b => b
  | r + 1, p, b => boF ld wo m n kind le r (p + 1) (if le = 0 then (if b < wo (mvA ld m n p kind) then wo (mvA ld m n p kind) else b) else (if wo (mvA ld m n p kind) < b then wo (mvA ld m n p kind) else b))
def boA (ld wo : Int → Int) (m n kind le : Int) : Int := boF ld wo m n kind le (m - 1).toNat 0 (wo (mvA ld m n (-1) kind))
/-- the place of a book in an order -/
def pbF (el w : Int → Int) (b : Int) : Nat → Int → Int → Int
  | 0, _, x => x
  | r + 1, p, x => pbF el w b r (p + 1) (if el (w p) = b then p else x)
theorem mvA_bd {ld : Int → Int} {m n mv kind : Int} (hm : 0 ≤ m ∧ m ≤ 6) (hL : LD ld (fac m)) (hn : 0 ≤ n ∧ n < fac m) (hv : mv = -1 ∨ (0 ≤ mv ∧ mv + 1 < m)) (hk : 0 ≤ kind ∧ kind ≤ 1) : 0 ≤ mvA ld m n mv kind ∧ mvA ld m n mv kind < fac m := by
  unfold mvA
  refine hL.2 _ ?_ ?_
  · by_cases h : mv = -1
    · rw [if_pos h]; omega
    · rw [if_neg h]; have := ndA_bd hm hn (hv.resolve_left h); omega
  · by_cases h : mv = -1
    · rw [if_pos h]; omega
    · rw [if_neg h]; have := ndA_bd hm hn (hv.resolve_left h); omega
section TG
variable {g : jjG} {d : Nat} {T : jjT} {Q : jjQ}
theorem tw_moved {v : Int → Int → Int} {m n mv kind : Int} {el c : Int → Int} (hT : PT T) (hV : PV v) (hS : LAID v m el c ∧ (0 ≤ m ∧ m ≤ 6) ∧ (0 ≤ n ∧ n < fac m) ∧ (mv = -1 ∨ (0 ≤ mv ∧ mv + 1 < m)) ∧ (0 ≤ kind ∧ kind ≤ 1)) (hQ : ∀ u, (∀ a, a ≠ 555 → u a = v a) → Q (.inl (some (vI (mvA (ldJ c m) m n mv kind)))) (u, T)) : jmet g (d + 3) 0 0 MX2_moved [vR 539, vI n, vI mv, vI kind] (v, T) Q := by
  obtain ⟨hL, hm, hn, hv, hk⟩ := hS
  have hf := fac_bd hm.2
  have ld := hL.2.2.2.2.ld
  refine jmet_of (ls := [some (vR 539), some (vI n), some (vI mv), some (vI kind)]) sX2_moved rfl (by decide +kernel) (by decide) rfl (by simp [jent]) ?_
  unfold mvA at hQ
  refine jW_step ?_
  simp (disch := (first | decide | omega)) only [bX2_moved, jxs, hps, jtsw, jlsw, List.length_cons, List.length_nil, true_and, and_true, true_implies, false_implies, implies_true, not_true_eq_false, not_false_eq_true, false_and, and_false, if_true, if_false, or_true, true_or, or_false, false_or, Classical.not_not, and_self, Int.reduceAdd, Int.reduceMul, Int.reduceSub, Int.reduceNeg, Int.reduceLT, Int.reduceLE, Int.reduceEq, Int.reduceNe, Int.reduceToNat, Nat.reduceAdd, Nat.reduceMul, Nat.reduceSub, Nat.reduceLeDiff, Nat.reduceLT, Nat.reduceEqDiff, reduceIte, Nat.zero_le, Nat.le_refl, Nat.add_zero, Nat.zero_add, twT hT, twV hV]
  refine ⟨fun h => ?_, fun h => ?_⟩
  · rw [if_neg h] at hQ
    have hv2 := hv.resolve_left h
    have nb := ndA_bd hm hn hv2
    refine ⟨0, 0, ⟨by omega, by omega⟩, tw_nudged hT hV ⟨hL.1, hL.2.2.2.1, hm, hn, hv2⟩ ?_⟩
    intro f
    generalize ndA m n mv = t at *
    have hVu : PV (upA v 555 f) := by (first | assumption | (repeat (first | assumption | refine PV.A ?_ (by decide) | refine PV.F ?_ ?_ | refine twR.up ?_ (by decide) | refine PV.r ?_)))
    have hV := hVu
    have e : (upA v 555 f) 552 = v 552 := upA_ne (by omega)
    have uo : ∀ a, a ≠ 555 → (upA v 555 f) a = v a := fun a ha => upA_ne ha
    generalize upA v 555 f = u at *
    simp (disch := (first | decide | omega)) only [jxs, hps, jtsw, jlsw, List.length_cons, List.length_nil, true_and, and_true, true_implies, false_implies, implies_true, not_true_eq_false, not_false_eq_true, false_and, and_false, if_true, if_false, or_true, true_or, or_false, false_or, Classical.not_not, and_self, Int.reduceAdd, Int.reduceMul, Int.reduceSub, Int.reduceNeg, Int.reduceLT, Int.reduceLE, Int.reduceEq, Int.reduceNe, Int.reduceToNat, Nat.reduceAdd, Nat.reduceMul, Nat.reduceSub, Nat.reduceLeDiff, Nat.reduceLT, Nat.reduceEqDiff, reduceIte, Nat.zero_le, Nat.le_refl, Nat.add_zero, Nat.zero_add, twT hT, twV hV]
    refine jW_step ?_
    simp (disch := (first | decide | omega)) only [bX2_moved, jxs, hps, jtsw, jlsw, List.length_cons, List.length_nil, true_and, and_true, true_implies, false_implies, implies_true, not_true_eq_false, not_false_eq_true, false_and, and_false, if_true, if_false, or_true, true_or, or_false, false_or, Classical.not_not, and_self, Int.reduceAdd, Int.reduceMul, Int.reduceSub, Int.reduceNeg, Int.reduceLT, Int.reduceLE, Int.reduceEq, Int.reduceNe, Int.reduceToNat, Nat.reduceAdd, Nat.reduceMul, Nat.reduceSub, Nat.reduceLeDiff, Nat.reduceLT, Nat.reduceEqDiff, reduceIte, Nat.zero_le, Nat.le_refl, Nat.add_zero, Nat.zero_add, twT hT, twV hV]
    (repeat (refine And.intro (by (first | omega | assumption | trivial | (simp only [inI]; omega) | (simp only [inL]; omega) | (refine jb_01) | (exact jb_in))) ?_))
    rw [e, ld (2 * t + kind) (by omega) (by omega)]
    exact hQ u uo
  · rw [if_pos (by omega)] at hQ
    refine jW_step ?_
    simp (disch := (first | decide | omega)) only [bX2_moved, jxs, hps, jtsw, jlsw, List.length_cons, List.length_nil, true_and, and_true, true_implies, false_implies, implies_true, not_true_eq_false, not_false_eq_true, false_and, and_false, if_true, if_false, or_true, true_or, or_false, false_or, Classical.not_not, and_self, Int.reduceAdd, Int.reduceMul, Int.reduceSub, Int.reduceNeg, Int.reduceLT, Int.reduceLE, Int.reduceEq, Int.reduceNe, Int.reduceToNat, Nat.reduceAdd, Nat.reduceMul, Nat.reduceSub, Nat.reduceLeDiff, Nat.reduceLT, Nat.reduceEqDiff, reduceIte, Nat.zero_le, Nat.le_refl, Nat.add_zero, Nat.zero_add, twT hT, twV hV]
    (repeat (refine And.intro (by (first | omega | assumption | trivial | (simp only [inI]; omega) | (simp only [inL]; omega) | (refine jb_01) | (exact jb_in))) ?_))
    rw [ld (2 * n + kind) (by omega) (by omega)]
    exact hQ v (fun _ _ => rfl)
theorem tw_bestOf_1 {m n kind le : Int} {el c wo : Int → Int} (hT : PT T) (hm : 0 ≤ m ∧ m ≤ 6) (hn : 0 ≤ n ∧ n < fac m) (hk : 0 ≤ kind ∧ kind ≤ 1) : ∀ (r : Nat) (p b : Int) (v : Int → Int → Int), PV v → LAID v m el c → EQm (fac m) (v 558) wo → 0 ≤ p → (m = p + 1 + r ∨ (m ≤ p + 1 ∧ r = 0)) → p ≤ 10 →
    (∀ u, (∀ a, a ≠ 555 → u a = v a) → Q (.inl (some (vI (boF (ldJ c m) wo m n kind le r p b)))) (u, T)) →
    jW bX2_bestOf (g, d + 3, 0, 0, Q) 1 [some (vR 539), some (vI n), some (vI kind), some (vI le), some (vI b), some (vI p), none] [] (v, T) 0 0 := by
  have hf := fac_bd hm.2
  have LDj := ldJ_LD (c := c) hm
  intro r
  induction r with
  | zero =>
    intro p b v hV hL hw hp hr hp2 hQ
    have h34 := hL.1
    unfold boF at hQ
    refine jW_step ?_
    simp (disch := (first | decide | omega)) only [bX2_bestOf, jxs, hps, jtsw, jlsw, List.length_cons, List.length_nil, true_and, and_true, true_implies, false_implies, implies_true, not_true_eq_false, not_false_eq_true, false_and, and_false, if_true, if_false, or_true, true_or, or_false, false_or, Classical.not_not, and_self, Int.reduceAdd, Int.reduceMul, Int.reduceSub, Int.reduceNeg, Int.reduceLT, Int.reduceLE, Int.reduceEq, Int.reduceNe, Int.reduceToNat, Nat.reduceAdd, Nat.reduceMul, Nat.reduceSub, Nat.reduceLeDiff, Nat.reduceLT, Nat.reduceEqDiff, reduceIte, Nat.zero_le, Nat.le_refl, Nat.add_zero, Nat.zero_add, twT hT, twV hV, h34]
    (repeat (refine And.intro (by (first | omega | assumption | trivial | (simp only [inI]; omega) | (simp only [inL]; omega) | (refine jb_01) | (exact jb_in))) ?_))
    (try refine ⟨fun _ => ?_, fun h9 => (by exfalso; omega)⟩)
    (repeat (refine And.intro (by (first | omega | assumption | trivial | (simp only [inI]; omega) | (simp only [inL]; omega) | (refine jb_01) | (exact jb_in))) ?_))
    exact hQ v (fun _ _ => rfl)
  | succ r ih =>
    intro p b v hV hL hw hp hr hp2 hQ
    have h34 := hL.1
    unfold boF at hQ
    have mb := mvA_bd (kind := kind) (mv := p) hm LDj hn (Or.inr ⟨hp, by omega⟩) hk
    have k3 : ∀ u b' l6, (∀ a, a ≠ 555 → u a = v a) → (∀ y, (∀ a, a ≠ 555 → y a = v a) → Q (.inl (some (vI (boF (ldJ c m) wo m n kind le r (p + 1) b')))) (y, T)) → jW bX2_bestOf (g, d + 3, 0, 0, Q) 3 [some (vR 539), some (vI n), some (vI kind), some (vI le), some (vI b'), some (vI p), some (vI l6)] [] (u, T) 0 0 := by
      intro u b' l6 hu hq
      have hVu : PV u := hV.fr (fun a ha => hu a (fun e => by subst e; revert ha; decide))
      have hV := hVu
      refine jW_step ?_
      simp (disch := (first | decide | omega)) only [bX2_bestOf, jxs, hps, jtsw, jlsw, List.length_cons, List.length_nil, true_and, and_true, true_implies, false_implies, implies_true, not_true_eq_false, not_false_eq_true, false_and, and_false, if_true, if_false, or_true, true_or, or_false, false_or, Classical.not_not, and_self, Int.reduceAdd, Int.reduceMul, Int.reduceSub, Int.reduceNeg, Int.reduceLT, Int.reduceLE, Int.reduceEq, Int.reduceNe, Int.reduceToNat, Nat.reduceAdd, Nat.reduceMul, Nat.reduceSub, Nat.reduceLeDiff, Nat.reduceLT, Nat.reduceEqDiff, reduceIte, Nat.zero_le, Nat.le_refl, Nat.add_zero, Nat.zero_add, twT hT, twV hV]
      (repeat (refine And.intro (by (first | omega | assumption | trivial | (simp only [inI]; omega) | (simp only [inL]; omega) | (refine jb_01) | (exact jb_in))) ?_))
      refine jW_sub (ls' := [some (vR 539), some (vI n), some (vI kind), some (vI le), some (vI b'), some (vI (p + 1)), none]) (by simp [jsub]) ?_
      refine ih (p + 1) b' u hVu (hL.fr (hu 539 (by omega)) (hu 551 (by omega)) (hu 552 (by omega)) (hu 553 (by omega)) (hu 554 (by omega))) (by rw [hu 558 (by omega)]; exact hw) (by omega) (by omega) (by omega) ?_
      intro y hy
      exact hq y (fun a ha => (hy a ha).trans (hu a ha))
    refine jW_step ?_
    simp (disch := (first | decide | omega)) only [bX2_bestOf, jxs, hps, jtsw, jlsw, List.length_cons, List.length_nil, true_and, and_true, true_implies, false_implies, implies_true, not_true_eq_false, not_false_eq_true, false_and, and_false, if_true, if_false, or_true, true_or, or_false, false_or, Classical.not_not, and_self, Int.reduceAdd, Int.reduceMul, Int.reduceSub, Int.reduceNeg, Int.reduceLT, Int.reduceLE, Int.reduceEq, Int.reduceNe, Int.reduceToNat, Nat.reduceAdd, Nat.reduceMul, Nat.reduceSub, Nat.reduceLeDiff, Nat.reduceLT, Nat.reduceEqDiff, reduceIte, Nat.zero_le, Nat.le_refl, Nat.add_zero, Nat.zero_add, twT hT, twV hV, h34]
    (repeat (refine And.intro (by (first | omega | assumption | trivial | (simp only [inI]; omega) | (simp only [inL]; omega) | (refine jb_01) | (exact jb_in))) ?_))
    (first | refine ⟨fun h9 => (by exfalso; omega), fun _ => ?_⟩ | intro _)
    refine ⟨0, 0, ⟨by omega, by omega⟩, tw_moved hT hV ⟨hL, hm, hn, Or.inr ⟨hp, by omega⟩, hk⟩ ?_⟩
    intro u hu
    have hVu : PV u := hV.fr (fun a ha => hu a (fun e => by subst e; revert ha; decide))
    generalize mvA (ldJ c m) m n p kind = t at *
    have e1 : u 558 t = wo t := by rw [hu 558 (by omega)]; exact hw t mb.1 mb.2
    have hV := hVu
    have k2 : (∀ y, (∀ a, a ≠ 555 → y a = v a) → Q (.inl (some (vI (boF (ldJ c m) wo m n kind le r (p + 1) (wo t))))) (y, T)) → jW bX2_bestOf (g, d + 3, 0, 0, Q) 2 [some (vR 539), some (vI n), some (vI kind), some (vI le), some (vI b), some (vI p), some (vI (wo t))] [] (u, T) 0 0 := by
      intro hq
      refine jW_step ?_
      simp (disch := (first | decide | omega)) only [bX2_bestOf, jxs, hps, jtsw, jlsw, List.length_cons, List.length_nil, true_and, and_true, true_implies, false_implies, implies_true, not_true_eq_false, not_false_eq_true, false_and, and_false, if_true, if_false, or_true, true_or, or_false, false_or, Classical.not_not, and_self, Int.reduceAdd, Int.reduceMul, Int.reduceSub, Int.reduceNeg, Int.reduceLT, Int.reduceLE, Int.reduceEq, Int.reduceNe, Int.reduceToNat, Nat.reduceAdd, Nat.reduceMul, Nat.reduceSub, Nat.reduceLeDiff, Nat.reduceLT, Nat.reduceEqDiff, reduceIte, Nat.zero_le, Nat.le_refl, Nat.add_zero, Nat.zero_add, twT hT, twV hV]
      exact k3 u (wo t) _ hu hq
    simp (disch := (first | decide | omega)) only [jxs, hps, jtsw, jlsw, List.length_cons, List.length_nil, true_and, and_true, true_implies, false_implies, implies_true, not_true_eq_false, not_false_eq_true, false_and, and_false, if_true, if_false, or_true, true_or, or_false, false_or, Classical.not_not, and_self, Int.reduceAdd, Int.reduceMul, Int.reduceSub, Int.reduceNeg, Int.reduceLT, Int.reduceLE, Int.reduceEq, Int.reduceNe, Int.reduceToNat, Nat.reduceAdd, Nat.reduceMul, Nat.reduceSub, Nat.reduceLeDiff, Nat.reduceLT, Nat.reduceEqDiff, reduceIte, Nat.zero_le, Nat.le_refl, Nat.add_zero, Nat.zero_add, twT hT, twV hV]
    (repeat (refine And.intro (by (first | omega | assumption | trivial | (simp only [inI]; omega) | (simp only [inL]; omega) | (refine jb_01) | (exact jb_in))) ?_))
    rw [e1]
    refine ⟨fun h => ?_, fun h => ?_⟩
    · rw [if_pos h] at hQ
      refine ⟨fun h2 => ?_, fun h2 => ?_⟩
      · rw [if_neg (by omega)] at hQ
        exact k3 u b _ hu hQ
      · rw [if_pos (by omega)] at hQ
        exact k2 hQ
    · rw [if_neg h] at hQ
      refine ⟨fun h2 => ?_, fun h2 => ?_⟩
      · rw [if_neg (by omega)] at hQ
        exact k3 u b _ hu hQ
      · rw [if_pos (by omega)] at hQ
        exact k2 hQ
theorem tw_bestOf {v : Int → Int → Int} {m n kind le : Int} {el c wo : Int → Int} (hT : PT T) (hV : PV v) (hS : LAID v m el c ∧ (0 ≤ m ∧ m ≤ 6) ∧ (0 ≤ n ∧ n < fac m) ∧ (0 ≤ kind ∧ kind ≤ 1) ∧ EQm (fac m) (v 558) wo) (hQ : ∀ u, (∀ a, a ≠ 555 → u a = v a) → Q (.inl (some (vI (boA (ldJ c m) wo m n kind le)))) (u, T)) : jmet g (d + 4) 0 0 MX2_bestOf [vR 539, vI n, vI kind, vI le] (v, T) Q := by
  obtain ⟨hL, hm, hn, hk, hw⟩ := hS
  have hf := fac_bd hm.2
  have LDj := ldJ_LD (c := c) hm
  have mb := mvA_bd (kind := kind) (mv := -1) hm LDj hn (Or.inl rfl) hk
  unfold boA at hQ
  refine jmet_of (ls := [some (vR 539), some (vI n), some (vI kind), some (vI le), none, none, none]) sX2_bestOf rfl (by decide +kernel) (by decide) rfl (by simp [jent]) ?_
  refine jW_step ?_
  simp (disch := (first | decide | omega)) only [bX2_bestOf, jxs, hps, jtsw, jlsw, List.length_cons, List.length_nil, true_and, and_true, true_implies, false_implies, implies_true, not_true_eq_false, not_false_eq_true, false_and, and_false, if_true, if_false, or_true, true_or, or_false, false_or, Classical.not_not, and_self, Int.reduceAdd, Int.reduceMul, Int.reduceSub, Int.reduceNeg, Int.reduceLT, Int.reduceLE, Int.reduceEq, Int.reduceNe, Int.reduceToNat, Nat.reduceAdd, Nat.reduceMul, Nat.reduceSub, Nat.reduceLeDiff, Nat.reduceLT, Nat.reduceEqDiff, reduceIte, Nat.zero_le, Nat.le_refl, Nat.add_zero, Nat.zero_add, twT hT, twV hV]
  refine ⟨0, 0, ⟨by omega, by omega⟩, tw_moved hT hV ⟨hL, hm, hn, Or.inl rfl, hk⟩ ?_⟩
  intro u hu
  have hVu : PV u := hV.fr (fun a ha => hu a (fun e => by subst e; revert ha; decide))
  generalize mvA (ldJ c m) m n (-1) kind = t at *
  have e1 : u 558 t = wo t := by rw [hu 558 (by omega)]; exact hw t mb.1 mb.2
  have hV := hVu
  simp (disch := (first | decide | omega)) only [jxs, hps, jtsw, jlsw, List.length_cons, List.length_nil, true_and, and_true, true_implies, false_implies, implies_true, not_true_eq_false, not_false_eq_true, false_and, and_false, if_true, if_false, or_true, true_or, or_false, false_or, Classical.not_not, and_self, Int.reduceAdd, Int.reduceMul, Int.reduceSub, Int.reduceNeg, Int.reduceLT, Int.reduceLE, Int.reduceEq, Int.reduceNe, Int.reduceToNat, Nat.reduceAdd, Nat.reduceMul, Nat.reduceSub, Nat.reduceLeDiff, Nat.reduceLT, Nat.reduceEqDiff, reduceIte, Nat.zero_le, Nat.le_refl, Nat.add_zero, Nat.zero_add, twT hT, twV hV]
  (repeat (refine And.intro (by (first | omega | assumption | trivial | (simp only [inI]; omega) | (simp only [inL]; omega) | (refine jb_01) | (exact jb_in))) ?_))
  rw [e1]
  refine tw_bestOf_1 (wo := wo) hT hm hn hk (m - 1).toNat 0 (wo t) u hVu (hL.fr (hu 539 (by omega)) (hu 551 (by omega)) (hu 552 (by omega)) (hu 553 (by omega)) (hu 554 (by omega))) (by rw [hu 558 (by omega)]; exact hw) (by omega) (by omega) (by omega) ?_
  intro y hy
  exact hQ y (fun a ha => (hy a ha).trans (hu a ha))
end TG
