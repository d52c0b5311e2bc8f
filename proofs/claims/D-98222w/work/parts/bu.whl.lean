/-! ===== the reference: whole; whether a sum goes on ===== -/
set_option maxRecDepth 100000
abbrev goM (st : Int) (P : List Int) : Prop := st = 43 ∨ st = 45 ∨ st = 42 ∨ st = 47 ∨ (st = 41 ∧ 40 ∈ P)
def cmT (st : Int) : Int := if st = 60 then 10 else if st = 303 then 11 else if st = 62 then 12 else if st = 304 then 13 else if st = 61 then 14 else if st = 35 then 15 else -1
section TG
variable {g : jjG} {d : Nat} {T : jjT} {Q : jjQ} {B : Int → Int} {n k : Nat} {t : Int}
theorem tw_whole_1 : ∀ (P : List Int) (acc : List (Int × Int)) (o : Int) (v : Int → Int → Int), PT T → PV v → MS v B n k t P acc o 1 → acc.length + P.length ≤ 304 → ((P.length : Int) - 1000 ≤ o ∧ o ≤ 1000) → (∀ w, XS t v w → MS w B n k t (whM P acc o).1 (whM P acc o).2.1 (whM P acc o).2.2 1 → Q (.inl none) (w, T)) → jW bX2_whole (g, d + 1, 0, 0, Q) 1 [some (vR 539)] [] (v, T) 0 0
  | [], acc, o, v, hT, hV, hS, hl, ho, hQ => by
    have m1 : v 539 17 = 0 := hS.2.2.1.1
    refine jW_step ?_
    simp (disch := (first | decide | omega)) only [bX2_whole, jxs, hps, jtsw, jlsw, List.length_cons, List.length_nil, true_and, and_true, true_implies, false_implies, implies_true, not_true_eq_false, not_false_eq_true, false_and, and_false, if_true, if_false, or_true, true_or, or_false, false_or, Classical.not_not, and_self, Int.reduceAdd, Int.reduceMul, Int.reduceSub, Int.reduceNeg, Int.reduceLT, Int.reduceLE, Int.reduceEq, Int.reduceNe, Int.reduceToNat, Nat.reduceAdd, Nat.reduceMul, Nat.reduceSub, Nat.reduceLeDiff, Nat.reduceLT, Nat.reduceEqDiff, reduceIte, Nat.zero_le, Nat.le_refl, Nat.add_zero, Nat.zero_add, twT hT, twV hV, m1]
    refine jW_step ?_
    simp (disch := (first | decide | omega)) only [bX2_whole, jxs, hps, jtsw, jlsw, List.length_cons, List.length_nil, true_and, and_true, true_implies, false_implies, implies_true, not_true_eq_false, not_false_eq_true, false_and, and_false, if_true, if_false, or_true, true_or, or_false, false_or, Classical.not_not, and_self, Int.reduceAdd, Int.reduceMul, Int.reduceSub, Int.reduceNeg, Int.reduceLT, Int.reduceLE, Int.reduceEq, Int.reduceNe, Int.reduceToNat, Nat.reduceAdd, Nat.reduceMul, Nat.reduceSub, Nat.reduceLeDiff, Nat.reduceLT, Nat.reduceEqDiff, reduceIte, Nat.zero_le, Nat.le_refl, Nat.add_zero, Nat.zero_add, twT hT, twV hV]
    (repeat (refine And.intro (by (first | omega | assumption | trivial | (simp only [inI]; omega) | (simp only [inL]; omega) | (refine jb_01) | (exact jb_in))) ?_))
    exact hQ v XS.rf hS
  | x :: P, acc, o, v, hT, hV, hS, hl, ho, hQ => by
    have m0 := hS.2.2.1.1
    have m2 := hS.2.2.1.2.1
    rw [List.length_cons] at m0 m2 hl ho
    have m1 : v 539 17 = (P.length : Int) + 1 := by rw [m0]; omega
    have hx : v 544 ((P.length : Int) + 1 - 1) = x := by rw [show (P.length : Int) + 1 - 1 = P.length by omega]; exact hS.2.2.1.2.2.1
    have hx2 : v 544 (P.length : Int) = x := hS.2.2.1.2.2.1
    have eo : v 539 18 = o := hS.2.2.2.1
    refine jW_step ?_
    simp (disch := (first | decide | omega)) only [bX2_whole, jxs, hps, jtsw, jlsw, List.length_cons, List.length_nil, true_and, and_true, true_implies, false_implies, implies_true, not_true_eq_false, not_false_eq_true, false_and, and_false, if_true, if_false, or_true, true_or, or_false, false_or, Classical.not_not, and_self, Int.reduceAdd, Int.reduceMul, Int.reduceSub, Int.reduceNeg, Int.reduceLT, Int.reduceLE, Int.reduceEq, Int.reduceNe, Int.reduceToNat, Nat.reduceAdd, Nat.reduceMul, Nat.reduceSub, Nat.reduceLeDiff, Nat.reduceLT, Nat.reduceEqDiff, reduceIte, Nat.zero_le, Nat.le_refl, Nat.add_zero, Nat.zero_add, twT hT, twV hV, m1, hx]
    (first | refine ⟨fun h9 => (by exfalso; omega), fun _ => ?_⟩ | intro _)
    (repeat (refine And.intro (by (first | omega | assumption | trivial | (simp only [inI]; omega) | (simp only [inL]; omega) | (refine jb_01) | (exact jb_in))) ?_))
    refine ⟨fun h1 => ?_, fun h1 => ?_⟩
    · unfold whM at hQ
      rw [if_neg h1] at hQ
      refine jW_step ?_
      simp (disch := (first | decide | omega)) only [bX2_whole, jxs, hps, jtsw, jlsw, List.length_cons, List.length_nil, true_and, and_true, true_implies, false_implies, implies_true, not_true_eq_false, not_false_eq_true, false_and, and_false, if_true, if_false, or_true, true_or, or_false, false_or, Classical.not_not, and_self, Int.reduceAdd, Int.reduceMul, Int.reduceSub, Int.reduceNeg, Int.reduceLT, Int.reduceLE, Int.reduceEq, Int.reduceNe, Int.reduceToNat, Nat.reduceAdd, Nat.reduceMul, Nat.reduceSub, Nat.reduceLeDiff, Nat.reduceLT, Nat.reduceEqDiff, reduceIte, Nat.zero_le, Nat.le_refl, Nat.add_zero, Nat.zero_add, twT hT, twV hV]
      (repeat (refine And.intro (by (first | omega | assumption | trivial | (simp only [inI]; omega) | (simp only [inL]; omega) | (refine jb_01) | (exact jb_in))) ?_))
      exact hQ v XS.rf hS
    · unfold whM at hQ
      rw [if_pos (by omega)] at hQ
      have pp := hS.pop (w := upA v 539 (up1 (up1 (v 539) 17 ((P.length : Int) + 1 - 1)) 18 (o - 1))) (o' := o - 1) (fun a ha => upA_ne ha) (by rw [upA_eq, up1_ne (by decide), up1_eq]; omega) (by rw [upA_eq, up1_eq]) (fun j j1 j2 => by rw [upA_eq, up1_ne j2, up1_ne j1])
      simp (disch := (first | decide | omega)) only [jxs, hps, jtsw, jlsw, List.length_cons, List.length_nil, true_and, and_true, true_implies, false_implies, implies_true, not_true_eq_false, not_false_eq_true, false_and, and_false, if_true, if_false, or_true, true_or, or_false, false_or, Classical.not_not, and_self, Int.reduceAdd, Int.reduceMul, Int.reduceSub, Int.reduceNeg, Int.reduceLT, Int.reduceLE, Int.reduceEq, Int.reduceNe, Int.reduceToNat, Nat.reduceAdd, Nat.reduceMul, Nat.reduceSub, Nat.reduceLeDiff, Nat.reduceLT, Nat.reduceEqDiff, reduceIte, Nat.zero_le, Nat.le_refl, Nat.add_zero, Nat.zero_add, twT hT, twV hV, eo]
      (repeat (refine And.intro (by (first | omega | assumption | trivial | (simp only [inI]; omega) | (simp only [inL]; omega) | (refine jb_01) | (exact jb_in))) ?_))
      refine ⟨0, 0, ⟨by omega, by omega⟩, tw_emit (d := d) hT (pp.1.pv hV) pp.2 (by omega) ?_⟩
      intro w w1 w2
      simp (disch := (first | decide | omega)) only [jxs, hps, jtsw, jlsw, List.length_cons, List.length_nil, true_and, and_true, true_implies, false_implies, implies_true, not_true_eq_false, not_false_eq_true, false_and, and_false, if_true, if_false, or_true, true_or, or_false, false_or, Classical.not_not, and_self, Int.reduceAdd, Int.reduceMul, Int.reduceSub, Int.reduceNeg, Int.reduceLT, Int.reduceLE, Int.reduceEq, Int.reduceNe, Int.reduceToNat, Nat.reduceAdd, Nat.reduceMul, Nat.reduceSub, Nat.reduceLeDiff, Nat.reduceLT, Nat.reduceEqDiff, reduceIte, Nat.zero_le, Nat.le_refl, Nat.add_zero, Nat.zero_add, twT hT, twV hV]
      exact tw_whole_1 P (acc ++ [(2, 0)]) (o - 1) w hT (w1.pv (pp.1.pv hV)) w2 (by rw [List.length_append]; simp only [List.length_cons, List.length_nil]; omega) (by omega) (fun u u1 u2 => hQ u ((pp.1.tr w1).tr u1) u2)
theorem tw_whole {o z : Int} {P : List Int} {acc : List (Int × Int)} {v : Int → Int → Int} (hT : PT T) (hV : PV v) (hS : MS v B n k t P acc o z) (hl : acc.length + P.length ≤ 304) (ho : (P.length : Int) - 1000 ≤ o ∧ o ≤ 1000) (hQ : ∀ w, XS t v w → MS w B n k t (whM P acc o).1 (whM P acc o).2.1 (whM P acc o).2.2 1 → Q (.inl none) (w, T)) : jmet g (d + 2) 0 0 MX2_whole [vR 539] (v, T) Q := by
  have ej : ∀ j, j ≠ 19 → (upA v 539 (up1 (v 539) 19 1)) 539 j = v 539 j := fun j hj => by rw [upA_eq, up1_ne hj]
  have xs : XS t v (upA v 539 (up1 (v 539) 19 1)) := ⟨fun a a1 _ _ => upA_ne a1, fun j hj => ej j (by omega), fun i _ => by rw [upA_ne (by decide)]⟩
  have S1 := hS.pl xs (fun j hj => ej j (by omega)) (upA_ne (by decide)) (hS.2.2.1.fr (ej 17 (by decide)) (upA_ne (by decide))) ((ej 18 (by decide)).trans hS.2.2.2.1) (z' := 1) (by rw [upA_eq, up1_eq])
  refine jmet_of (ls := [some (vR 539)]) sX2_whole rfl (by decide +kernel) (by decide) rfl (by simp [jent]) ?_
  refine jW_step ?_
  simp (disch := (first | decide | omega)) only [bX2_whole, jxs, hps, jtsw, jlsw, List.length_cons, List.length_nil, true_and, and_true, true_implies, false_implies, implies_true, not_true_eq_false, not_false_eq_true, false_and, and_false, if_true, if_false, or_true, true_or, or_false, false_or, Classical.not_not, and_self, Int.reduceAdd, Int.reduceMul, Int.reduceSub, Int.reduceNeg, Int.reduceLT, Int.reduceLE, Int.reduceEq, Int.reduceNe, Int.reduceToNat, Nat.reduceAdd, Nat.reduceMul, Nat.reduceSub, Nat.reduceLeDiff, Nat.reduceLT, Nat.reduceEqDiff, reduceIte, Nat.zero_le, Nat.le_refl, Nat.add_zero, Nat.zero_add, twT hT, twV hV]
  (repeat (refine And.intro (by (first | omega | assumption | trivial | (simp only [inI]; omega) | (simp only [inL]; omega) | (refine jb_01) | (exact jb_in))) ?_))
  exact tw_whole_1 P acc o _ hT (xs.pv hV) S1 hl ho (fun w w1 w2 => hQ w (xs.tr w1) w2)
theorem tw_compareOf {v : Int → Int → Int} (hT : PT T) (hV : PV v) (hR : R2 v B n k) (hQ : Q (.inl (some (vI (cmT (stT B n k))))) (v, T)) : jmet g (d + 1) 0 0 MX2_compareOf [vR 539] (v, T) Q := by
  have hk := hR.2.2.2.2.2
  have hst := (tk_sp (B := B) hk).2.1
  have kd := hR.2.2.1
  unfold KD2 at kd
  have fin : ∀ z, z = cmT (stT B n k) → jW bX2_compareOf (g, d, 0, 0, Q) 1 [some (vR 539)] [vI z] (v, T) 0 0 := by
    intro z hz
    rw [← hz] at hQ
    refine jW_step ?_
    simp (disch := (first | decide | omega)) only [bX2_compareOf, jxs, hps, jtsw, jlsw, List.length_cons, List.length_nil, true_and, and_true, true_implies, false_implies, implies_true, not_true_eq_false, not_false_eq_true, false_and, and_false, if_true, if_false, or_true, true_or, or_false, false_or, Classical.not_not, and_self, Int.reduceAdd, Int.reduceMul, Int.reduceSub, Int.reduceNeg, Int.reduceLT, Int.reduceLE, Int.reduceEq, Int.reduceNe, Int.reduceToNat, Nat.reduceAdd, Nat.reduceMul, Nat.reduceSub, Nat.reduceLeDiff, Nat.reduceLT, Nat.reduceEqDiff, reduceIte, Nat.zero_le, Nat.le_refl, Nat.add_zero, Nat.zero_add, twT hT, twV hV]
    (repeat (refine And.intro (by (first | omega | assumption | trivial | (simp only [inI]; omega) | (simp only [inL]; omega) | (refine jb_01) | (exact jb_in))) ?_))
    exact hQ
  refine jmet_of (ls := [some (vR 539)]) sX2_compareOf rfl (by decide +kernel) (by decide) rfl (by simp [jent]) ?_
  refine jW_step ?_
  simp (disch := (first | decide | omega)) only [bX2_compareOf, jxs, hps, jtsw, jlsw, List.length_cons, List.length_nil, true_and, and_true, true_implies, false_implies, implies_true, not_true_eq_false, not_false_eq_true, false_and, and_false, if_true, if_false, or_true, true_or, or_false, false_or, Classical.not_not, and_self, Int.reduceAdd, Int.reduceMul, Int.reduceSub, Int.reduceNeg, Int.reduceLT, Int.reduceLE, Int.reduceEq, Int.reduceNe, Int.reduceToNat, Nat.reduceAdd, Nat.reduceMul, Nat.reduceSub, Nat.reduceLeDiff, Nat.reduceLT, Nat.reduceEqDiff, reduceIte, Nat.zero_le, Nat.le_refl, Nat.add_zero, Nat.zero_add, twT hT, twV hV]
  refine ⟨fun a0 => ?_, fun a0 => ?_⟩
  · have b0 : ¬ stT B n k = 60 := by omega
    refine ⟨fun a1 => ?_, fun a1 => ?_⟩
    · have b1 : ¬ stT B n k = 303 := by omega
      refine ⟨fun a2 => ?_, fun a2 => ?_⟩
      · have b2 : ¬ stT B n k = 62 := by omega
        refine ⟨fun a3 => ?_, fun a3 => ?_⟩
        · have b3 : ¬ stT B n k = 304 := by omega
          refine ⟨fun a4 => ?_, fun a4 => ?_⟩
          · have b4 : ¬ stT B n k = 61 := by omega
            refine ⟨fun a5 => ?_, fun a5 => ?_⟩
            · have b5 : ¬ stT B n k = 35 := by omega
              exact fin (-1) (by unfold cmT; rw [if_neg b0, if_neg b1, if_neg b2, if_neg b3, if_neg b4, if_neg b5])
            · have e : stT B n k = 35 := by omega
              exact fin 15 (by rw [e]; rfl)
          · have e : stT B n k = 61 := by omega
            exact fin 14 (by rw [e]; rfl)
        · have e : stT B n k = 304 := by omega
          exact fin 13 (by rw [e]; rfl)
      · have e : stT B n k = 62 := by omega
        exact fin 12 (by rw [e]; rfl)
    · have e : stT B n k = 303 := by omega
      exact fin 11 (by rw [e]; rfl)
  · have e : stT B n k = 60 := by omega
    exact fin 10 (by rw [e]; rfl)
theorem tw_hasParen_1 {P : List Int} : ∀ (f : Nat) (i : Nat) (v : Int → Int → Int), i + f = P.length → PT T → PV v → PLq v P → ((¬ ∃ j : Nat, i ≤ j ∧ j < P.length ∧ v 544 j = 40) → Q (.inl (some (vI 0))) (v, T)) → ((∃ j : Nat, i ≤ j ∧ j < P.length ∧ v 544 j = 40) → Q (.inl (some (vI 1))) (v, T)) → jW bX2_hasParen (g, d, 0, 0, Q) 1 [some (vR 539), some (vI i)] [] (v, T) 0 0
  | 0, i, v, hi, hT, hV, hP, h0, h1 => by
    have m1 := hP.1
    have m2 := hP.2.1
    refine jW_step ?_
    simp (disch := (first | decide | omega)) only [bX2_hasParen, jxs, hps, jtsw, jlsw, List.length_cons, List.length_nil, true_and, and_true, true_implies, false_implies, implies_true, not_true_eq_false, not_false_eq_true, false_and, and_false, if_true, if_false, or_true, true_or, or_false, false_or, Classical.not_not, and_self, Int.reduceAdd, Int.reduceMul, Int.reduceSub, Int.reduceNeg, Int.reduceLT, Int.reduceLE, Int.reduceEq, Int.reduceNe, Int.reduceToNat, Nat.reduceAdd, Nat.reduceMul, Nat.reduceSub, Nat.reduceLeDiff, Nat.reduceLT, Nat.reduceEqDiff, reduceIte, Nat.zero_le, Nat.le_refl, Nat.add_zero, Nat.zero_add, twT hT, twV hV, m1]
    (try refine ⟨fun _ => ?_, fun h9 => (by exfalso; omega)⟩)
    (repeat (refine And.intro (by (first | omega | assumption | trivial | (simp only [inI]; omega) | (simp only [inL]; omega) | (refine jb_01) | (exact jb_in))) ?_))
    exact h0 (fun ⟨j, j0, j1, _⟩ => by omega)
  | f + 1, i, v, hi, hT, hV, hP, h0, h1 => by
    have m1 := hP.1
    have m2 := hP.2.1
    refine jW_step ?_
    simp (disch := (first | decide | omega)) only [bX2_hasParen, jxs, hps, jtsw, jlsw, List.length_cons, List.length_nil, true_and, and_true, true_implies, false_implies, implies_true, not_true_eq_false, not_false_eq_true, false_and, and_false, if_true, if_false, or_true, true_or, or_false, false_or, Classical.not_not, and_self, Int.reduceAdd, Int.reduceMul, Int.reduceSub, Int.reduceNeg, Int.reduceLT, Int.reduceLE, Int.reduceEq, Int.reduceNe, Int.reduceToNat, Nat.reduceAdd, Nat.reduceMul, Nat.reduceSub, Nat.reduceLeDiff, Nat.reduceLT, Nat.reduceEqDiff, reduceIte, Nat.zero_le, Nat.le_refl, Nat.add_zero, Nat.zero_add, twT hT, twV hV, m1]
    (first | refine ⟨fun h9 => (by exfalso; omega), fun _ => ?_⟩ | intro _)
    (repeat (refine And.intro (by (first | omega | assumption | trivial | (simp only [inI]; omega) | (simp only [inL]; omega) | (refine jb_01) | (exact jb_in))) ?_))
    refine ⟨fun h => ?_, fun h => ?_⟩
    · have e : (∃ j : Nat, i + 1 ≤ j ∧ j < P.length ∧ v 544 j = 40) ↔ (∃ j : Nat, i ≤ j ∧ j < P.length ∧ v 544 j = 40) := by
        constructor
        · intro ⟨j, a, b⟩; exact ⟨j, by omega, b⟩
        · intro ⟨j, a, b, c⟩
          refine ⟨j, ?_, b, c⟩
          by_cases e : j = i
          · subst e; exact absurd c h
          · omega
      have ih := tw_hasParen_1 (P := P) f (i + 1) v (by omega) hT hV hP (fun q => h0 (fun q2 => q (e.2 q2))) (fun q => h1 (e.1 q))
      (repeat (refine And.intro (by (first | omega | assumption | trivial | (simp only [inI]; omega) | (simp only [inL]; omega) | (refine jb_01) | (exact jb_in))) ?_))
      exact ih
    · (repeat (refine And.intro (by (first | omega | assumption | trivial | (simp only [inI]; omega) | (simp only [inL]; omega) | (refine jb_01) | (exact jb_in))) ?_))
      exact h1 ⟨i, Nat.le_refl _, by omega, by omega⟩
theorem PLr_mem {f : Int → Int} {x : Int} : ∀ (P : List Int), PLr f P → ((∃ j : Nat, j < P.length ∧ f j = x) ↔ x ∈ P)
  | [], h => by simp
  | y :: P, h => by
    have ih := PLr_mem (x := x) P h.2
    have h1 := h.1
    constructor
    · intro ⟨j, a, b⟩
      by_cases e : j = P.length
      · subst e
        rw [← b, h1]
        exact List.mem_cons_self
      · rw [List.length_cons] at a
        exact List.mem_cons_of_mem _ (ih.1 ⟨j, by omega, b⟩)
    · intro q
      rcases List.mem_cons.1 q with q | q
      · exact ⟨P.length, by simp, h1.trans q.symm⟩
      · obtain ⟨j, a, b⟩ := ih.2 q
        exact ⟨j, by rw [List.length_cons]; omega, b⟩
theorem tw_hasParen {P : List Int} {v : Int → Int → Int} (hT : PT T) (hV : PV v) (hP : PLq v P) (hQ : Q (.inl (some (vI (jb (40 ∈ P))))) (v, T)) : jmet g (d + 1) 0 0 MX2_hasParen [vR 539] (v, T) Q := by
  have e : (∃ j : Nat, 0 ≤ j ∧ j < P.length ∧ v 544 j = 40) ↔ 40 ∈ P := by
    rw [← PLr_mem P hP.2.2]
    exact ⟨fun ⟨j, _, b⟩ => ⟨j, b⟩, fun ⟨j, b⟩ => ⟨j, Nat.zero_le _, b⟩⟩
  have k := tw_hasParen_1 (g := g) (d := d) (Q := Q) (P := P) P.length 0 v (by omega) hT hV hP (fun q => by rw [jb_f (fun q2 => q (e.2 q2))] at hQ; exact hQ) (fun q => by rw [jb_t (e.1 q)] at hQ; exact hQ)
  refine jmet_of (ls := [some (vR 539), none]) sX2_hasParen rfl (by decide +kernel) (by decide) rfl (by simp [jent]) ?_
  refine jW_step ?_
  simp (disch := (first | decide | omega)) only [bX2_hasParen, jxs, hps, jtsw, jlsw, List.length_cons, List.length_nil, true_and, and_true, true_implies, false_implies, implies_true, not_true_eq_false, not_false_eq_true, false_and, and_false, if_true, if_false, or_true, true_or, or_false, false_or, Classical.not_not, and_self, Int.reduceAdd, Int.reduceMul, Int.reduceSub, Int.reduceNeg, Int.reduceLT, Int.reduceLE, Int.reduceEq, Int.reduceNe, Int.reduceToNat, Nat.reduceAdd, Nat.reduceMul, Nat.reduceSub, Nat.reduceLeDiff, Nat.reduceLT, Nat.reduceEqDiff, reduceIte, Nat.zero_le, Nat.le_refl, Nat.add_zero, Nat.zero_add, twT hT, twV hV]
  exact k
theorem tw_goesOn {P : List Int} {acc : List (Int × Int)} {o z : Int} {v : Int → Int → Int} (hT : PT T) (hV : PV v) (hS : MS v B n k t P acc o z) (hQ : Q (.inl (some (vI (jb (goM (stT B n k) P))))) (v, T)) : jmet g (d + 2) 0 0 MX2_goesOn [vR 539] (v, T) Q := by
  have hR := hS.1
  have hk := hR.2.2.2.2.2
  have hst := (tk_sp (B := B) hk).2.1
  have kd := hR.2.2.1
  unfold KD2 at kd
  have k1 : goM (stT B n k) P → jW bX2_goesOn (g, d + 1, 0, 0, Q) 1 [some (vR 539)] [] (v, T) 0 0 := by
    intro h
    rw [jb_t h] at hQ
    refine jW_step ?_
    simp (disch := (first | decide | omega)) only [bX2_goesOn, jxs, hps, jtsw, jlsw, List.length_cons, List.length_nil, true_and, and_true, true_implies, false_implies, implies_true, not_true_eq_false, not_false_eq_true, false_and, and_false, if_true, if_false, or_true, true_or, or_false, false_or, Classical.not_not, and_self, Int.reduceAdd, Int.reduceMul, Int.reduceSub, Int.reduceNeg, Int.reduceLT, Int.reduceLE, Int.reduceEq, Int.reduceNe, Int.reduceToNat, Nat.reduceAdd, Nat.reduceMul, Nat.reduceSub, Nat.reduceLeDiff, Nat.reduceLT, Nat.reduceEqDiff, reduceIte, Nat.zero_le, Nat.le_refl, Nat.add_zero, Nat.zero_add, twT hT, twV hV]
    refine jW_step ?_
    simp (disch := (first | decide | omega)) only [bX2_goesOn, jxs, hps, jtsw, jlsw, List.length_cons, List.length_nil, true_and, and_true, true_implies, false_implies, implies_true, not_true_eq_false, not_false_eq_true, false_and, and_false, if_true, if_false, or_true, true_or, or_false, false_or, Classical.not_not, and_self, Int.reduceAdd, Int.reduceMul, Int.reduceSub, Int.reduceNeg, Int.reduceLT, Int.reduceLE, Int.reduceEq, Int.reduceNe, Int.reduceToNat, Nat.reduceAdd, Nat.reduceMul, Nat.reduceSub, Nat.reduceLeDiff, Nat.reduceLT, Nat.reduceEqDiff, reduceIte, Nat.zero_le, Nat.le_refl, Nat.add_zero, Nat.zero_add, twT hT, twV hV]
    (repeat (refine And.intro (by (first | omega | assumption | trivial | (simp only [inI]; omega) | (simp only [inL]; omega) | (refine jb_01) | (exact jb_in))) ?_))
    exact hQ
  have k2 : ¬ goM (stT B n k) P → jW bX2_goesOn (g, d + 1, 0, 0, Q) 2 [some (vR 539)] [] (v, T) 0 0 := by
    intro h
    rw [jb_f h] at hQ
    refine jW_step ?_
    simp (disch := (first | decide | omega)) only [bX2_goesOn, jxs, hps, jtsw, jlsw, List.length_cons, List.length_nil, true_and, and_true, true_implies, false_implies, implies_true, not_true_eq_false, not_false_eq_true, false_and, and_false, if_true, if_false, or_true, true_or, or_false, false_or, Classical.not_not, and_self, Int.reduceAdd, Int.reduceMul, Int.reduceSub, Int.reduceNeg, Int.reduceLT, Int.reduceLE, Int.reduceEq, Int.reduceNe, Int.reduceToNat, Nat.reduceAdd, Nat.reduceMul, Nat.reduceSub, Nat.reduceLeDiff, Nat.reduceLT, Nat.reduceEqDiff, reduceIte, Nat.zero_le, Nat.le_refl, Nat.add_zero, Nat.zero_add, twT hT, twV hV]
    refine jW_step ?_
    simp (disch := (first | decide | omega)) only [bX2_goesOn, jxs, hps, jtsw, jlsw, List.length_cons, List.length_nil, true_and, and_true, true_implies, false_implies, implies_true, not_true_eq_false, not_false_eq_true, false_and, and_false, if_true, if_false, or_true, true_or, or_false, false_or, Classical.not_not, and_self, Int.reduceAdd, Int.reduceMul, Int.reduceSub, Int.reduceNeg, Int.reduceLT, Int.reduceLE, Int.reduceEq, Int.reduceNe, Int.reduceToNat, Nat.reduceAdd, Nat.reduceMul, Nat.reduceSub, Nat.reduceLeDiff, Nat.reduceLT, Nat.reduceEqDiff, reduceIte, Nat.zero_le, Nat.le_refl, Nat.add_zero, Nat.zero_add, twT hT, twV hV]
    (repeat (refine And.intro (by (first | omega | assumption | trivial | (simp only [inI]; omega) | (simp only [inL]; omega) | (refine jb_01) | (exact jb_in))) ?_))
    exact hQ
  refine jmet_of (ls := [some (vR 539)]) sX2_goesOn rfl (by decide +kernel) (by decide) rfl (by simp [jent]) ?_
  refine jW_step ?_
  simp (disch := (first | decide | omega)) only [bX2_goesOn, jxs, hps, jtsw, jlsw, List.length_cons, List.length_nil, true_and, and_true, true_implies, false_implies, implies_true, not_true_eq_false, not_false_eq_true, false_and, and_false, if_true, if_false, or_true, true_or, or_false, false_or, Classical.not_not, and_self, Int.reduceAdd, Int.reduceMul, Int.reduceSub, Int.reduceNeg, Int.reduceLT, Int.reduceLE, Int.reduceEq, Int.reduceNe, Int.reduceToNat, Nat.reduceAdd, Nat.reduceMul, Nat.reduceSub, Nat.reduceLeDiff, Nat.reduceLT, Nat.reduceEqDiff, reduceIte, Nat.zero_le, Nat.le_refl, Nat.add_zero, Nat.zero_add, twT hT, twV hV]
  refine ⟨fun a1 => k1 (Or.inl (by omega)), fun a1 => ⟨fun a2 => k1 (Or.inr (Or.inl (by omega))), fun a2 => ⟨fun a3 => k1 (Or.inr (Or.inr (Or.inl (by omega)))), fun a3 => ⟨fun a4 => k1 (Or.inr (Or.inr (Or.inr (Or.inl (by omega))))), fun a4 => ⟨fun a5 => k2 (fun q => by unfold goM at q; omega), fun a5 => ?_⟩⟩⟩⟩⟩
  refine ⟨0, 0, ⟨by omega, by omega⟩, tw_hasParen (d := d) hT hV hS.2.2.1 ?_⟩
  simp (disch := (first | decide | omega)) only [jxs, hps, jtsw, jlsw, List.length_cons, List.length_nil, true_and, and_true, true_implies, false_implies, implies_true, not_true_eq_false, not_false_eq_true, false_and, and_false, if_true, if_false, or_true, true_or, or_false, false_or, Classical.not_not, and_self, Int.reduceAdd, Int.reduceMul, Int.reduceSub, Int.reduceNeg, Int.reduceLT, Int.reduceLE, Int.reduceEq, Int.reduceNe, Int.reduceToNat, Nat.reduceAdd, Nat.reduceMul, Nat.reduceSub, Nat.reduceLeDiff, Nat.reduceLT, Nat.reduceEqDiff, reduceIte, Nat.zero_le, Nat.le_refl, Nat.add_zero, Nat.zero_add, twT hT, twV hV]
  refine ⟨fun h => ?_, fun h => ?_⟩
  · exact k2 (fun q => by
      unfold goM at q
      rcases q with q | q | q | q | q
      · omega
      · omega
      · omega
      · omega
      · exact h q.2)
  · exact k1 (Or.inr (Or.inr (Or.inr (Or.inr ⟨by omega, h⟩))))
theorem tw_isBarred {v : Int → Int → Int} {nm so : Int} (hT : PT T) (hV : PV v) (h20 : v 539 20 = so) (hnm : -1 ≤ nm ∧ nm < 15) (hQ : Q (.inl (some (vI (jb (¬ myN (200 + so) nm))))) (v, T)) : jmet g (d + 1) 0 0 MX2_isBarred [vR 539, vI nm] (v, T) Q := by
  refine jmet_of (ls := [some (vR 539), some (vI nm)]) sX2_isBarred rfl (by decide +kernel) (by decide) rfl (by simp [jent]) ?_
  have k1 : ¬ myN (200 + so) nm → jW bX2_isBarred (g, d, 0, 0, Q) 1 [some (vR 539), some (vI nm)] [] (v, T) 0 0 := by
    intro h
    rw [jb_t h] at hQ
    refine jW_step ?_
    simp (disch := (first | decide | omega)) only [bX2_isBarred, jxs, hps, jtsw, jlsw, List.length_cons, List.length_nil, true_and, and_true, true_implies, false_implies, implies_true, not_true_eq_false, not_false_eq_true, false_and, and_false, if_true, if_false, or_true, true_or, or_false, false_or, Classical.not_not, and_self, Int.reduceAdd, Int.reduceMul, Int.reduceSub, Int.reduceNeg, Int.reduceLT, Int.reduceLE, Int.reduceEq, Int.reduceNe, Int.reduceToNat, Nat.reduceAdd, Nat.reduceMul, Nat.reduceSub, Nat.reduceLeDiff, Nat.reduceLT, Nat.reduceEqDiff, reduceIte, Nat.zero_le, Nat.le_refl, Nat.add_zero, Nat.zero_add, twT hT, twV hV]
    refine jW_step ?_
    simp (disch := (first | decide | omega)) only [bX2_isBarred, jxs, hps, jtsw, jlsw, List.length_cons, List.length_nil, true_and, and_true, true_implies, false_implies, implies_true, not_true_eq_false, not_false_eq_true, false_and, and_false, if_true, if_false, or_true, true_or, or_false, false_or, Classical.not_not, and_self, Int.reduceAdd, Int.reduceMul, Int.reduceSub, Int.reduceNeg, Int.reduceLT, Int.reduceLE, Int.reduceEq, Int.reduceNe, Int.reduceToNat, Nat.reduceAdd, Nat.reduceMul, Nat.reduceSub, Nat.reduceLeDiff, Nat.reduceLT, Nat.reduceEqDiff, reduceIte, Nat.zero_le, Nat.le_refl, Nat.add_zero, Nat.zero_add, twT hT, twV hV]
    (repeat (refine And.intro (by (first | omega | assumption | trivial | (simp only [inI]; omega) | (simp only [inL]; omega) | (refine jb_01) | (exact jb_in))) ?_))
    exact hQ
  have k2 : myN (200 + so) nm → jW bX2_isBarred (g, d, 0, 0, Q) 2 [some (vR 539), some (vI nm)] [] (v, T) 0 0 := by
    intro h
    rw [jb_f (fun q => q h)] at hQ
    refine jW_step ?_
    simp (disch := (first | decide | omega)) only [bX2_isBarred, jxs, hps, jtsw, jlsw, List.length_cons, List.length_nil, true_and, and_true, true_implies, false_implies, implies_true, not_true_eq_false, not_false_eq_true, false_and, and_false, if_true, if_false, or_true, true_or, or_false, false_or, Classical.not_not, and_self, Int.reduceAdd, Int.reduceMul, Int.reduceSub, Int.reduceNeg, Int.reduceLT, Int.reduceLE, Int.reduceEq, Int.reduceNe, Int.reduceToNat, Nat.reduceAdd, Nat.reduceMul, Nat.reduceSub, Nat.reduceLeDiff, Nat.reduceLT, Nat.reduceEqDiff, reduceIte, Nat.zero_le, Nat.le_refl, Nat.add_zero, Nat.zero_add, twT hT, twV hV]
    refine jW_step ?_
    simp (disch := (first | decide | omega)) only [bX2_isBarred, jxs, hps, jtsw, jlsw, List.length_cons, List.length_nil, true_and, and_true, true_implies, false_implies, implies_true, not_true_eq_false, not_false_eq_true, false_and, and_false, if_true, if_false, or_true, true_or, or_false, false_or, Classical.not_not, and_self, Int.reduceAdd, Int.reduceMul, Int.reduceSub, Int.reduceNeg, Int.reduceLT, Int.reduceLE, Int.reduceEq, Int.reduceNe, Int.reduceToNat, Nat.reduceAdd, Nat.reduceMul, Nat.reduceSub, Nat.reduceLeDiff, Nat.reduceLT, Nat.reduceEqDiff, reduceIte, Nat.zero_le, Nat.le_refl, Nat.add_zero, Nat.zero_add, twT hT, twV hV]
    (repeat (refine And.intro (by (first | omega | assumption | trivial | (simp only [inI]; omega) | (simp only [inL]; omega) | (refine jb_01) | (exact jb_in))) ?_))
    exact hQ
  refine jW_step ?_
  simp (disch := (first | decide | omega)) only [bX2_isBarred, jxs, hps, jtsw, jlsw, List.length_cons, List.length_nil, true_and, and_true, true_implies, false_implies, implies_true, not_true_eq_false, not_false_eq_true, false_and, and_false, if_true, if_false, or_true, true_or, or_false, false_or, Classical.not_not, and_self, Int.reduceAdd, Int.reduceMul, Int.reduceSub, Int.reduceNeg, Int.reduceLT, Int.reduceLE, Int.reduceEq, Int.reduceNe, Int.reduceToNat, Nat.reduceAdd, Nat.reduceMul, Nat.reduceSub, Nat.reduceLeDiff, Nat.reduceLT, Nat.reduceEqDiff, reduceIte, Nat.zero_le, Nat.le_refl, Nat.add_zero, Nat.zero_add, twT hT, twV hV, h20]
  refine ⟨fun a => ?_, fun a => ?_⟩
  · exact k2 (Or.inl (by omega))
  · refine ⟨fun b => ?_, fun b => ?_⟩
    · refine ⟨fun c => ?_, fun c => ?_⟩
      · exact k2 (by unfold myN; omega)
      · exact k1 (by unfold myN; omega)
    · refine ⟨fun c => ?_, fun c => ?_⟩
      · exact k2 (by unfold myN; omega)
      · exact k1 (by unfold myN; omega)
end TG
