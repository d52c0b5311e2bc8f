/-! ===== the reference: one step within a sum ===== -/
set_option maxRecDepth 100000
abbrev sM : Type := Int × Nat × List Int × List (Int × Int) × Int
section LM
variable (B : Int → Int) (n : Nat)
def begM (kd : Int) (k : Nat) (P : List Int) (acc : List (Int × Int)) (o : Int) : Int ⊕ sM :=
  if stT B n k = 300 then (if 9999 < nuT B n k then .inl 2 else .inr (1, nxT B n k, whM P (acc ++ [(0, nuT B n k)]) o))
  else if nmT (stT B n k) = -1 then (if stT B n k = 40 ∨ stT B n k = 45 then (if o = 8 then .inl 3 else .inr (0, nxT B n k, (if stT B n k = 40 then 40 else 2) :: P, acc, o + 1)) else .inl 1)
  else if myN kd (nmT (stT B n k)) then .inr (1, nxT B n k, whM P (acc ++ [(1, nmT (stT B n k))]) o) else .inl 5
def behM (k : Nat) (P : List Int) (acc : List (Int × Int)) (o : Int) : sM :=
  if stT B n k = 43 ∨ stT B n k = 45 then (0, nxT B n k, (if stT B n k = 43 then 3 else 4) :: (seM 3 P acc).1, (seM 3 P acc).2, o)
  else if stT B n k = 42 ∨ stT B n k = 47 then (0, nxT B n k, (if stT B n k = 42 then 5 else 6) :: (seM 5 P acc).1, (seM 5 P acc).2, o)
  else (1, nxT B n k, whM (seM 3 P acc).1.tail (seM 3 P acc).2 (o - 1))
end LM
section TG
variable {g : jjG} {d : Nat} {T : jjT} {Q : jjQ} {B : Int → Int} {n k : Nat} {t o z kd : Int} {P : List Int} {acc : List (Int × Int)} {v : Int → Int → Int}
theorem tw_beginOne (hT : PT T) (hV : PV v) (hS : MS v B n k t P acc o 0) (h20 : v 539 20 = kd - 200) (hl : acc.length + P.length < 304 ∧ P.length < 100) (ho : (P.length : Int) - 1000 ≤ o ∧ o ≤ 8) (hE : ∀ f, begM B n kd k P acc o = .inl f → Q (.inl (some (vI f))) (v, T))
    (hQ : ∀ s, begM B n kd k P acc o = .inr s → ∀ w, XS t v w → MS w B n s.2.1 t s.2.2.1 s.2.2.2.1 s.2.2.2.2 s.1 → Q (.inl (some (vI 0))) (w, T)) : jmet g (d + 6) 0 0 MX2_beginOne [vR 539] (v, T) Q := by
  have hR := hS.1
  have hk := hR.2.2.2.2.2
  have hst := (tk_sp (B := B) hk).2.1
  have hnu := (tk_sp (B := B) hk).2.2
  have h10 := hR.2.2.2.1
  have eo : v 539 18 = o := hS.2.2.2.1
  have nb := nmT_bd (t := stT B n k)
  have kd2 := hR.2.2.1
  unfold KD2 at kd2
  have k1a : begM B n kd k P acc o = .inl 1 → jW bX2_beginOne (g, d + 5, 0, 0, Q) 1 [some (vR 539), none] [vI 0] (v, T) 0 0 := by
    intro h
    refine jW_step ?_
    simp (disch := (first | decide | omega)) only [bX2_beginOne, jxs, hps, jtsw, jlsw, List.length_cons, List.length_nil, true_and, and_true, true_implies, false_implies, implies_true, not_true_eq_false, not_false_eq_true, false_and, and_false, if_true, if_false, or_true, true_or, or_false, false_or, Classical.not_not, and_self, Int.reduceAdd, Int.reduceMul, Int.reduceSub, Int.reduceNeg, Int.reduceLT, Int.reduceLE, Int.reduceEq, Int.reduceNe, Int.reduceToNat, Nat.reduceAdd, Nat.reduceMul, Nat.reduceSub, Nat.reduceLeDiff, Nat.reduceLT, Nat.reduceEqDiff, reduceIte, Nat.zero_le, Nat.le_refl, Nat.add_zero, Nat.zero_add, twT hT, twV hV, eo]
    (repeat (refine And.intro (by (first | omega | assumption | trivial | (simp only [inI]; omega) | (simp only [inL]; omega) | (refine jb_01) | (exact jb_in))) ?_))
    exact hE 1 h
  have k1b : ∀ x : Int, (x = 40 ∨ x = 2) → (o = 8 → begM B n kd k P acc o = .inl 3) → (¬ o = 8 → begM B n kd k P acc o = .inr (0, nxT B n k, x :: P, acc, o + 1)) → jW bX2_beginOne (g, d + 5, 0, 0, Q) 1 [some (vR 539), none] [vI x] (v, T) 0 0 := by
    intro x hx h8 hn8
    have ej : ∀ j, j ≠ 18 → (upA v 539 (up1 (v 539) 18 (o + 1))) 539 j = v 539 j := fun j hj => by rw [upA_eq, up1_ne hj]
    have xs : XS t v (upA v 539 (up1 (v 539) 18 (o + 1))) := ⟨fun a a1 _ _ => upA_ne a1, fun j hj => ej j (by omega), fun i _ => by rw [upA_ne (by decide)]⟩
    have S1 := hS.pl xs (fun j hj => ej j (by omega)) (upA_ne (by decide)) (hS.2.2.1.fr (ej 17 (by decide)) (upA_ne (by decide))) (o' := o + 1) (by rw [upA_eq, up1_eq]) ((ej 19 (by decide)).trans hS.2.2.2.2)
    refine jW_step ?_
    simp (disch := (first | decide | omega)) only [bX2_beginOne, jxs, hps, jtsw, jlsw, List.length_cons, List.length_nil, true_and, and_true, true_implies, false_implies, implies_true, not_true_eq_false, not_false_eq_true, false_and, and_false, if_true, if_false, or_true, true_or, or_false, false_or, Classical.not_not, and_self, Int.reduceAdd, Int.reduceMul, Int.reduceSub, Int.reduceNeg, Int.reduceLT, Int.reduceLE, Int.reduceEq, Int.reduceNe, Int.reduceToNat, Nat.reduceAdd, Nat.reduceMul, Nat.reduceSub, Nat.reduceLeDiff, Nat.reduceLT, Nat.reduceEqDiff, reduceIte, Nat.zero_le, Nat.le_refl, Nat.add_zero, Nat.zero_add, twT hT, twV hV, eo]
    (try refine ⟨fun _ => ?_, fun h9 => (by exfalso; omega)⟩)
    refine ⟨fun c => ?_, fun c => ?_⟩
    · (repeat (refine And.intro (by (first | omega | assumption | trivial | (simp only [inI]; omega) | (simp only [inL]; omega) | (refine jb_01) | (exact jb_in))) ?_))
      refine ⟨0, 0, ⟨by omega, by omega⟩, tw_push (d := d + 4) hT (xs.pv hV) S1 (by omega) ?_⟩
      intro w w1 w2
      simp (disch := (first | decide | omega)) only [jxs, hps, jtsw, jlsw, List.length_cons, List.length_nil, true_and, and_true, true_implies, false_implies, implies_true, not_true_eq_false, not_false_eq_true, false_and, and_false, if_true, if_false, or_true, true_or, or_false, false_or, Classical.not_not, and_self, Int.reduceAdd, Int.reduceMul, Int.reduceSub, Int.reduceNeg, Int.reduceLT, Int.reduceLE, Int.reduceEq, Int.reduceNe, Int.reduceToNat, Nat.reduceAdd, Nat.reduceMul, Nat.reduceSub, Nat.reduceLeDiff, Nat.reduceLT, Nat.reduceEqDiff, reduceIte, Nat.zero_le, Nat.le_refl, Nat.add_zero, Nat.zero_add, twT hT, twV hV]
      (repeat (refine And.intro (by (first | omega | assumption | trivial | (simp only [inI]; omega) | (simp only [inL]; omega) | (refine jb_01) | (exact jb_in))) ?_))
      refine ⟨0, 0, ⟨by omega, by omega⟩, tw_next (d := d) hT ((xs.tr w1).pv hV) w2 ?_⟩
      intro u u1 u2
      simp (disch := (first | decide | omega)) only [jxs, hps, jtsw, jlsw, List.length_cons, List.length_nil, true_and, and_true, true_implies, false_implies, implies_true, not_true_eq_false, not_false_eq_true, false_and, and_false, if_true, if_false, or_true, true_or, or_false, false_or, Classical.not_not, and_self, Int.reduceAdd, Int.reduceMul, Int.reduceSub, Int.reduceNeg, Int.reduceLT, Int.reduceLE, Int.reduceEq, Int.reduceNe, Int.reduceToNat, Nat.reduceAdd, Nat.reduceMul, Nat.reduceSub, Nat.reduceLeDiff, Nat.reduceLT, Nat.reduceEqDiff, reduceIte, Nat.zero_le, Nat.le_refl, Nat.add_zero, Nat.zero_add, twT hT, twV hV]
      (repeat (refine And.intro (by (first | omega | assumption | trivial | (simp only [inI]; omega) | (simp only [inL]; omega) | (refine jb_01) | (exact jb_in))) ?_))
      exact hQ _ (hn8 c) u ((xs.tr w1).tr u1) u2
    · (repeat (refine And.intro (by (first | omega | assumption | trivial | (simp only [inI]; omega) | (simp only [inL]; omega) | (refine jb_01) | (exact jb_in))) ?_))
      exact hE 3 (h8 (by omega))
  refine jmet_of (ls := [some (vR 539), none]) sX2_beginOne rfl (by decide +kernel) (by decide) rfl (by simp [jent]) ?_
  refine jW_step ?_
  simp (disch := (first | decide | omega)) only [bX2_beginOne, jxs, hps, jtsw, jlsw, List.length_cons, List.length_nil, true_and, and_true, true_implies, false_implies, implies_true, not_true_eq_false, not_false_eq_true, false_and, and_false, if_true, if_false, or_true, true_or, or_false, false_or, Classical.not_not, and_self, Int.reduceAdd, Int.reduceMul, Int.reduceSub, Int.reduceNeg, Int.reduceLT, Int.reduceLE, Int.reduceEq, Int.reduceNe, Int.reduceToNat, Nat.reduceAdd, Nat.reduceMul, Nat.reduceSub, Nat.reduceLeDiff, Nat.reduceLT, Nat.reduceEqDiff, reduceIte, Nat.zero_le, Nat.le_refl, Nat.add_zero, Nat.zero_add, twT hT, twV hV, eo]
  refine ⟨fun c => ?_, fun c => ?_⟩
  · have c3 : ¬ stT B n k = 300 := by omega
    refine ⟨0, 0, ⟨by omega, by omega⟩, tw_nameOf (d := d) hT hV hR ?_⟩
    simp (disch := (first | decide | omega)) only [jxs, hps, jtsw, jlsw, List.length_cons, List.length_nil, true_and, and_true, true_implies, false_implies, implies_true, not_true_eq_false, not_false_eq_true, false_and, and_false, if_true, if_false, or_true, true_or, or_false, false_or, Classical.not_not, and_self, Int.reduceAdd, Int.reduceMul, Int.reduceSub, Int.reduceNeg, Int.reduceLT, Int.reduceLE, Int.reduceEq, Int.reduceNe, Int.reduceToNat, Nat.reduceAdd, Nat.reduceMul, Nat.reduceSub, Nat.reduceLeDiff, Nat.reduceLT, Nat.reduceEqDiff, reduceIte, Nat.zero_le, Nat.le_refl, Nat.add_zero, Nat.zero_add, twT hT, twV hV]
    refine ⟨fun c2 => ?_, fun c2 => ?_⟩
    · have e1 : nmT (stT B n k) = -1 := by omega
      have eb : begM B n kd k P acc o = (if stT B n k = 40 ∨ stT B n k = 45 then (if o = 8 then .inl 3 else .inr (0, nxT B n k, (if stT B n k = 40 then 40 else 2) :: P, acc, o + 1)) else .inl 1) := by
        unfold begM
        rw [if_neg c3, if_pos e1]
      refine ⟨fun c4 => ?_, fun c4 => ?_⟩
      · refine ⟨fun c5 => ?_, fun c5 => ?_⟩
        · exact k1a (by rw [eb, if_neg (by omega)])
        · have e4 : stT B n k = 45 := by omega
          exact k1b 2 (Or.inr rfl) (fun q => by rw [eb, if_pos (by omega), if_pos q]) (fun q => by rw [eb, if_pos (by omega), if_neg q, if_neg (by omega)])
      · have e4 : stT B n k = 40 := by omega
        exact k1b 40 (Or.inl rfl) (fun q => by rw [eb, if_pos (by omega), if_pos q]) (fun q => by rw [eb, if_pos (by omega), if_neg q, if_pos e4])
    · have e1 : ¬ nmT (stT B n k) = -1 := by omega
      refine ⟨0, 0, ⟨by omega, by omega⟩, tw_nameOf (d := d) hT hV hR ?_⟩
      simp (disch := (first | decide | omega)) only [jxs, hps, jtsw, jlsw, List.length_cons, List.length_nil, true_and, and_true, true_implies, false_implies, implies_true, not_true_eq_false, not_false_eq_true, false_and, and_false, if_true, if_false, or_true, true_or, or_false, false_or, Classical.not_not, and_self, Int.reduceAdd, Int.reduceMul, Int.reduceSub, Int.reduceNeg, Int.reduceLT, Int.reduceLE, Int.reduceEq, Int.reduceNe, Int.reduceToNat, Nat.reduceAdd, Nat.reduceMul, Nat.reduceSub, Nat.reduceLeDiff, Nat.reduceLT, Nat.reduceEqDiff, reduceIte, Nat.zero_le, Nat.le_refl, Nat.add_zero, Nat.zero_add, twT hT, twV hV]
      refine ⟨0, 0, ⟨by omega, by omega⟩, tw_isBarred (d := d + 4) (so := kd - 200) hT hV h20 (by omega) ?_⟩
      rw [show 200 + (kd - 200) = kd by omega]
      simp (disch := (first | decide | omega)) only [jxs, hps, jtsw, jlsw, List.length_cons, List.length_nil, true_and, and_true, true_implies, false_implies, implies_true, not_true_eq_false, not_false_eq_true, false_and, and_false, if_true, if_false, or_true, true_or, or_false, false_or, Classical.not_not, and_self, Int.reduceAdd, Int.reduceMul, Int.reduceSub, Int.reduceNeg, Int.reduceLT, Int.reduceLE, Int.reduceEq, Int.reduceNe, Int.reduceToNat, Nat.reduceAdd, Nat.reduceMul, Nat.reduceSub, Nat.reduceLeDiff, Nat.reduceLT, Nat.reduceEqDiff, reduceIte, Nat.zero_le, Nat.le_refl, Nat.add_zero, Nat.zero_add, twT hT, twV hV]
      refine ⟨fun c6 => ?_, fun c6 => ?_⟩
      · have c7 : myN kd (nmT (stT B n k)) := by
          first | exact c6 | exact Decidable.byContradiction c6
        have eb : begM B n kd k P acc o = .inr (1, nxT B n k, whM P (acc ++ [(1, nmT (stT B n k))]) o) := by
          unfold begM
          rw [if_neg c3, if_neg e1, if_pos c7]
        refine ⟨0, 0, ⟨by omega, by omega⟩, tw_nameOf (d := d) hT hV hR ?_⟩
        simp (disch := (first | decide | omega)) only [jxs, hps, jtsw, jlsw, List.length_cons, List.length_nil, true_and, and_true, true_implies, false_implies, implies_true, not_true_eq_false, not_false_eq_true, false_and, and_false, if_true, if_false, or_true, true_or, or_false, false_or, Classical.not_not, and_self, Int.reduceAdd, Int.reduceMul, Int.reduceSub, Int.reduceNeg, Int.reduceLT, Int.reduceLE, Int.reduceEq, Int.reduceNe, Int.reduceToNat, Nat.reduceAdd, Nat.reduceMul, Nat.reduceSub, Nat.reduceLeDiff, Nat.reduceLT, Nat.reduceEqDiff, reduceIte, Nat.zero_le, Nat.le_refl, Nat.add_zero, Nat.zero_add, twT hT, twV hV]
        (repeat (refine And.intro (by (first | omega | assumption | trivial | (simp only [inI]; omega) | (simp only [inL]; omega) | (refine jb_01) | (exact jb_in))) ?_))
        refine ⟨0, 0, ⟨by omega, by omega⟩, tw_emit (d := d + 4) hT hV hS (by omega) ?_⟩
        intro w w1 w2
        simp (disch := (first | decide | omega)) only [jxs, hps, jtsw, jlsw, List.length_cons, List.length_nil, true_and, and_true, true_implies, false_implies, implies_true, not_true_eq_false, not_false_eq_true, false_and, and_false, if_true, if_false, or_true, true_or, or_false, false_or, Classical.not_not, and_self, Int.reduceAdd, Int.reduceMul, Int.reduceSub, Int.reduceNeg, Int.reduceLT, Int.reduceLE, Int.reduceEq, Int.reduceNe, Int.reduceToNat, Nat.reduceAdd, Nat.reduceMul, Nat.reduceSub, Nat.reduceLeDiff, Nat.reduceLT, Nat.reduceEqDiff, reduceIte, Nat.zero_le, Nat.le_refl, Nat.add_zero, Nat.zero_add, twT hT, twV hV]
        (repeat (refine And.intro (by (first | omega | assumption | trivial | (simp only [inI]; omega) | (simp only [inL]; omega) | (refine jb_01) | (exact jb_in))) ?_))
        refine ⟨0, 0, ⟨by omega, by omega⟩, tw_next (d := d) hT (w1.pv hV) w2 ?_⟩
        intro u u1 u2
        simp (disch := (first | decide | omega)) only [jxs, hps, jtsw, jlsw, List.length_cons, List.length_nil, true_and, and_true, true_implies, false_implies, implies_true, not_true_eq_false, not_false_eq_true, false_and, and_false, if_true, if_false, or_true, true_or, or_false, false_or, Classical.not_not, and_self, Int.reduceAdd, Int.reduceMul, Int.reduceSub, Int.reduceNeg, Int.reduceLT, Int.reduceLE, Int.reduceEq, Int.reduceNe, Int.reduceToNat, Nat.reduceAdd, Nat.reduceMul, Nat.reduceSub, Nat.reduceLeDiff, Nat.reduceLT, Nat.reduceEqDiff, reduceIte, Nat.zero_le, Nat.le_refl, Nat.add_zero, Nat.zero_add, twT hT, twV hV]
        (repeat (refine And.intro (by (first | omega | assumption | trivial | (simp only [inI]; omega) | (simp only [inL]; omega) | (refine jb_01) | (exact jb_in))) ?_))
        refine ⟨0, 0, ⟨by omega, by omega⟩, tw_whole (d := d + 3) hT ((w1.tr u1).pv hV) u2 (by rw [List.length_append]; simp only [List.length_cons, List.length_nil]; omega) (by omega) ?_⟩
        intro y y1 y2
        simp (disch := (first | decide | omega)) only [jxs, hps, jtsw, jlsw, List.length_cons, List.length_nil, true_and, and_true, true_implies, false_implies, implies_true, not_true_eq_false, not_false_eq_true, false_and, and_false, if_true, if_false, or_true, true_or, or_false, false_or, Classical.not_not, and_self, Int.reduceAdd, Int.reduceMul, Int.reduceSub, Int.reduceNeg, Int.reduceLT, Int.reduceLE, Int.reduceEq, Int.reduceNe, Int.reduceToNat, Nat.reduceAdd, Nat.reduceMul, Nat.reduceSub, Nat.reduceLeDiff, Nat.reduceLT, Nat.reduceEqDiff, reduceIte, Nat.zero_le, Nat.le_refl, Nat.add_zero, Nat.zero_add, twT hT, twV hV]
        (repeat (refine And.intro (by (first | omega | assumption | trivial | (simp only [inI]; omega) | (simp only [inL]; omega) | (refine jb_01) | (exact jb_in))) ?_))
        exact hQ _ eb y ((w1.tr u1).tr y1) y2
      · have c7 : ¬ myN kd (nmT (stT B n k)) := by
          first | exact c6 | (intro q; exact c6 q)
        (repeat (refine And.intro (by (first | omega | assumption | trivial | (simp only [inI]; omega) | (simp only [inL]; omega) | (refine jb_01) | (exact jb_in))) ?_))
        refine hE 5 ?_
        unfold begM
        rw [if_neg c3, if_neg e1, if_neg c7]
  · have c3 : stT B n k = 300 := by omega
    have m9n := h10 c3
    refine ⟨fun c2 => ?_, fun c2 => ?_⟩
    · have en : v 539 10 = nuT B n k := by
        have := m9n.1
        unfold m9 at this
        rw [if_pos (by omega)] at this
        exact this
      have eb : begM B n kd k P acc o = .inr (1, nxT B n k, whM P (acc ++ [(0, nuT B n k)]) o) := by
        unfold begM
        rw [if_pos c3, if_neg (by omega)]
      rw [en]
      (repeat (refine And.intro (by (first | omega | assumption | trivial | (simp only [inI]; omega) | (simp only [inL]; omega) | (refine jb_01) | (exact jb_in))) ?_))
      refine ⟨0, 0, ⟨by omega, by omega⟩, tw_emit (d := d + 4) hT hV hS (by omega) ?_⟩
      intro w w1 w2
      simp (disch := (first | decide | omega)) only [jxs, hps, jtsw, jlsw, List.length_cons, List.length_nil, true_and, and_true, true_implies, false_implies, implies_true, not_true_eq_false, not_false_eq_true, false_and, and_false, if_true, if_false, or_true, true_or, or_false, false_or, Classical.not_not, and_self, Int.reduceAdd, Int.reduceMul, Int.reduceSub, Int.reduceNeg, Int.reduceLT, Int.reduceLE, Int.reduceEq, Int.reduceNe, Int.reduceToNat, Nat.reduceAdd, Nat.reduceMul, Nat.reduceSub, Nat.reduceLeDiff, Nat.reduceLT, Nat.reduceEqDiff, reduceIte, Nat.zero_le, Nat.le_refl, Nat.add_zero, Nat.zero_add, twT hT, twV hV]
      (repeat (refine And.intro (by (first | omega | assumption | trivial | (simp only [inI]; omega) | (simp only [inL]; omega) | (refine jb_01) | (exact jb_in))) ?_))
      refine ⟨0, 0, ⟨by omega, by omega⟩, tw_next (d := d) hT (w1.pv hV) w2 ?_⟩
      intro u u1 u2
      simp (disch := (first | decide | omega)) only [jxs, hps, jtsw, jlsw, List.length_cons, List.length_nil, true_and, and_true, true_implies, false_implies, implies_true, not_true_eq_false, not_false_eq_true, false_and, and_false, if_true, if_false, or_true, true_or, or_false, false_or, Classical.not_not, and_self, Int.reduceAdd, Int.reduceMul, Int.reduceSub, Int.reduceNeg, Int.reduceLT, Int.reduceLE, Int.reduceEq, Int.reduceNe, Int.reduceToNat, Nat.reduceAdd, Nat.reduceMul, Nat.reduceSub, Nat.reduceLeDiff, Nat.reduceLT, Nat.reduceEqDiff, reduceIte, Nat.zero_le, Nat.le_refl, Nat.add_zero, Nat.zero_add, twT hT, twV hV]
      (repeat (refine And.intro (by (first | omega | assumption | trivial | (simp only [inI]; omega) | (simp only [inL]; omega) | (refine jb_01) | (exact jb_in))) ?_))
      refine ⟨0, 0, ⟨by omega, by omega⟩, tw_whole (d := d + 3) hT ((w1.tr u1).pv hV) u2 (by rw [List.length_append]; simp only [List.length_cons, List.length_nil]; omega) (by omega) ?_⟩
      intro y y1 y2
      simp (disch := (first | decide | omega)) only [jxs, hps, jtsw, jlsw, List.length_cons, List.length_nil, true_and, and_true, true_implies, false_implies, implies_true, not_true_eq_false, not_false_eq_true, false_and, and_false, if_true, if_false, or_true, true_or, or_false, false_or, Classical.not_not, and_self, Int.reduceAdd, Int.reduceMul, Int.reduceSub, Int.reduceNeg, Int.reduceLT, Int.reduceLE, Int.reduceEq, Int.reduceNe, Int.reduceToNat, Nat.reduceAdd, Nat.reduceMul, Nat.reduceSub, Nat.reduceLeDiff, Nat.reduceLT, Nat.reduceEqDiff, reduceIte, Nat.zero_le, Nat.le_refl, Nat.add_zero, Nat.zero_add, twT hT, twV hV]
      (repeat (refine And.intro (by (first | omega | assumption | trivial | (simp only [inI]; omega) | (simp only [inL]; omega) | (refine jb_01) | (exact jb_in))) ?_))
      exact hQ _ eb y ((w1.tr u1).tr y1) y2
    · (repeat (refine And.intro (by (first | omega | assumption | trivial | (simp only [inI]; omega) | (simp only [inL]; omega) | (refine jb_01) | (exact jb_in))) ?_))
      refine hE 2 ?_
      unfold begM
      have := m9n.1
      unfold m9 at this
      split at this
      · rw [if_pos c3, if_pos (by omega)]
      · rw [if_pos c3, if_pos (by omega)]
end TG
