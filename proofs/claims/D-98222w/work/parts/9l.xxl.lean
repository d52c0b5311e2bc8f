/-! ===== the class: what fits ===== -/
-- MODE X
set_option maxRecDepth 100000
def tkO (x : Int) : Int := if x < 1000000 then x else -1
theorem fiF_mono {A X : Int → Int} {set : Int} (hA : TB A) {j : Nat} : ∀ n : Nat, j + n ≤ 10 → fiF A X set j ≤ fiF A X set (j + n)
  | 0, _ => Int.le_refl _
  | n + 1, h => by
    have h1 := fiF_mono (X := X) (set := set) hA (j := j) n (by omega)
    have h2 := thA_bd (X := X) hA (b := ((j + n : Nat) : Int)) (by omega)
    have e : fiF A X set (j + (n + 1)) = fiF A X set (j + n) + (if set / 2 ^ (j + n) % 2 = 0 then 0 else if A (46 + 6 * ((j + n : Nat) : Int) + 5) = 3 then thA A X ((j + n : Nat) : Int) else 1000000) := rfl
    rw [e]
    repeat' split
    all_goals omega
section XG
variable {g : jjG} {d : Nat} {T : jjT} {Q : jjQ} {A X : Int → Int}
theorem xw_thickOf_1 {set : Int} (hT : PT T) (hs : 0 ≤ set ∧ set < 1024) : ∀ (n j : Nat) (v : Int → Int → Int), PV v → CI (v, T) A X → ((j + n : Nat) : Int) = A 0 → fiF A X set j ≤ 18 * j →
    (∀ w, jkq v w → Q (.inl (some (vI (tkO (fiF A X set (A 0).toNat))))) (w, T)) →
    jW bX0_thickOf (g, d + 113, 0, 0, Q) 1 [some (vR 400), some (vI set), some (vI (fiF A X set j)), some (vI (j : Int))] [] (v, T) 0 0 := by
  intro n
  induction n with
  | zero =>
    intro j v hV hC hj hf hQ
    have h0 := hC.tb.1
    have e : (A 0).toNat = j := by omega
    rw [e] at hQ
    have hb := fiF_bd (X := X) (set := set) hC.tb j (by omega)
    unfold tkO at hQ
    rw [if_pos (by omega)] at hQ
    generalize fiF A X set j = th at *
    refine jW_step ?_
    simp (disch := (first | decide | omega)) only [bX0_thickOf, jxs, hps, jtsw, jlsw, List.length_cons, List.length_nil, true_and, and_true, true_implies, false_implies, implies_true, not_true_eq_false, not_false_eq_true, false_and, and_false, if_true, if_false, or_true, true_or, or_false, false_or, Classical.not_not, and_self, Int.reduceAdd, Int.reduceMul, Int.reduceSub, Int.reduceNeg, Int.reduceLT, Int.reduceLE, Int.reduceEq, Int.reduceNe, Int.reduceToNat, Nat.reduceAdd, Nat.reduceMul, Nat.reduceSub, Nat.reduceLeDiff, Nat.reduceLT, Nat.reduceEqDiff, reduceIte, Nat.zero_le, Nat.le_refl, Nat.add_zero, Nat.zero_add, xwT hT, xwV hV, hC.n0]
    (try refine ⟨fun _ => ?_, fun h9 => (by exfalso; omega)⟩)
    (repeat (refine And.intro (by (first | omega | assumption | trivial | (simp only [inI]; omega) | (simp only [inL]; omega) | (refine jb_01) | (exact jb_in))) ?_))
    exact hQ v (jkq.rf hC.nm)
  | succ n ih =>
    intro j v hV hC hj hf hQ
    have h0 := hC.tb.1
    have hb := fiF_bd (X := X) (set := set) hC.tb j (by omega)
    have ht := thA_bd (X := X) hC.tb (b := (j : Int)) (by omega)
    have k2 : ∀ w, jkq v w → fiF A X set (j + 1) ≤ 18 * ((j : Int) + 1) → jW bX0_thickOf (g, d + 113, 0, 0, Q) 2 [some (vR 400), some (vI set), some (vI (fiF A X set (j + 1))), some (vI (j : Int))] [] (w, T) 0 0 := by
      intro w hw hh
      have hVw := hw.pv hV
      have nx := ih (j + 1) w hVw (hw.ci hC) (by omega) (by omega) (fun y hy => hQ y (hw.tr hy))
      rw [show ((j + 1 : Nat) : Int) = (j : Int) + 1 by omega] at nx
      have hV := hVw
      refine jW_step ?_
      simp (disch := (first | decide | omega)) only [bX0_thickOf, jxs, hps, jtsw, jlsw, List.length_cons, List.length_nil, true_and, and_true, true_implies, false_implies, implies_true, not_true_eq_false, not_false_eq_true, false_and, and_false, if_true, if_false, or_true, true_or, or_false, false_or, Classical.not_not, and_self, Int.reduceAdd, Int.reduceMul, Int.reduceSub, Int.reduceNeg, Int.reduceLT, Int.reduceLE, Int.reduceEq, Int.reduceNe, Int.reduceToNat, Nat.reduceAdd, Nat.reduceMul, Nat.reduceSub, Nat.reduceLeDiff, Nat.reduceLT, Nat.reduceEqDiff, reduceIte, Nat.zero_le, Nat.le_refl, Nat.add_zero, Nat.zero_add, xwT hT, xwV hV]
      (repeat (refine And.intro (by (first | omega | assumption | trivial | (simp only [inI]; omega) | (simp only [inL]; omega) | (refine jb_01) | (exact jb_in))) ?_))
      exact nx
    have e1 : fiF A X set (j + 1) = fiF A X set j + (if set / 2 ^ j % 2 = 0 then 0 else if A (46 + 6 * j + 5) = 3 then thA A X j else 1000000) := rfl
    refine jW_step ?_
    simp (disch := (first | decide | omega)) only [bX0_thickOf, jxs, hps, jtsw, jlsw, List.length_cons, List.length_nil, true_and, and_true, true_implies, false_implies, implies_true, not_true_eq_false, not_false_eq_true, false_and, and_false, if_true, if_false, or_true, true_or, or_false, false_or, Classical.not_not, and_self, Int.reduceAdd, Int.reduceMul, Int.reduceSub, Int.reduceNeg, Int.reduceLT, Int.reduceLE, Int.reduceEq, Int.reduceNe, Int.reduceToNat, Nat.reduceAdd, Nat.reduceMul, Nat.reduceSub, Nat.reduceLeDiff, Nat.reduceLT, Nat.reduceEqDiff, reduceIte, Nat.zero_le, Nat.le_refl, Nat.add_zero, Nat.zero_add, xwT hT, xwV hV, hC.n0]
    (first | refine ⟨fun h9 => (by exfalso; omega), fun _ => ?_⟩ | intro _)
    rw [jbit ⟨by omega, by omega⟩ (by omega) (by omega), Int.toNat_natCast]
    refine ⟨fun h => ?_, fun h => ?_⟩
    · (repeat (refine And.intro (by (first | omega | assumption | trivial | (simp only [inI]; omega) | (simp only [inL]; omega) | (refine jb_01) | (exact jb_in))) ?_))
      have h1 : ¬ set / 2 ^ j % 2 = 0 := by omega
      rw [if_neg h1] at e1
      refine ⟨0, 0, ⟨by omega, by omega⟩, xw_whereIs hT hV hC ⟨by omega, by omega⟩ ?_⟩
      simp (disch := (first | decide | omega)) only [jxs, hps, jtsw, jlsw, List.length_cons, List.length_nil, true_and, and_true, true_implies, false_implies, implies_true, not_true_eq_false, not_false_eq_true, false_and, and_false, if_true, if_false, or_true, true_or, or_false, false_or, Classical.not_not, and_self, Int.reduceAdd, Int.reduceMul, Int.reduceSub, Int.reduceNeg, Int.reduceLT, Int.reduceLE, Int.reduceEq, Int.reduceNe, Int.reduceToNat, Nat.reduceAdd, Nat.reduceMul, Nat.reduceSub, Nat.reduceLeDiff, Nat.reduceLT, Nat.reduceEqDiff, reduceIte, Nat.zero_le, Nat.le_refl, Nat.add_zero, Nat.zero_add, xwT hT, xwV hV]
      refine ⟨fun h2 => ?_, fun h2 => ?_⟩
      · rw [if_pos (by omega)] at e1
        (repeat (refine And.intro (by (first | omega | assumption | trivial | (simp only [inI]; omega) | (simp only [inL]; omega) | (refine jb_01) | (exact jb_in))) ?_))
        refine ⟨0, 0, ⟨by omega, by omega⟩, xw_thickNow (d := d + 1) hT hV hC ⟨by omega, by omega⟩ ?_⟩
        intro w hw
        have hV0 := hV
        have hV := hw.pv hV0
        simp (disch := (first | decide | omega)) only [jxs, hps, jtsw, jlsw, List.length_cons, List.length_nil, true_and, and_true, true_implies, false_implies, implies_true, not_true_eq_false, not_false_eq_true, false_and, and_false, if_true, if_false, or_true, true_or, or_false, false_or, Classical.not_not, and_self, Int.reduceAdd, Int.reduceMul, Int.reduceSub, Int.reduceNeg, Int.reduceLT, Int.reduceLE, Int.reduceEq, Int.reduceNe, Int.reduceToNat, Nat.reduceAdd, Nat.reduceMul, Nat.reduceSub, Nat.reduceLeDiff, Nat.reduceLT, Nat.reduceEqDiff, reduceIte, Nat.zero_le, Nat.le_refl, Nat.add_zero, Nat.zero_add, xwT hT, xwV hV]
        (repeat (refine And.intro (by (first | omega | assumption | trivial | (simp only [inI]; omega) | (simp only [inL]; omega) | (refine jb_01) | (exact jb_in))) ?_))
        rw [← e1]
        exact k2 w hw (by omega)
      · rw [if_neg (by omega)] at e1
        have m := fiF_mono (X := X) (set := set) hC.tb (j := j + 1) n (by omega)
        rw [show (A 0).toNat = j + 1 + n by omega] at hQ
        unfold tkO at hQ
        rw [if_neg (by omega)] at hQ
        (repeat (refine And.intro (by (first | omega | assumption | trivial | (simp only [inI]; omega) | (simp only [inL]; omega) | (refine jb_01) | (exact jb_in))) ?_))
        exact hQ v (jkq.rf hC.nm)
    · have h1 : set / 2 ^ j % 2 = 0 := by omega
      rw [if_pos h1] at e1
      have nx := k2 v (jkq.rf hC.nm) (by omega)
      rw [e1, Int.add_zero] at nx
      (repeat (refine And.intro (by (first | omega | assumption | trivial | (simp only [inI]; omega) | (simp only [inL]; omega) | (refine jb_01) | (exact jb_in))) ?_))
      exact nx
theorem xw_thickOf {set : Int} {v : Int → Int → Int} (hT : PT T) (hV : PV v) (hC : CI (v, T) A X) (hs : 0 ≤ set ∧ set < 1024) (hQ : ∀ w, jkq v w → Q (.inl (some (vI (tkO (fiF A X set (A 0).toNat))))) (w, T)) : jmet g (d + 114) 0 0 MX0_thickOf [vR 400, vI set] (v, T) Q := by
  have h0 := hC.tb.1
  refine jmet_of (ls := [some (vR 400), some (vI set), none, none]) sX0_thickOf rfl (by decide +kernel) (by decide) rfl (by simp [jent]) ?_
  refine jW_step ?_
  simp (disch := (first | decide | omega)) only [bX0_thickOf, jxs, hps, jtsw, jlsw, List.length_cons, List.length_nil, true_and, and_true, true_implies, false_implies, implies_true, not_true_eq_false, not_false_eq_true, false_and, and_false, if_true, if_false, or_true, true_or, or_false, false_or, Classical.not_not, and_self, Int.reduceAdd, Int.reduceMul, Int.reduceSub, Int.reduceNeg, Int.reduceLT, Int.reduceLE, Int.reduceEq, Int.reduceNe, Int.reduceToNat, Nat.reduceAdd, Nat.reduceMul, Nat.reduceSub, Nat.reduceLeDiff, Nat.reduceLT, Nat.reduceEqDiff, reduceIte, Nat.zero_le, Nat.le_refl, Nat.add_zero, Nat.zero_add, xwT hT, xwV hV]
  exact xw_thickOf_1 hT hs (A 0).toNat 0 v hV hC (by omega) (by unfold fiF; omega) hQ
theorem xw_fits_1 {s room : Int} (hT : PT T) (hr : room < 1000000) : ∀ (n : Nat) (set best thin : Int) (v : Int → Int → Int), PV v → CI (v, T) A X → 1 ≤ set → (2 : Int) ^ (A 0).toNat = set + n → (0 ≤ best ∧ best ≤ 1023) →
    (∀ u, jkq v u → Q (.inl (some (vI (fiL A X room n set best thin)))) (u, T)) →
    jW bX0_fits (g, d + 115, 0, 0, Q) 1 [some (vR 400), some (vI s), some (vI room), some (vI best), some (vI thin), some (vI set), none, none, none] [] (v, T) 0 0 := by
  intro n
  induction n with
  | zero =>
    intro set best thin v hV hC h1 hn hb hQ
    have h0 := hC.tb.1
    unfold fiL at hQ
    refine jW_step ?_
    simp (disch := (first | decide | omega)) only [bX0_fits, jxs, hps, jtsw, jlsw, List.length_cons, List.length_nil, true_and, and_true, true_implies, false_implies, implies_true, not_true_eq_false, not_false_eq_true, false_and, and_false, if_true, if_false, or_true, true_or, or_false, false_or, Classical.not_not, and_self, Int.reduceAdd, Int.reduceMul, Int.reduceSub, Int.reduceNeg, Int.reduceLT, Int.reduceLE, Int.reduceEq, Int.reduceNe, Int.reduceToNat, Nat.reduceAdd, Nat.reduceMul, Nat.reduceSub, Nat.reduceLeDiff, Nat.reduceLT, Nat.reduceEqDiff, reduceIte, Nat.zero_le, Nat.le_refl, Nat.add_zero, Nat.zero_add, xwT hT, xwV hV, hC.n0]
    rw [jshl_1 h0.1 (by omega)]
    (try refine ⟨fun _ => ?_, fun h9 => (by exfalso; omega)⟩)
    (repeat (refine And.intro (by (first | omega | assumption | trivial | (simp only [inI]; omega) | (simp only [inL]; omega) | (refine jb_01) | (exact jb_in))) ?_))
    exact hQ v (jkq.rf hC.nm)
  | succ n ih =>
    intro set best thin v hV hC h1 hn hb hQ
    have h0 := hC.tb.1
    have hp := pow_bd h0
    have hf := fiF_bd (X := X) (set := set) hC.tb (A 0).toNat (by omega)
    unfold fiL at hQ
    have k3 : ∀ u b t l6 l7 l8, jkq v u → (0 ≤ b ∧ b ≤ 1023) → (∀ y, jkq v y → Q (.inl (some (vI (fiL A X room n (set + 1) b t)))) (y, T)) → jW bX0_fits (g, d + 115, 0, 0, Q) 3 [some (vR 400), some (vI s), some (vI room), some (vI b), some (vI t), some (vI set), l6, l7, l8] [] (u, T) 0 0 := by
      intro u b t l6 l7 l8 hu hbb hq
      have hVu := hu.pv hV
      have hV := hVu
      refine jW_step ?_
      simp (disch := (first | decide | omega)) only [bX0_fits, jxs, hps, jtsw, jlsw, List.length_cons, List.length_nil, true_and, and_true, true_implies, false_implies, implies_true, not_true_eq_false, not_false_eq_true, false_and, and_false, if_true, if_false, or_true, true_or, or_false, false_or, Classical.not_not, and_self, Int.reduceAdd, Int.reduceMul, Int.reduceSub, Int.reduceNeg, Int.reduceLT, Int.reduceLE, Int.reduceEq, Int.reduceNe, Int.reduceToNat, Nat.reduceAdd, Nat.reduceMul, Nat.reduceSub, Nat.reduceLeDiff, Nat.reduceLT, Nat.reduceEqDiff, reduceIte, Nat.zero_le, Nat.le_refl, Nat.add_zero, Nat.zero_add, xwT hT, xwV hV]
      (repeat (refine And.intro (by (first | omega | assumption | trivial | (simp only [inI]; omega) | (simp only [inL]; omega) | (refine jb_01) | (exact jb_in))) ?_))
      refine jW_sub (ls' := [some (vR 400), some (vI s), some (vI room), some (vI b), some (vI t), some (vI (set + 1)), none, none, none]) (by simp [jsub]) ?_
      exact ih (set + 1) b t u hVu (hu.ci hC) (by omega) (by omega) hbb (fun w hw => hq w (hu.tr hw))
    refine jW_step ?_
    simp (disch := (first | decide | omega)) only [bX0_fits, jxs, hps, jtsw, jlsw, List.length_cons, List.length_nil, true_and, and_true, true_implies, false_implies, implies_true, not_true_eq_false, not_false_eq_true, false_and, and_false, if_true, if_false, or_true, true_or, or_false, false_or, Classical.not_not, and_self, Int.reduceAdd, Int.reduceMul, Int.reduceSub, Int.reduceNeg, Int.reduceLT, Int.reduceLE, Int.reduceEq, Int.reduceNe, Int.reduceToNat, Nat.reduceAdd, Nat.reduceMul, Nat.reduceSub, Nat.reduceLeDiff, Nat.reduceLT, Nat.reduceEqDiff, reduceIte, Nat.zero_le, Nat.le_refl, Nat.add_zero, Nat.zero_add, xwT hT, xwV hV, hC.n0]
    rw [jshl_1 h0.1 (by omega)]
    (first | refine ⟨fun h9 => (by exfalso; omega), fun _ => ?_⟩ | intro _)
    refine ⟨0, 0, ⟨by omega, by omega⟩, xw_thickOf (set := set) (d := d + 1) hT hV hC ⟨by omega, by omega⟩ ?_⟩
    intro w hw
    have hV0 := hV
    have hV := hw.pv hV0
    have b1 := bc_bd (s := set)
    have b2 := bc_bd (s := best)
    simp (disch := (first | decide | omega)) only [jxs, hps, jtsw, jlsw, List.length_cons, List.length_nil, true_and, and_true, true_implies, false_implies, implies_true, not_true_eq_false, not_false_eq_true, false_and, and_false, if_true, if_false, or_true, true_or, or_false, false_or, Classical.not_not, and_self, Int.reduceAdd, Int.reduceMul, Int.reduceSub, Int.reduceNeg, Int.reduceLT, Int.reduceLE, Int.reduceEq, Int.reduceNe, Int.reduceToNat, Nat.reduceAdd, Nat.reduceMul, Nat.reduceSub, Nat.reduceLeDiff, Nat.reduceLT, Nat.reduceEqDiff, reduceIte, Nat.zero_le, Nat.le_refl, Nat.add_zero, Nat.zero_add, xwT hT, xwV hV]
    refine ⟨0, 0, ⟨by omega, by omega⟩, xj_bitCount (by omega) ?_⟩
    simp (disch := (first | decide | omega)) only [jxs, hps, jtsw, jlsw, List.length_cons, List.length_nil, true_and, and_true, true_implies, false_implies, implies_true, not_true_eq_false, not_false_eq_true, false_and, and_false, if_true, if_false, or_true, true_or, or_false, false_or, Classical.not_not, and_self, Int.reduceAdd, Int.reduceMul, Int.reduceSub, Int.reduceNeg, Int.reduceLT, Int.reduceLE, Int.reduceEq, Int.reduceNe, Int.reduceToNat, Nat.reduceAdd, Nat.reduceMul, Nat.reduceSub, Nat.reduceLeDiff, Nat.reduceLT, Nat.reduceEqDiff, reduceIte, Nat.zero_le, Nat.le_refl, Nat.add_zero, Nat.zero_add, xwT hT, xwV hV]
    refine ⟨0, 0, ⟨by omega, by omega⟩, xj_bitCount (by omega) ?_⟩
    simp (disch := (first | decide | omega)) only [jxs, hps, jtsw, jlsw, List.length_cons, List.length_nil, true_and, and_true, true_implies, false_implies, implies_true, not_true_eq_false, not_false_eq_true, false_and, and_false, if_true, if_false, or_true, true_or, or_false, false_or, Classical.not_not, and_self, Int.reduceAdd, Int.reduceMul, Int.reduceSub, Int.reduceNeg, Int.reduceLT, Int.reduceLE, Int.reduceEq, Int.reduceNe, Int.reduceToNat, Nat.reduceAdd, Nat.reduceMul, Nat.reduceSub, Nat.reduceLeDiff, Nat.reduceLT, Nat.reduceEqDiff, reduceIte, Nat.zero_le, Nat.le_refl, Nat.add_zero, Nat.zero_add, xwT hT, xwV hV]
    generalize fiF A X set (A 0).toNat = th at *
    unfold tkO
    by_cases q : th < 1000000
    · rw [if_pos q]
      have kn : (room < th ∨ bc set < bc best ∨ (bc set = bc best ∧ thin ≤ th)) → jW bX0_fits (g, d + 115, 0, 0, Q) 3 [some (vR 400), some (vI s), some (vI room), some (vI best), some (vI thin), some (vI set), some (vI th), some (vI (bc set)), some (vI (bc best))] [] (w, T) 0 0 := by
        intro qq
        rw [if_pos qq] at hQ
        exact k3 w best thin _ _ _ hw hb hQ
      have ky : ¬ (room < th ∨ bc set < bc best ∨ (bc set = bc best ∧ thin ≤ th)) → jW bX0_fits (g, d + 115, 0, 0, Q) 2 [some (vR 400), some (vI s), some (vI room), some (vI best), some (vI thin), some (vI set), some (vI th), some (vI (bc set)), some (vI (bc best))] [] (w, T) 0 0 := by
        intro qq
        rw [if_neg qq] at hQ
        refine jW_step ?_
        simp (disch := (first | decide | omega)) only [bX0_fits, jxs, hps, jtsw, jlsw, List.length_cons, List.length_nil, true_and, and_true, true_implies, false_implies, implies_true, not_true_eq_false, not_false_eq_true, false_and, and_false, if_true, if_false, or_true, true_or, or_false, false_or, Classical.not_not, and_self, Int.reduceAdd, Int.reduceMul, Int.reduceSub, Int.reduceNeg, Int.reduceLT, Int.reduceLE, Int.reduceEq, Int.reduceNe, Int.reduceToNat, Nat.reduceAdd, Nat.reduceMul, Nat.reduceSub, Nat.reduceLeDiff, Nat.reduceLT, Nat.reduceEqDiff, reduceIte, Nat.zero_le, Nat.le_refl, Nat.add_zero, Nat.zero_add, xwT hT, xwV hV]
        exact k3 w set th _ _ _ hw (by omega) hQ
      (first | refine ⟨fun h9 => (by exfalso; omega), fun _ => ?_⟩ | intro _)
      refine ⟨fun h2 => ?_, fun h2 => ?_⟩
      · exact kn (Or.inl (by omega))
      refine ⟨fun h3 => ?_, fun h3 => ?_⟩
      · exact kn (Or.inr (Or.inl (by omega)))
      refine ⟨fun h4 => ?_, fun h4 => ?_⟩
      · exact ky (by omega)
      · refine ⟨fun h5 => ?_, fun h5 => ?_⟩
        · exact ky (by omega)
        · exact kn (Or.inr (Or.inr ⟨by omega, by omega⟩))
    · rw [if_neg q]
      rw [if_pos (Or.inl (by omega))] at hQ
      (try refine ⟨fun _ => ?_, fun h9 => (by exfalso; omega)⟩)
      exact k3 w best thin _ _ _ hw hb hQ
theorem xw_fits {v : Int → Int → Int} {s : Int} (hT : PT T) (hV : PV v) (hC : CI (v, T) A X) (hH : SH A) (hW : TW A) (hQ : ∀ u, jkq v u → Q (.inl (some (vI (fitsA A X s)))) (u, T)) : jmet g (d + 116) 0 0 MX0_fits [vR 400, vI s] (v, T) Q := by
  have h0 := hC.tb.1
  have hp := pow_bd h0
  refine jmet_of (ls := [some (vR 400), some (vI s), none, none, none, none, none, none, none]) sX0_fits rfl (by decide +kernel) (by decide) rfl (by simp [jent]) ?_
  unfold fitsA at hQ
  refine jW_step ?_
  simp (disch := (first | decide | omega)) only [bX0_fits, jxs, hps, jtsw, jlsw, List.length_cons, List.length_nil, true_and, and_true, true_implies, false_implies, implies_true, not_true_eq_false, not_false_eq_true, false_and, and_false, if_true, if_false, or_true, true_or, or_false, false_or, Classical.not_not, and_self, Int.reduceAdd, Int.reduceMul, Int.reduceSub, Int.reduceNeg, Int.reduceLT, Int.reduceLE, Int.reduceEq, Int.reduceNe, Int.reduceToNat, Nat.reduceAdd, Nat.reduceMul, Nat.reduceSub, Nat.reduceLeDiff, Nat.reduceLT, Nat.reduceEqDiff, reduceIte, Nat.zero_le, Nat.le_refl, Nat.add_zero, Nat.zero_add, xwT hT, xwV hV]
  refine ⟨0, 0, ⟨by omega, by omega⟩, xw_isShelf ?_⟩
  simp (disch := (first | decide | omega)) only [jxs, hps, jtsw, jlsw, List.length_cons, List.length_nil, true_and, and_true, true_implies, false_implies, implies_true, not_true_eq_false, not_false_eq_true, false_and, and_false, if_true, if_false, or_true, true_or, or_false, false_or, Classical.not_not, and_self, Int.reduceAdd, Int.reduceMul, Int.reduceSub, Int.reduceNeg, Int.reduceLT, Int.reduceLE, Int.reduceEq, Int.reduceNe, Int.reduceToNat, Nat.reduceAdd, Nat.reduceMul, Nat.reduceSub, Nat.reduceLeDiff, Nat.reduceLT, Nat.reduceEqDiff, reduceIte, Nat.zero_le, Nat.le_refl, Nat.add_zero, Nat.zero_add, xwT hT, xwV hV]
  refine ⟨fun h => ?_, fun h => ?_⟩
  · rw [if_pos h] at hQ
    have w := hW (10 + s) (by omega) (by omega)
    have hm := hC.tb.2.2.2.2.2.1 (13 + s) (by omega) (by omega)
    have fb := fuF_bd (X := X) hC.tb (s := s) (by omega) (A (13 + s)).toNat (by omega)
    have fe : fuA A X s = fuF A X s (A (13 + s)).toNat := rfl
    rw [← fe] at fb
    have ew := hC.w (s := s) (by omega)
    simp (disch := (first | decide | omega)) only [jxs, hps, jtsw, jlsw, List.length_cons, List.length_nil, true_and, and_true, true_implies, false_implies, implies_true, not_true_eq_false, not_false_eq_true, false_and, and_false, if_true, if_false, or_true, true_or, or_false, false_or, Classical.not_not, and_self, Int.reduceAdd, Int.reduceMul, Int.reduceSub, Int.reduceNeg, Int.reduceLT, Int.reduceLE, Int.reduceEq, Int.reduceNe, Int.reduceToNat, Nat.reduceAdd, Nat.reduceMul, Nat.reduceSub, Nat.reduceLeDiff, Nat.reduceLT, Nat.reduceEqDiff, reduceIte, Nat.zero_le, Nat.le_refl, Nat.add_zero, Nat.zero_add, xwT hT, xwV hV, ew]
    (repeat (refine And.intro (by (first | omega | assumption | trivial | (simp only [inI]; omega) | (simp only [inL]; omega) | (refine jb_01) | (exact jb_in))) ?_))
    refine ⟨0, 0, ⟨by omega, by omega⟩, xw_fullOf (d := d + 2) hT hV hC hH (by omega) ?_⟩
    intro u hu
    have hV0 := hV
    have hV := hu.pv hV0
    simp (disch := (first | decide | omega)) only [jxs, hps, jtsw, jlsw, List.length_cons, List.length_nil, true_and, and_true, true_implies, false_implies, implies_true, not_true_eq_false, not_false_eq_true, false_and, and_false, if_true, if_false, or_true, true_or, or_false, false_or, Classical.not_not, and_self, Int.reduceAdd, Int.reduceMul, Int.reduceSub, Int.reduceNeg, Int.reduceLT, Int.reduceLE, Int.reduceEq, Int.reduceNe, Int.reduceToNat, Nat.reduceAdd, Nat.reduceMul, Nat.reduceSub, Nat.reduceLeDiff, Nat.reduceLT, Nat.reduceEqDiff, reduceIte, Nat.zero_le, Nat.le_refl, Nat.add_zero, Nat.zero_add, xwT hT, xwV hV]
    (repeat (refine And.intro (by (first | omega | assumption | trivial | (simp only [inI]; omega) | (simp only [inL]; omega) | (refine jb_01) | (exact jb_in))) ?_))
    exact xw_fits_1 hT (by omega) ((2 : Int) ^ (A 0).toNat - 1).toNat 1 0 0 u hV (hu.ci hC) (by omega) (by omega) (by omega) (fun y hy => hQ y (hu.tr hy))
  · rw [if_neg h] at hQ
    (repeat (refine And.intro (by (first | omega | assumption | trivial | (simp only [inI]; omega) | (simp only [inL]; omega) | (refine jb_01) | (exact jb_in))) ?_))
    exact hQ v (jkq.rf hC.nm)
end XG
