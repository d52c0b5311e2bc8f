/-! ===== the reference: full, pushes, changes ===== -/
set_option maxRecDepth 100000
theorem thA_bd {A X : Int → Int} {b : Int} (hA : TB A) (hb : 0 ≤ b ∧ b < 10) : 0 ≤ thA A X b ∧ thA A X b ≤ 18 := by
  unfold thA
  have ha2 := hA.2.2.2.2.2.2 (46 + 6 * b + 2) (by omega) (by omega)
  split
  · have := cl9_bd (EV (nmO (fun _ => 0) A b) (tcode X (A 6) (clA A X 2 0)))
    omega
  · omega
theorem fuF_bd {A X : Int → Int} {s : Int} (hA : TB A) (hs : 0 ≤ s ∧ s < 3) : ∀ n : Nat, n ≤ 10 → 0 ≤ fuF A X s n ∧ fuF A X s n ≤ 18 * n
  | 0, _ => by unfold fuF; omega
  | n + 1, h => by
    have h1 := fuF_bd hA hs (X := X) n (by omega)
    have h2 := hA.2.2.2.2.2.2 (16 + 10 * s + n) (by omega) (by omega)
    have h3 := thA_bd (X := X) hA (b := A (16 + 10 * s + n)) (by omega)
    unfold fuF
    omega
theorem ET_bd {N : Int → Int} {c : List (Int × Int)} {b : Int} (h : rpn N c ([], []) = some ([], [b])) : ET N c = b := by unfold ET; rw [h]
/-- what lies on the pile of truths is 0 or 1 -/
theorem rst_bdT {N : Int → Int} {c : Int × Int} {s s' : rpS} (hb : bdT s.2) (h : rst N c s = some s') : bdT s'.2 := by
  unfold rst at h
  split at h
  · cases h; exact hb
  split at h
  · split at h
    · cases h; exact hb
    · cases h
  split at h
  · split at h
    · cases h; exact hb
    · cases h
  split at h
  · split at h
    · cases h; exact bdT_cons.mpr ⟨askz_bd _ _ _, hb⟩
    · cases h
  split at h
  · split at h
    · rename_i e
      cases h
      rw [e] at hb
      exact bdT_cons.mpr ⟨jb_01, (bdT_cons.mp hb).2⟩
    · cases h
  · split at h
    · rename_i e
      cases h
      rw [e] at hb
      refine bdT_cons.mpr ⟨?_, (bdT_cons.mp (bdT_cons.mp hb).2).2⟩
      split <;> exact jb_01
    · cases h
theorem rpn_bdT {N : Int → Int} : ∀ (cs : List (Int × Int)) (s s' : rpS), bdT s.2 → rpn N cs s = some s' → bdT s'.2
  | [], s, s', hb, h => by unfold rpn at h; cases h; exact hb
  | c :: cs, s, s', hb, h => by
    unfold rpn at h
    cases hr : rst N c s with
    | none => rw [hr] at h; cases h
    | some s1 =>
      rw [hr] at h
      exact rpn_bdT cs s1 s' (rst_bdT hb hr) h
section TG
variable {g : jjG} {d : Nat} {T : jjT} {Q : jjQ}
theorem tw_fullOf_L {s : Int} (hT : PT T) (hs : 0 ≤ s ∧ s < 3) : ∀ (n k : Nat) (v : Int → Int → Int) (acc : Int), PV v → TE v → v 540 (13 + s) = ((k + n : Nat) : Int) → acc = fuF (v 540) (v 542) s k →
    (∀ w, jk v w → Q (.inl (some (vI (fuF (v 540) (v 542) s (k + n))))) (w, T)) → jW bX2_fullOf (g, d + 4, 0, 0, Q) 1 [some (vR 539), some (vI s), some (vI acc), some (vI (k : Int))] [] (v, T) 0 0 := by
  intro n
  induction n with
  | zero =>
    intro k v acc hV hE hm ha hQ
    refine jW_step ?_
    simp (disch := (first | decide | omega)) only [bX2_fullOf, jxs, hps, jtsw, jlsw, List.length_cons, List.length_nil, true_and, and_true, true_implies, false_implies, implies_true, not_true_eq_false, not_false_eq_true, false_and, and_false, if_true, if_false, or_true, true_or, or_false, false_or, Classical.not_not, and_self, Int.reduceAdd, Int.reduceMul, Int.reduceSub, Int.reduceNeg, Int.reduceLT, Int.reduceLE, Int.reduceEq, Int.reduceNe, Int.reduceToNat, Nat.reduceAdd, Nat.reduceMul, Nat.reduceSub, Nat.reduceLeDiff, Nat.reduceLT, Nat.reduceEqDiff, reduceIte, Nat.zero_le, Nat.le_refl, Nat.add_zero, Nat.zero_add, twT hT, twV hV]
    (repeat (refine And.intro (by (first | omega | assumption | trivial | (simp only [inI]; omega) | (simp only [inL]; omega) | (refine jb_01) | (exact jb_in))) ?_))
    (try refine ⟨fun _ => ?_, fun h9 => (by exfalso; omega)⟩)
    (repeat (refine And.intro (by (first | omega | assumption | trivial | (simp only [inI]; omega) | (simp only [inL]; omega) | (refine jb_01) | (exact jb_in))) ?_))
    subst ha
    exact hQ v jk.rf
  | succ n ih =>
    intro k v acc hV hE hm ha hQ
    have hA := hE.1
    have hm2 := hA.2.2.2.2.2.1 (13 + s) (by omega) (by omega)
    have hb := hA.2.2.2.2.2.2 (16 + 10 * s + k) (by omega) (by omega)
    have h1 := thA_bd (X := v 542) hA (b := v 540 (16 + 10 * s + k)) (by omega)
    have h2 := fuF_bd (X := v 542) hA hs k (by omega)
    refine jW_step ?_
    simp (disch := (first | decide | omega)) only [bX2_fullOf, jxs, hps, jtsw, jlsw, List.length_cons, List.length_nil, true_and, and_true, true_implies, false_implies, implies_true, not_true_eq_false, not_false_eq_true, false_and, and_false, if_true, if_false, or_true, true_or, or_false, false_or, Classical.not_not, and_self, Int.reduceAdd, Int.reduceMul, Int.reduceSub, Int.reduceNeg, Int.reduceLT, Int.reduceLE, Int.reduceEq, Int.reduceNe, Int.reduceToNat, Nat.reduceAdd, Nat.reduceMul, Nat.reduceSub, Nat.reduceLeDiff, Nat.reduceLT, Nat.reduceEqDiff, reduceIte, Nat.zero_le, Nat.le_refl, Nat.add_zero, Nat.zero_add, twT hT, twV hV]
    (repeat (refine And.intro (by (first | omega | assumption | trivial | (simp only [inI]; omega) | (simp only [inL]; omega) | (refine jb_01) | (exact jb_in))) ?_))
    (first | refine ⟨fun h9 => (by exfalso; omega), fun _ => ?_⟩ | intro _)
    (repeat (refine And.intro (by (first | omega | assumption | trivial | (simp only [inI]; omega) | (simp only [inL]; omega) | (refine jb_01) | (exact jb_in))) ?_))
    refine ⟨0, 0, ⟨by omega, by omega⟩, tw_bookAt hT (by (first | assumption | (repeat (first | assumption | refine PV.A ?_ (by decide) | refine PV.F ?_ ?_ | refine twR.up ?_ (by decide) | refine PV.r ?_)))) (by (first | omega | assumption | trivial | (simp only [inI]; omega) | (simp only [inL]; omega) | (refine jb_01) | (exact jb_in))) ?_⟩
    simp (disch := (first | decide | omega)) only [jxs, hps, jtsw, jlsw, List.length_cons, List.length_nil, true_and, and_true, true_implies, false_implies, implies_true, not_true_eq_false, not_false_eq_true, false_and, and_false, if_true, if_false, or_true, true_or, or_false, false_or, Classical.not_not, and_self, Int.reduceAdd, Int.reduceMul, Int.reduceSub, Int.reduceNeg, Int.reduceLT, Int.reduceLE, Int.reduceEq, Int.reduceNe, Int.reduceToNat, Nat.reduceAdd, Nat.reduceMul, Nat.reduceSub, Nat.reduceLeDiff, Nat.reduceLT, Nat.reduceEqDiff, reduceIte, Nat.zero_le, Nat.le_refl, Nat.add_zero, Nat.zero_add, twT hT, twV hV]
    (repeat (refine And.intro (by (first | omega | assumption | trivial | (simp only [inI]; omega) | (simp only [inL]; omega) | (refine jb_01) | (exact jb_in))) ?_))
    refine ⟨0, 0, ⟨by omega, by omega⟩, tw_thickNow hT hV ⟨hE, by omega, by omega⟩ ?_⟩
    intro w hw
    simp (disch := (first | decide | omega)) only [jxs, hps, jtsw, jlsw, List.length_cons, List.length_nil, true_and, and_true, true_implies, false_implies, implies_true, not_true_eq_false, not_false_eq_true, false_and, and_false, if_true, if_false, or_true, true_or, or_false, false_or, Classical.not_not, and_self, Int.reduceAdd, Int.reduceMul, Int.reduceSub, Int.reduceNeg, Int.reduceLT, Int.reduceLE, Int.reduceEq, Int.reduceNe, Int.reduceToNat, Nat.reduceAdd, Nat.reduceMul, Nat.reduceSub, Nat.reduceLeDiff, Nat.reduceLT, Nat.reduceEqDiff, reduceIte, Nat.zero_le, Nat.le_refl, Nat.add_zero, Nat.zero_add, twT hT, twV hV]
    (repeat (refine And.intro (by (first | omega | assumption | trivial | (simp only [inI]; omega) | (simp only [inL]; omega) | (refine jb_01) | (exact jb_in))) ?_))
    have e := hw.a
    have e2 := hw.x
    refine ih (k + 1) w _ (hw.pv hV) (hw.te hE) (by rw [e]; omega) ?_ ?_
    · rw [e, e2, ha]
      rfl
    · intro u hu
      rw [e, e2]
      have := hQ u (hw.tr hu)
      rwa [show k + 1 + n = k + (n + 1) by omega]
theorem tw_fullOf {v : Int → Int → Int} {s : Int} (hT : PT T) (hV : PV v) (hS : TE v ∧ 0 ≤ s ∧ s < 3) (hQ : ∀ w, jk v w → Q (.inl (some (vI (fuA (v 540) (v 542) s)))) (w, T)) : jmet g (d + 5) 0 0 MX2_fullOf [vR 539, vI s] (v, T) Q := by
  refine jmet_of (ls := [some (vR 539), some (vI s), none, none]) sX2_fullOf rfl (by decide +kernel) (by decide) rfl (by simp [jent]) ?_
  have hm2 := hS.1.1.2.2.2.2.2.1 (13 + s) (by omega) (by omega)
  refine jW_step ?_
  simp (disch := (first | decide | omega)) only [bX2_fullOf, jxs, hps, jtsw, jlsw, List.length_cons, List.length_nil, true_and, and_true, true_implies, false_implies, implies_true, not_true_eq_false, not_false_eq_true, false_and, and_false, if_true, if_false, or_true, true_or, or_false, false_or, Classical.not_not, and_self, Int.reduceAdd, Int.reduceMul, Int.reduceSub, Int.reduceNeg, Int.reduceLT, Int.reduceLE, Int.reduceEq, Int.reduceNe, Int.reduceToNat, Nat.reduceAdd, Nat.reduceMul, Nat.reduceSub, Nat.reduceLeDiff, Nat.reduceLT, Nat.reduceEqDiff, reduceIte, Nat.zero_le, Nat.le_refl, Nat.add_zero, Nat.zero_add, twT hT, twV hV]
  refine tw_fullOf_L hT hS.2 (v 540 (13 + s)).toNat 0 v 0 hV hS.1 (by omega) rfl ?_
  intro w hw
  rw [Nat.zero_add]
  exact hQ w hw
theorem pbA_01 {v : Int → Int → Int} (hE : TE v) {la b o r : Int} : 0 ≤ pbA (v 540) (v 542) la b o r ∧ pbA (v 540) (v 542) la b o r ≤ 1 := by
  unfold pbA
  split
  · omega
  · have hcl := clA_in hE (so := 0) (la := la) (by omega)
    obtain ⟨z, hz⟩ := hcl.2.2.2.2.2.1 (by omega) (nmP (fun _ => 0) (v 540) b o r)
    rw [ET_bd hz]
    have := rpn_bdT _ _ _ (fun _ h => absurd h (List.not_mem_nil)) hz
    exact this z (List.mem_cons_self ..)
theorem tw_pushesBy {v : Int → Int → Int} {la b o r : Int} (hT : PT T) (hV : PV v) (hS : TE v ∧ (0 ≤ b ∧ b < 10) ∧ (0 ≤ o ∧ o < 10) ∧ (0 ≤ r ∧ r ≤ 1)) (hQ : ∀ w, jk v w → Q (.inl (some (vI (pbA (v 540) (v 542) la b o r)))) (w, T)) : jmet g (d + 4) 0 0 MX2_pushesBy [vR 539, vI la, vI b, vI o, vI r] (v, T) Q := by
  obtain ⟨hE, hb, ho, hr⟩ := hS
  have hA := hE.1
  have h01 := pbA_01 hE (la := la) (b := b) (o := o) (r := r)
  refine jmet_of (ls := [some (vR 539), some (vI la), some (vI b), some (vI o), some (vI r), none, none]) sX2_pushesBy rfl (by decide +kernel) (by decide) rfl (by simp [jent]) ?_
  refine jW_step ?_
  simp (disch := (first | decide | omega)) only [bX2_pushesBy, jxs, hps, jtsw, jlsw, List.length_cons, List.length_nil, true_and, and_true, true_implies, false_implies, implies_true, not_true_eq_false, not_false_eq_true, false_and, and_false, if_true, if_false, or_true, true_or, or_false, false_or, Classical.not_not, and_self, Int.reduceAdd, Int.reduceMul, Int.reduceSub, Int.reduceNeg, Int.reduceLT, Int.reduceLE, Int.reduceEq, Int.reduceNe, Int.reduceToNat, Nat.reduceAdd, Nat.reduceMul, Nat.reduceSub, Nat.reduceLeDiff, Nat.reduceLT, Nat.reduceEqDiff, reduceIte, Nat.zero_le, Nat.le_refl, Nat.add_zero, Nat.zero_add, twT hT, twV hV]
  (repeat (refine And.intro (by (first | omega | assumption | trivial | (simp only [inI]; omega) | (simp only [inL]; omega) | (refine jb_01) | (exact jb_in))) ?_))
  refine ⟨0, 0, ⟨by omega, by omega⟩, tw_clauseOf hT (by (first | assumption | (repeat (first | assumption | refine PV.A ?_ (by decide) | refine PV.F ?_ ?_ | refine twR.up ?_ (by decide) | refine PV.r ?_)))) (by (first | omega | assumption | trivial | (simp only [inI]; omega) | (simp only [inL]; omega) | (refine jb_01) | (exact jb_in))) ?_⟩
  simp (disch := (first | decide | omega)) only [jxs, hps, jtsw, jlsw, List.length_cons, List.length_nil, true_and, and_true, true_implies, false_implies, implies_true, not_true_eq_false, not_false_eq_true, false_and, and_false, if_true, if_false, or_true, true_or, or_false, false_or, Classical.not_not, and_self, Int.reduceAdd, Int.reduceMul, Int.reduceSub, Int.reduceNeg, Int.reduceLT, Int.reduceLE, Int.reduceEq, Int.reduceNe, Int.reduceToNat, Nat.reduceAdd, Nat.reduceMul, Nat.reduceSub, Nat.reduceLeDiff, Nat.reduceLT, Nat.reduceEqDiff, reduceIte, Nat.zero_le, Nat.le_refl, Nat.add_zero, Nat.zero_add, twT hT, twV hV]
  refine ⟨fun hc => ?_, fun hc => ?_⟩
  · have hcl := clA_in hE hc
    have ep : pbA (v 540) (v 542) la b o r = ET (nmP (fun _ => 0) (v 540) b o r) (tcode (v 542) (v 540 6) (clA (v 540) (v 542) 0 la)) := by unfold pbA; rw [if_neg (by omega)]
    rw [ep] at hQ h01
    generalize clA (v 540) (v 542) 0 la = k at *
    have h2 := hcl.2.2.1
    obtain ⟨z, hz⟩ := hcl.2.2.2.2.2.1 (by omega) (nmP (fun _ => 0) (v 540) b o r)
    have hok := (hcl.2.2.2.2.1 (by omega)).2
    rw [ET_bd hz] at hQ h01
    have hz2 : rpn (nmP (v 545) (v 540) b o r) (tcode (v 542) (v 540 6) k) ([], []) = some ([], [z]) := by
      rw [← hz]
      exact rpn_congr (nmP_ag h2) _ _ hok
    have fin : jW bX2_pushesBy (g, d + 3, 0, 0, Q) 1 [some (vR 539), some (vI la), some (vI b), some (vI o), some (vI r), some (vI k), none] [vI r, vI 6, vR 545] (upA v 545 (nmO (v 545) (v 540) b), T) 0 0 := by
      refine jW_step ?_
      simp (disch := (first | decide | omega)) only [bX2_pushesBy, jxs, hps, jtsw, jlsw, List.length_cons, List.length_nil, true_and, and_true, true_implies, false_implies, implies_true, not_true_eq_false, not_false_eq_true, false_and, and_false, if_true, if_false, or_true, true_or, or_false, false_or, Classical.not_not, and_self, Int.reduceAdd, Int.reduceMul, Int.reduceSub, Int.reduceNeg, Int.reduceLT, Int.reduceLE, Int.reduceEq, Int.reduceNe, Int.reduceToNat, Nat.reduceAdd, Nat.reduceMul, Nat.reduceSub, Nat.reduceLeDiff, Nat.reduceLT, Nat.reduceEqDiff, reduceIte, Nat.zero_le, Nat.le_refl, Nat.add_zero, Nat.zero_add, twT hT, twV hV]
      (repeat (refine And.intro (by (first | omega | assumption | trivial | (simp only [inI]; omega) | (simp only [inL]; omega) | (refine jb_01) | (exact jb_in))) ?_))
      refine jW_step ?_
      simp (disch := (first | decide | omega)) only [bX2_pushesBy, jxs, hps, jtsw, jlsw, List.length_cons, List.length_nil, true_and, and_true, true_implies, false_implies, implies_true, not_true_eq_false, not_false_eq_true, false_and, and_false, if_true, if_false, or_true, true_or, or_false, false_or, Classical.not_not, and_self, Int.reduceAdd, Int.reduceMul, Int.reduceSub, Int.reduceNeg, Int.reduceLT, Int.reduceLE, Int.reduceEq, Int.reduceNe, Int.reduceToNat, Nat.reduceAdd, Nat.reduceMul, Nat.reduceSub, Nat.reduceLeDiff, Nat.reduceLT, Nat.reduceEqDiff, reduceIte, Nat.zero_le, Nat.le_refl, Nat.add_zero, Nat.zero_add, twT hT, twV hV]
      (repeat (refine And.intro (by (first | omega | assumption | trivial | (simp only [inI]; omega) | (simp only [inL]; omega) | (refine jb_01) | (exact jb_in))) ?_))
      refine ⟨0, 0, ⟨by omega, by omega⟩, tw_get hT (by (first | assumption | (repeat (first | assumption | refine PV.A ?_ (by decide) | refine PV.F ?_ ?_ | refine twR.up ?_ (by decide) | refine PV.r ?_)))) (by (first | omega | assumption | trivial | (simp only [inI]; omega) | (simp only [inL]; omega) | (refine jb_01) | (exact jb_in))) ?_⟩
      simp (disch := (first | decide | omega)) only [jxs, hps, jtsw, jlsw, List.length_cons, List.length_nil, true_and, and_true, true_implies, false_implies, implies_true, not_true_eq_false, not_false_eq_true, false_and, and_false, if_true, if_false, or_true, true_or, or_false, false_or, Classical.not_not, and_self, Int.reduceAdd, Int.reduceMul, Int.reduceSub, Int.reduceNeg, Int.reduceLT, Int.reduceLE, Int.reduceEq, Int.reduceNe, Int.reduceToNat, Nat.reduceAdd, Nat.reduceMul, Nat.reduceSub, Nat.reduceLeDiff, Nat.reduceLT, Nat.reduceEqDiff, reduceIte, Nat.zero_le, Nat.le_refl, Nat.add_zero, Nat.zero_add, twT hT, twV hV]
      (repeat (refine And.intro (by (first | omega | assumption | trivial | (simp only [inI]; omega) | (simp only [inL]; omega) | (refine jb_01) | (exact jb_in))) ?_))
      refine jW_step ?_
      simp (disch := (first | decide | omega)) only [bX2_pushesBy, jxs, hps, jtsw, jlsw, List.length_cons, List.length_nil, true_and, and_true, true_implies, false_implies, implies_true, not_true_eq_false, not_false_eq_true, false_and, and_false, if_true, if_false, or_true, true_or, or_false, false_or, Classical.not_not, and_self, Int.reduceAdd, Int.reduceMul, Int.reduceSub, Int.reduceNeg, Int.reduceLT, Int.reduceLE, Int.reduceEq, Int.reduceNe, Int.reduceToNat, Nat.reduceAdd, Nat.reduceMul, Nat.reduceSub, Nat.reduceLeDiff, Nat.reduceLT, Nat.reduceEqDiff, reduceIte, Nat.zero_le, Nat.le_refl, Nat.add_zero, Nat.zero_add, twT hT, twV hV]
      (repeat (refine And.intro (by (first | omega | assumption | trivial | (simp only [inI]; omega) | (simp only [inL]; omega) | (refine jb_01) | (exact jb_in))) ?_))
      refine ⟨0, 0, ⟨by omega, by omega⟩, tw_get hT (by (first | assumption | (repeat (first | assumption | refine PV.A ?_ (by decide) | refine PV.F ?_ ?_ | refine twR.up ?_ (by decide) | refine PV.r ?_)))) (by (first | omega | assumption | trivial | (simp only [inI]; omega) | (simp only [inL]; omega) | (refine jb_01) | (exact jb_in))) ?_⟩
      simp (disch := (first | decide | omega)) only [jxs, hps, jtsw, jlsw, List.length_cons, List.length_nil, true_and, and_true, true_implies, false_implies, implies_true, not_true_eq_false, not_false_eq_true, false_and, and_false, if_true, if_false, or_true, true_or, or_false, false_or, Classical.not_not, and_self, Int.reduceAdd, Int.reduceMul, Int.reduceSub, Int.reduceNeg, Int.reduceLT, Int.reduceLE, Int.reduceEq, Int.reduceNe, Int.reduceToNat, Nat.reduceAdd, Nat.reduceMul, Nat.reduceSub, Nat.reduceLeDiff, Nat.reduceLT, Nat.reduceEqDiff, reduceIte, Nat.zero_le, Nat.le_refl, Nat.add_zero, Nat.zero_add, twT hT, twV hV]
      (repeat (refine And.intro (by (first | omega | assumption | trivial | (simp only [inI]; omega) | (simp only [inL]; omega) | (refine jb_01) | (exact jb_in))) ?_))
      refine jW_step ?_
      simp (disch := (first | decide | omega)) only [bX2_pushesBy, jxs, hps, jtsw, jlsw, List.length_cons, List.length_nil, true_and, and_true, true_implies, false_implies, implies_true, not_true_eq_false, not_false_eq_true, false_and, and_false, if_true, if_false, or_true, true_or, or_false, false_or, Classical.not_not, and_self, Int.reduceAdd, Int.reduceMul, Int.reduceSub, Int.reduceNeg, Int.reduceLT, Int.reduceLE, Int.reduceEq, Int.reduceNe, Int.reduceToNat, Nat.reduceAdd, Nat.reduceMul, Nat.reduceSub, Nat.reduceLeDiff, Nat.reduceLT, Nat.reduceEqDiff, reduceIte, Nat.zero_le, Nat.le_refl, Nat.add_zero, Nat.zero_add, twT hT, twV hV]
      (repeat (refine And.intro (by (first | omega | assumption | trivial | (simp only [inI]; omega) | (simp only [inL]; omega) | (refine jb_01) | (exact jb_in))) ?_))
      refine ⟨0, 0, ⟨by omega, by omega⟩, tw_get hT (by (first | assumption | (repeat (first | assumption | refine PV.A ?_ (by decide) | refine PV.F ?_ ?_ | refine twR.up ?_ (by decide) | refine PV.r ?_)))) (by (first | omega | assumption | trivial | (simp only [inI]; omega) | (simp only [inL]; omega) | (refine jb_01) | (exact jb_in))) ?_⟩
      simp (disch := (first | decide | omega)) only [jxs, hps, jtsw, jlsw, List.length_cons, List.length_nil, true_and, and_true, true_implies, false_implies, implies_true, not_true_eq_false, not_false_eq_true, false_and, and_false, if_true, if_false, or_true, true_or, or_false, false_or, Classical.not_not, and_self, Int.reduceAdd, Int.reduceMul, Int.reduceSub, Int.reduceNeg, Int.reduceLT, Int.reduceLE, Int.reduceEq, Int.reduceNe, Int.reduceToNat, Nat.reduceAdd, Nat.reduceMul, Nat.reduceSub, Nat.reduceLeDiff, Nat.reduceLT, Nat.reduceEqDiff, reduceIte, Nat.zero_le, Nat.le_refl, Nat.add_zero, Nat.zero_add, twT hT, twV hV]
      (repeat (refine And.intro (by (first | omega | assumption | trivial | (simp only [inI]; omega) | (simp only [inL]; omega) | (refine jb_01) | (exact jb_in))) ?_))
      refine jW_step ?_
      simp (disch := (first | decide | omega)) only [bX2_pushesBy, jxs, hps, jtsw, jlsw, List.length_cons, List.length_nil, true_and, and_true, true_implies, false_implies, implies_true, not_true_eq_false, not_false_eq_true, false_and, and_false, if_true, if_false, or_true, true_or, or_false, false_or, Classical.not_not, and_self, Int.reduceAdd, Int.reduceMul, Int.reduceSub, Int.reduceNeg, Int.reduceLT, Int.reduceLE, Int.reduceEq, Int.reduceNe, Int.reduceToNat, Nat.reduceAdd, Nat.reduceMul, Nat.reduceSub, Nat.reduceLeDiff, Nat.reduceLT, Nat.reduceEqDiff, reduceIte, Nat.zero_le, Nat.le_refl, Nat.add_zero, Nat.zero_add, twT hT, twV hV]
      (repeat (refine And.intro (by (first | omega | assumption | trivial | (simp only [inI]; omega) | (simp only [inL]; omega) | (refine jb_01) | (exact jb_in))) ?_))
      refine ⟨0, 0, ⟨by omega, by omega⟩, tw_get hT (by (first | assumption | (repeat (first | assumption | refine PV.A ?_ (by decide) | refine PV.F ?_ ?_ | refine twR.up ?_ (by decide) | refine PV.r ?_)))) (by (first | omega | assumption | trivial | (simp only [inI]; omega) | (simp only [inL]; omega) | (refine jb_01) | (exact jb_in))) ?_⟩
      simp (disch := (first | decide | omega)) only [jxs, hps, jtsw, jlsw, List.length_cons, List.length_nil, true_and, and_true, true_implies, false_implies, implies_true, not_true_eq_false, not_false_eq_true, false_and, and_false, if_true, if_false, or_true, true_or, or_false, false_or, Classical.not_not, and_self, Int.reduceAdd, Int.reduceMul, Int.reduceSub, Int.reduceNeg, Int.reduceLT, Int.reduceLE, Int.reduceEq, Int.reduceNe, Int.reduceToNat, Nat.reduceAdd, Nat.reduceMul, Nat.reduceSub, Nat.reduceLeDiff, Nat.reduceLT, Nat.reduceEqDiff, reduceIte, Nat.zero_le, Nat.le_refl, Nat.add_zero, Nat.zero_add, twT hT, twV hV]
      (repeat (refine And.intro (by (first | omega | assumption | trivial | (simp only [inI]; omega) | (simp only [inL]; omega) | (refine jb_01) | (exact jb_in))) ?_))
      refine jW_step ?_
      simp (disch := (first | decide | omega)) only [bX2_pushesBy, jxs, hps, jtsw, jlsw, List.length_cons, List.length_nil, true_and, and_true, true_implies, false_implies, implies_true, not_true_eq_false, not_false_eq_true, false_and, and_false, if_true, if_false, or_true, true_or, or_false, false_or, Classical.not_not, and_self, Int.reduceAdd, Int.reduceMul, Int.reduceSub, Int.reduceNeg, Int.reduceLT, Int.reduceLE, Int.reduceEq, Int.reduceNe, Int.reduceToNat, Nat.reduceAdd, Nat.reduceMul, Nat.reduceSub, Nat.reduceLeDiff, Nat.reduceLT, Nat.reduceEqDiff, reduceIte, Nat.zero_le, Nat.le_refl, Nat.add_zero, Nat.zero_add, twT hT, twV hV]
      (repeat (refine And.intro (by (first | omega | assumption | trivial | (simp only [inI]; omega) | (simp only [inL]; omega) | (refine jb_01) | (exact jb_in))) ?_))
      refine ⟨0, 0, ⟨by omega, by omega⟩, tw_work (s' := ([], [z])) hT (by (first | assumption | (repeat (first | assumption | refine PV.A ?_ (by decide) | refine PV.F ?_ ?_ | refine twR.up ?_ (by decide) | refine PV.r ?_)))) ?_ ?_⟩
      · refine ⟨jk.te (jk.up (Or.inl rfl)) hE, ?_, ?_, ?_, ?_⟩
        · simp (disch := omega) only [upA_ne]; omega
        · simp (disch := omega) only [upA_ne]; omega
        · simp (disch := omega) only [upA_ne, upA_eq]
          rw [h2]
          exact nmP_bd hA hb ho hr
        · simp (disch := omega) only [upA_ne, upA_eq]
          exact hz2
      intro va tr hva htr
      have hq := hQ _ (((jk.up (v := v) (f := nmP (v 545) (v 540) b o r) (Or.inl rfl)).tr (jk.up (f := va) (Or.inr (Or.inl rfl)))).tr (jk.up (f := tr) (Or.inr (Or.inr rfl))))
      have ez : tr 0 = z := htr.1
      simp (disch := (first | decide | omega)) only [jxs, hps, jtsw, jlsw, List.length_cons, List.length_nil, true_and, and_true, true_implies, false_implies, implies_true, not_true_eq_false, not_false_eq_true, false_and, and_false, if_true, if_false, or_true, true_or, or_false, false_or, Classical.not_not, and_self, Int.reduceAdd, Int.reduceMul, Int.reduceSub, Int.reduceNeg, Int.reduceLT, Int.reduceLE, Int.reduceEq, Int.reduceNe, Int.reduceToNat, Nat.reduceAdd, Nat.reduceMul, Nat.reduceSub, Nat.reduceLeDiff, Nat.reduceLT, Nat.reduceEqDiff, reduceIte, Nat.zero_le, Nat.le_refl, Nat.add_zero, Nat.zero_add, twT hT, twV hV, ez]
      (repeat (refine And.intro (by (first | omega | assumption | trivial | (simp only [inI]; omega) | (simp only [inL]; omega) | (refine jb_01) | (exact jb_in))) ?_))
      exact hq
    (repeat (refine And.intro (by (first | omega | assumption | trivial | (simp only [inI]; omega) | (simp only [inL]; omega) | (refine jb_01) | (exact jb_in))) ?_))
    refine ⟨0, 0, ⟨by omega, by omega⟩, tw_name hT (by (first | assumption | (repeat (first | assumption | refine PV.A ?_ (by decide) | refine PV.F ?_ ?_ | refine twR.up ?_ (by decide) | refine PV.r ?_)))) (by (first | omega | assumption | trivial | (simp only [inI]; omega) | (simp only [inL]; omega) | (refine jb_01) | (exact jb_in))) ?_⟩
    simp (disch := (first | decide | omega)) only [jxs, hps, jtsw, jlsw, List.length_cons, List.length_nil, true_and, and_true, true_implies, false_implies, implies_true, not_true_eq_false, not_false_eq_true, false_and, and_false, if_true, if_false, or_true, true_or, or_false, false_or, Classical.not_not, and_self, Int.reduceAdd, Int.reduceMul, Int.reduceSub, Int.reduceNeg, Int.reduceLT, Int.reduceLE, Int.reduceEq, Int.reduceNe, Int.reduceToNat, Nat.reduceAdd, Nat.reduceMul, Nat.reduceSub, Nat.reduceLeDiff, Nat.reduceLT, Nat.reduceEqDiff, reduceIte, Nat.zero_le, Nat.le_refl, Nat.add_zero, Nat.zero_add, twT hT, twV hV]
    (repeat (refine And.intro (by (first | omega | assumption | trivial | (simp only [inI]; omega) | (simp only [inL]; omega) | (refine jb_01) | (exact jb_in))) ?_))
    refine ⟨fun h0 => ?_, fun h0 => ?_⟩
    · subst h0; exact fin
    · have e1 : r = 1 := by omega
      subst e1; exact fin
  · have hq := hQ v jk.rf
    unfold pbA at hq
    rw [if_pos (by omega)] at hq
    (repeat (refine And.intro (by (first | omega | assumption | trivial | (simp only [inI]; omega) | (simp only [inL]; omega) | (refine jb_01) | (exact jb_in))) ?_))
    exact hq
theorem tw_doesPush {v : Int → Int → Int} {b o r : Int} (hT : PT T) (hV : PV v) (hS : TE v ∧ (0 ≤ b ∧ b < 10) ∧ (0 ≤ o ∧ o < 10) ∧ (0 ≤ r ∧ r ≤ 1)) (hQ : ∀ w, jk v w → Q (.inl (some (vI (dpA (v 540) (v 542) b o r)))) (w, T)) : jmet g (d + 5) 0 0 MX2_doesPush [vR 539, vI b, vI o, vI r] (v, T) Q := by
  have h01 := pbA_01 hS.1 (la := v 540 (46 + 6 * b + 4)) (b := b) (o := o) (r := r)
  refine jmet_of (ls := [some (vR 539), some (vI b), some (vI o), some (vI r)]) sX2_doesPush rfl (by decide +kernel) (by decide) rfl (by simp [jent]) ?_
  refine jW_step ?_
  simp (disch := (first | decide | omega)) only [bX2_doesPush, jxs, hps, jtsw, jlsw, List.length_cons, List.length_nil, true_and, and_true, true_implies, false_implies, implies_true, not_true_eq_false, not_false_eq_true, false_and, and_false, if_true, if_false, or_true, true_or, or_false, false_or, Classical.not_not, and_self, Int.reduceAdd, Int.reduceMul, Int.reduceSub, Int.reduceNeg, Int.reduceLT, Int.reduceLE, Int.reduceEq, Int.reduceNe, Int.reduceToNat, Nat.reduceAdd, Nat.reduceMul, Nat.reduceSub, Nat.reduceLeDiff, Nat.reduceLT, Nat.reduceEqDiff, reduceIte, Nat.zero_le, Nat.le_refl, Nat.add_zero, Nat.zero_add, twT hT, twV hV]
  (repeat (refine And.intro (by (first | omega | assumption | trivial | (simp only [inI]; omega) | (simp only [inL]; omega) | (refine jb_01) | (exact jb_in))) ?_))
  refine ⟨0, 0, ⟨by omega, by omega⟩, tw_get hT (by (first | assumption | (repeat (first | assumption | refine PV.A ?_ (by decide) | refine PV.F ?_ ?_ | refine twR.up ?_ (by decide) | refine PV.r ?_)))) (by (first | omega | assumption | trivial | (simp only [inI]; omega) | (simp only [inL]; omega) | (refine jb_01) | (exact jb_in))) ?_⟩
  simp (disch := (first | decide | omega)) only [jxs, hps, jtsw, jlsw, List.length_cons, List.length_nil, true_and, and_true, true_implies, false_implies, implies_true, not_true_eq_false, not_false_eq_true, false_and, and_false, if_true, if_false, or_true, true_or, or_false, false_or, Classical.not_not, and_self, Int.reduceAdd, Int.reduceMul, Int.reduceSub, Int.reduceNeg, Int.reduceLT, Int.reduceLE, Int.reduceEq, Int.reduceNe, Int.reduceToNat, Nat.reduceAdd, Nat.reduceMul, Nat.reduceSub, Nat.reduceLeDiff, Nat.reduceLT, Nat.reduceEqDiff, reduceIte, Nat.zero_le, Nat.le_refl, Nat.add_zero, Nat.zero_add, twT hT, twV hV]
  (repeat (refine And.intro (by (first | omega | assumption | trivial | (simp only [inI]; omega) | (simp only [inL]; omega) | (refine jb_01) | (exact jb_in))) ?_))
  refine ⟨0, 0, ⟨by omega, by omega⟩, tw_pushesBy hT hV hS ?_⟩
  intro w hw
  simp (disch := (first | decide | omega)) only [jxs, hps, jtsw, jlsw, List.length_cons, List.length_nil, true_and, and_true, true_implies, false_implies, implies_true, not_true_eq_false, not_false_eq_true, false_and, and_false, if_true, if_false, or_true, true_or, or_false, false_or, Classical.not_not, and_self, Int.reduceAdd, Int.reduceMul, Int.reduceSub, Int.reduceNeg, Int.reduceLT, Int.reduceLE, Int.reduceEq, Int.reduceNe, Int.reduceToNat, Nat.reduceAdd, Nat.reduceMul, Nat.reduceSub, Nat.reduceLeDiff, Nat.reduceLT, Nat.reduceEqDiff, reduceIte, Nat.zero_le, Nat.le_refl, Nat.add_zero, Nat.zero_add, twT hT, twV hV]
  (repeat (refine And.intro (by (first | omega | assumption | trivial | (simp only [inI]; omega) | (simp only [inL]; omega) | (refine jb_01) | (exact jb_in))) ?_))
  exact hQ w hw
theorem needA_bd {v : Int → Int → Int} (hE : TE v) : 1 ≤ needA (v 540) (v 542) ∧ needA (v 540) (v 542) ≤ 2 := by
  unfold needA
  split
  · exact hE.1.2.2.1
  · have hcl := clA_in hE (so := 3) (la := 0) (by omega)
    have := hcl.2.2.2.2.2.2.2.2.1 hcl.2.2.1
    rw [show 705 * v 540 6 + 2 + 4 * clA (v 540) (v 542) 3 0 = 705 * v 540 6 + 1 + 4 * clA (v 540) (v 542) 3 0 + 1 by omega]
    exact this
theorem tw_doChange {v : Int → Int → Int} {b o : Int} (hT : PT T) (hV : PV v) (hS : TE v ∧ (0 ≤ b ∧ b < 10) ∧ (0 ≤ o ∧ o < 10)) (hQ : ∀ w, jk v w → Q (.inl (some (vI (dcA (v 540) (v 542) b o)))) (w, T)) : jmet g (d + 6) 0 0 MX2_doChange [vR 539, vI b, vI o] (v, T) Q := by
  obtain ⟨hE, hb, ho⟩ := hS
  refine jmet_of (ls := [some (vR 539), some (vI b), some (vI o), none]) sX2_doChange rfl (by decide +kernel) (by decide) rfl (by simp [jent]) ?_
  refine jW_step ?_
  simp (disch := (first | decide | omega)) only [bX2_doChange, jxs, hps, jtsw, jlsw, List.length_cons, List.length_nil, true_and, and_true, true_implies, false_implies, implies_true, not_true_eq_false, not_false_eq_true, false_and, and_false, if_true, if_false, or_true, true_or, or_false, false_or, Classical.not_not, and_self, Int.reduceAdd, Int.reduceMul, Int.reduceSub, Int.reduceNeg, Int.reduceLT, Int.reduceLE, Int.reduceEq, Int.reduceNe, Int.reduceToNat, Nat.reduceAdd, Nat.reduceMul, Nat.reduceSub, Nat.reduceLeDiff, Nat.reduceLT, Nat.reduceEqDiff, reduceIte, Nat.zero_le, Nat.le_refl, Nat.add_zero, Nat.zero_add, twT hT, twV hV]
  (repeat (refine And.intro (by (first | omega | assumption | trivial | (simp only [inI]; omega) | (simp only [inL]; omega) | (refine jb_01) | (exact jb_in))) ?_))
  refine ⟨0, 0, ⟨by omega, by omega⟩, tw_doesPush hT hV ⟨hE, hb, ho, by omega, by omega⟩ ?_⟩
  intro w hw
  have fin2 : ∀ x y u, jk v u → x = (if dpA (v 540) (v 542) b o 1 = 0 then (0 : Int) else 1) → y = (if dpA (v 540) (v 542) o b 0 = 0 then (0 : Int) else 1) → jW bX2_doChange (g, d + 5, 0, 0, Q) 2 [some (vR 539), some (vI b), some (vI o), none] [vI y, vI x] (u, T) 0 0 := by
    intro x y u hu hx hy
    have hq := hQ u hu
    have e := hu.a
    have e2 := hu.x
    have hn := needA_bd hE
    have hx1 : 0 ≤ x ∧ x ≤ 1 := by rw [hx]; split <;> omega
    have hy1 : 0 ≤ y ∧ y ≤ 1 := by rw [hy]; split <;> omega
    have hV := hu.pv hV
    unfold dcA at hq
    rw [← hx, ← hy] at hq
    refine jW_step ?_
    simp (disch := (first | decide | omega)) only [bX2_doChange, jxs, hps, jtsw, jlsw, List.length_cons, List.length_nil, true_and, and_true, true_implies, false_implies, implies_true, not_true_eq_false, not_false_eq_true, false_and, and_false, if_true, if_false, or_true, true_or, or_false, false_or, Classical.not_not, and_self, Int.reduceAdd, Int.reduceMul, Int.reduceSub, Int.reduceNeg, Int.reduceLT, Int.reduceLE, Int.reduceEq, Int.reduceNe, Int.reduceToNat, Nat.reduceAdd, Nat.reduceMul, Nat.reduceSub, Nat.reduceLeDiff, Nat.reduceLT, Nat.reduceEqDiff, reduceIte, Nat.zero_le, Nat.le_refl, Nat.add_zero, Nat.zero_add, twT hT, twV hV]
    (repeat (refine And.intro (by (first | omega | assumption | trivial | (simp only [inI]; omega) | (simp only [inL]; omega) | (refine jb_01) | (exact jb_in))) ?_))
    refine ⟨0, 0, ⟨by omega, by omega⟩, tw_needNow hT hV (hu.te hE) ?_⟩
    rw [e, e2]
    simp (disch := (first | decide | omega)) only [jxs, hps, jtsw, jlsw, List.length_cons, List.length_nil, true_and, and_true, true_implies, false_implies, implies_true, not_true_eq_false, not_false_eq_true, false_and, and_false, if_true, if_false, or_true, true_or, or_false, false_or, Classical.not_not, and_self, Int.reduceAdd, Int.reduceMul, Int.reduceSub, Int.reduceNeg, Int.reduceLT, Int.reduceLE, Int.reduceEq, Int.reduceNe, Int.reduceToNat, Nat.reduceAdd, Nat.reduceMul, Nat.reduceSub, Nat.reduceLeDiff, Nat.reduceLT, Nat.reduceEqDiff, reduceIte, Nat.zero_le, Nat.le_refl, Nat.add_zero, Nat.zero_add, twT hT, twV hV]
    refine ⟨fun h => ?_, fun h => ?_⟩
    · refine jW_step ?_
      simp (disch := (first | decide | omega)) only [bX2_doChange, jxs, hps, jtsw, jlsw, List.length_cons, List.length_nil, true_and, and_true, true_implies, false_implies, implies_true, not_true_eq_false, not_false_eq_true, false_and, and_false, if_true, if_false, or_true, true_or, or_false, false_or, Classical.not_not, and_self, Int.reduceAdd, Int.reduceMul, Int.reduceSub, Int.reduceNeg, Int.reduceLT, Int.reduceLE, Int.reduceEq, Int.reduceNe, Int.reduceToNat, Nat.reduceAdd, Nat.reduceMul, Nat.reduceSub, Nat.reduceLeDiff, Nat.reduceLT, Nat.reduceEqDiff, reduceIte, Nat.zero_le, Nat.le_refl, Nat.add_zero, Nat.zero_add, twT hT, twV hV]
      (repeat (refine And.intro (by (first | omega | assumption | trivial | (simp only [inI]; omega) | (simp only [inL]; omega) | (refine jb_01) | (exact jb_in))) ?_))
      (first | exact hq | (rw [jb_t (by omega)] at hq; exact hq) | (rw [jb_f (by omega)] at hq; exact hq))
    · refine jW_step ?_
      simp (disch := (first | decide | omega)) only [bX2_doChange, jxs, hps, jtsw, jlsw, List.length_cons, List.length_nil, true_and, and_true, true_implies, false_implies, implies_true, not_true_eq_false, not_false_eq_true, false_and, and_false, if_true, if_false, or_true, true_or, or_false, false_or, Classical.not_not, and_self, Int.reduceAdd, Int.reduceMul, Int.reduceSub, Int.reduceNeg, Int.reduceLT, Int.reduceLE, Int.reduceEq, Int.reduceNe, Int.reduceToNat, Nat.reduceAdd, Nat.reduceMul, Nat.reduceSub, Nat.reduceLeDiff, Nat.reduceLT, Nat.reduceEqDiff, reduceIte, Nat.zero_le, Nat.le_refl, Nat.add_zero, Nat.zero_add, twT hT, twV hV]
      (repeat (refine And.intro (by (first | omega | assumption | trivial | (simp only [inI]; omega) | (simp only [inL]; omega) | (refine jb_01) | (exact jb_in))) ?_))
      (first | exact hq | (rw [jb_t (by omega)] at hq; exact hq) | (rw [jb_f (by omega)] at hq; exact hq))
  have fin1 : ∀ x, x = (if dpA (v 540) (v 542) b o 1 = 0 then (0 : Int) else 1) → jW bX2_doChange (g, d + 5, 0, 0, Q) 1 [some (vR 539), some (vI b), some (vI o), none] [vI x] (w, T) 0 0 := by
    intro x hx
    have e := hw.a
    have e2 := hw.x
    have hV := hw.pv hV
    refine jW_step ?_
    simp (disch := (first | decide | omega)) only [bX2_doChange, jxs, hps, jtsw, jlsw, List.length_cons, List.length_nil, true_and, and_true, true_implies, false_implies, implies_true, not_true_eq_false, not_false_eq_true, false_and, and_false, if_true, if_false, or_true, true_or, or_false, false_or, Classical.not_not, and_self, Int.reduceAdd, Int.reduceMul, Int.reduceSub, Int.reduceNeg, Int.reduceLT, Int.reduceLE, Int.reduceEq, Int.reduceNe, Int.reduceToNat, Nat.reduceAdd, Nat.reduceMul, Nat.reduceSub, Nat.reduceLeDiff, Nat.reduceLT, Nat.reduceEqDiff, reduceIte, Nat.zero_le, Nat.le_refl, Nat.add_zero, Nat.zero_add, twT hT, twV hV]
    (repeat (refine And.intro (by (first | omega | assumption | trivial | (simp only [inI]; omega) | (simp only [inL]; omega) | (refine jb_01) | (exact jb_in))) ?_))
    refine ⟨0, 0, ⟨by omega, by omega⟩, tw_doesPush hT hV ⟨hw.te hE, ho, hb, by omega, by omega⟩ ?_⟩
    intro u hu
    rw [e, e2]
    simp (disch := (first | decide | omega)) only [jxs, hps, jtsw, jlsw, List.length_cons, List.length_nil, true_and, and_true, true_implies, false_implies, implies_true, not_true_eq_false, not_false_eq_true, false_and, and_false, if_true, if_false, or_true, true_or, or_false, false_or, Classical.not_not, and_self, Int.reduceAdd, Int.reduceMul, Int.reduceSub, Int.reduceNeg, Int.reduceLT, Int.reduceLE, Int.reduceEq, Int.reduceNe, Int.reduceToNat, Nat.reduceAdd, Nat.reduceMul, Nat.reduceSub, Nat.reduceLeDiff, Nat.reduceLT, Nat.reduceEqDiff, reduceIte, Nat.zero_le, Nat.le_refl, Nat.add_zero, Nat.zero_add, twT hT, twV hV]
    refine ⟨fun h => ?_, fun h => ?_⟩
    · exact fin2 x 0 u (hw.tr hu) hx (by rw [if_pos h])
    · exact fin2 x 1 u (hw.tr hu) hx (by rw [if_neg h])
  simp (disch := (first | decide | omega)) only [jxs, hps, jtsw, jlsw, List.length_cons, List.length_nil, true_and, and_true, true_implies, false_implies, implies_true, not_true_eq_false, not_false_eq_true, false_and, and_false, if_true, if_false, or_true, true_or, or_false, false_or, Classical.not_not, and_self, Int.reduceAdd, Int.reduceMul, Int.reduceSub, Int.reduceNeg, Int.reduceLT, Int.reduceLE, Int.reduceEq, Int.reduceNe, Int.reduceToNat, Nat.reduceAdd, Nat.reduceMul, Nat.reduceSub, Nat.reduceLeDiff, Nat.reduceLT, Nat.reduceEqDiff, reduceIte, Nat.zero_le, Nat.le_refl, Nat.add_zero, Nat.zero_add, twT hT, twV hV]
  refine ⟨fun h => ?_, fun h => ?_⟩
  · exact fin1 0 (by rw [if_pos h])
  · exact fin1 1 (by rw [if_neg h])
end TG
