/-! ===== the class: rests, thefts ===== -/
-- MODE X
set_option maxRecDepth 100000
section XG
variable {g : jjG} {d : Nat} {T : jjT} {Q : jjQ} {A X : Int → Int}
theorem xw_nightOn0 {R m od : Int} {v : Int → Int → Int} (hT : PT T) (hV : PV v) (h0 : 0 ≤ A 0 ∧ A 0 ≤ 10) (hR : jok T R (-1) ∧ 400 ≤ R ∧ m ≤ jln T R ∧ R ∉ pvA ∧ R ≠ 523) (hm : 0 ≤ m ∧ m ≤ 10) (hB : CHB (v 523) A X) (hN : RN (v R) m (A 0)) (ho : 0 ≤ od ∧ od ≤ 1)
    (hQ : ∀ c, Q (.inl (some (vI c))) (upA v R (nitR (tbl A X) m od (v R)), T)) : jmet g (d + 2) 0 0 MX0_nightOn [vR 400, vR R, vI 0, vI m, vI od] (v, T) Q := by
  have e : (fun i => v R (0 + i)) = v R := by funext i; rw [Int.zero_add]
  refine xw_nightOn (A := A) (X := X) hT hV h0 ⟨hR.1, hR.2.1, by have := hR.2.2.1; omega, hR.2.2.2⟩ hm hB (by rw [e]; exact hN) ho ?_
  rw [e]
  have e2 : (fun j => nitR (tbl A X) m od (v R) (j - 0)) = nitR (tbl A X) m od (v R) := by funext j; rw [Int.sub_zero]
  rw [e2]
  exact hQ _
theorem xw_rests_1 {m : Int} (hT : PT T) (hm : 0 ≤ m ∧ m ≤ 10) (h1 : 0 ≤ A 1 ∧ A 1 < 100000) : ∀ (n : Nat) (k : Int) (v : Int → Int → Int), PV v → CI (v, T) A X → CHB (v 523) A X → v 400 10 = m → RN (v 524) m (A 0) → 0 ≤ k → k + n = 501 →
    (∀ w, jkK v w → (∀ a, a ≠ 524 → w a = v a) → w 524 = (rstL (tbl A X) m (A 1) n k (v 524)).1 → Q (.inl (some (vI (rstL (tbl A X) m (A 1) n k (v 524)).2))) (w, T)) →
    jW bX0_rests (g, d + 2, 0, 0, Q) 1 [some (vR 400), some (vI k), none] [] (v, T) 0 0 := by
  intro n
  induction n with
  | zero =>
    intro k v hV hC hB hv hN hk hn hQ
    unfold rstL at hQ
    refine jW_step ?_
    simp (disch := (first | decide | omega)) only [bX0_rests, jxs, hps, jtsw, jlsw, List.length_cons, List.length_nil, true_and, and_true, true_implies, false_implies, implies_true, not_true_eq_false, not_false_eq_true, false_and, and_false, if_true, if_false, or_true, true_or, or_false, false_or, Classical.not_not, and_self, Int.reduceAdd, Int.reduceMul, Int.reduceSub, Int.reduceNeg, Int.reduceLT, Int.reduceLE, Int.reduceEq, Int.reduceNe, Int.reduceToNat, Nat.reduceAdd, Nat.reduceMul, Nat.reduceSub, Nat.reduceLeDiff, Nat.reduceLT, Nat.reduceEqDiff, reduceIte, Nat.zero_le, Nat.le_refl, Nat.add_zero, Nat.zero_add, xwT hT, xwV hV]
    (try refine ⟨fun _ => ?_, fun h9 => (by exfalso; omega)⟩)
    (repeat (refine And.intro (by (first | omega | assumption | trivial | (simp only [inI]; omega) | (simp only [inL]; omega) | (refine jb_01) | (exact jb_in))) ?_))
    exact hQ v (jkK.rf hV hC.nm) (fun _ _ => rfl) rfl
  | succ n ih =>
    intro k v hV hC hB hv hN hk hn hQ
    have h0 := hC.tb.1
    unfold rstL at hQ
    refine jW_step ?_
    simp (disch := (first | decide | omega)) only [bX0_rests, jxs, hps, jtsw, jlsw, List.length_cons, List.length_nil, true_and, and_true, true_implies, false_implies, implies_true, not_true_eq_false, not_false_eq_true, false_and, and_false, if_true, if_false, or_true, true_or, or_false, false_or, Classical.not_not, and_self, Int.reduceAdd, Int.reduceMul, Int.reduceSub, Int.reduceNeg, Int.reduceLT, Int.reduceLE, Int.reduceEq, Int.reduceNe, Int.reduceToNat, Nat.reduceAdd, Nat.reduceMul, Nat.reduceSub, Nat.reduceLeDiff, Nat.reduceLT, Nat.reduceEqDiff, reduceIte, Nat.zero_le, Nat.le_refl, Nat.add_zero, Nat.zero_add, xwT hT, xwV hV, hv]
    (first | refine ⟨fun h9 => (by exfalso; omega), fun _ => ?_⟩ | intro _)
    refine ⟨0, 0, ⟨by omega, by omega⟩, xw_isCalm hT hV h0 ⟨pt_524 hT, by rw [pl_524 hT]; omega⟩ hm hB hN ?_⟩
    simp (disch := (first | decide | omega)) only [jxs, hps, jtsw, jlsw, List.length_cons, List.length_nil, true_and, and_true, true_implies, false_implies, implies_true, not_true_eq_false, not_false_eq_true, false_and, and_false, if_true, if_false, or_true, true_or, or_false, false_or, Classical.not_not, and_self, Int.reduceAdd, Int.reduceMul, Int.reduceSub, Int.reduceNeg, Int.reduceLT, Int.reduceLE, Int.reduceEq, Int.reduceNe, Int.reduceToNat, Nat.reduceAdd, Nat.reduceMul, Nat.reduceSub, Nat.reduceLeDiff, Nat.reduceLT, Nat.reduceEqDiff, reduceIte, Nat.zero_le, Nat.le_refl, Nat.add_zero, Nat.zero_add, xwT hT, xwV hV, hv, hC.ni]
    refine ⟨fun h => ?_, fun h => ?_⟩
    · rw [if_pos h] at hQ
      (repeat (refine And.intro (by (first | omega | assumption | trivial | (simp only [inI]; omega) | (simp only [inL]; omega) | (refine jb_01) | (exact jb_in))) ?_))
      refine ⟨0, 0, ⟨by omega, by omega⟩, xw_nightOn0 (A := A) (X := X) hT hV h0 ⟨pt_524 hT, by omega, by rw [pl_524 hT]; omega, by decide, by omega⟩ hm hB hN (by omega) ?_⟩
      intro c
      have q := nitR_cg (kind := (A 1 + k) % 2) (c := tbl A X) (c' := tbl A X) (by omega) (fun _ _ _ _ _ _ => rfl) (fun _ _ _ => rfl) hN
      have j1 : jkK v (upA v 524 (nitR (tbl A X) m ((A 1 + k) % 2) (v 524))) := jkK.up hV hC.nm (by omega)
      have u24 : (upA v 524 (nitR (tbl A X) m ((A 1 + k) % 2) (v 524))) 524 = nitR (tbl A X) m ((A 1 + k) % 2) (v 524) := upA_eq
      have uo : ∀ a, a ≠ 524 → (upA v 524 (nitR (tbl A X) m ((A 1 + k) % 2) (v 524))) a = v a := fun a ha => upA_ne ha
      generalize upA v 524 (nitR (tbl A X) m ((A 1 + k) % 2) (v 524)) = u at *
      have hV := j1.pv
      simp (disch := (first | decide | omega)) only [jxs, hps, jtsw, jlsw, List.length_cons, List.length_nil, true_and, and_true, true_implies, false_implies, implies_true, not_true_eq_false, not_false_eq_true, false_and, and_false, if_true, if_false, or_true, true_or, or_false, false_or, Classical.not_not, and_self, Int.reduceAdd, Int.reduceMul, Int.reduceSub, Int.reduceNeg, Int.reduceLT, Int.reduceLE, Int.reduceEq, Int.reduceNe, Int.reduceToNat, Nat.reduceAdd, Nat.reduceMul, Nat.reduceSub, Nat.reduceLeDiff, Nat.reduceLT, Nat.reduceEqDiff, reduceIte, Nat.zero_le, Nat.le_refl, Nat.add_zero, Nat.zero_add, xwT hT, xwV hV]
      (repeat (refine And.intro (by (first | omega | assumption | trivial | (simp only [inI]; omega) | (simp only [inL]; omega) | (refine jb_01) | (exact jb_in))) ?_))
      refine jW_sub (ls' := [some (vR 400), some (vI (k + 1)), none]) (by simp [jsub]) ?_
      refine ih (k + 1) u j1.pv (j1.ci hC) (by rw [uo 523 (by omega)]; exact hB) (by rw [uo 400 (by omega)]; exact hv) (by rw [u24]; exact q.2) (by omega) (by omega) ?_
      rw [u24]
      intro w w1 w2 w3
      exact hQ w (j1.tr w1) (fun a ha => (w2 a ha).trans (uo a ha)) w3
    · rw [if_neg h] at hQ
      (repeat (refine And.intro (by (first | omega | assumption | trivial | (simp only [inI]; omega) | (simp only [inL]; omega) | (refine jb_01) | (exact jb_in))) ?_))
      exact hQ v (jkK.rf hV hC.nm) (fun _ _ => rfl) rfl
theorem xw_rests {m : Int} {f : Int → Int} {v : Int → Int → Int} (hT : PT T) (hV : PV v) (hC : CI (v, T) A X) (hS : CHB (v 523) A X ∧ (0 ≤ A 1 ∧ A 1 < 100000) ∧ CRw v f m (A 0)) (hQ : ∀ w, jkK v w → (∀ a, a ≠ 524 → w a = v a) → EQm m (w 524) (rstR (tbl A X) m (A 1) f).1 → Q (.inl (some (vI (rstR (tbl A X) m (A 1) f).2))) (w, T)) : jmet g (d + 3) 0 0 MX0_rests [vR 400] (v, T) Q := by
  obtain ⟨hB, h1, c1, c2, c3, c4⟩ := hS
  refine jmet_of (ls := [some (vR 400), none, none]) sX0_rests rfl (by decide +kernel) (by decide) rfl (by simp [jent]) ?_
  refine jW_step ?_
  simp (disch := (first | decide | omega)) only [bX0_rests, jxs, hps, jtsw, jlsw, List.length_cons, List.length_nil, true_and, and_true, true_implies, false_implies, implies_true, not_true_eq_false, not_false_eq_true, false_and, and_false, if_true, if_false, or_true, true_or, or_false, false_or, Classical.not_not, and_self, Int.reduceAdd, Int.reduceMul, Int.reduceSub, Int.reduceNeg, Int.reduceLT, Int.reduceLE, Int.reduceEq, Int.reduceNe, Int.reduceToNat, Nat.reduceAdd, Nat.reduceMul, Nat.reduceSub, Nat.reduceLeDiff, Nat.reduceLT, Nat.reduceEqDiff, reduceIte, Nat.zero_le, Nat.le_refl, Nat.add_zero, Nat.zero_add, xwT hT, xwV hV]
  have cg := rstL_cg (ni := A 1) (c := tbl A X) (c' := tbl A X) (fun _ _ _ _ _ _ => rfl) 501 0 (v 524) f c2 c3
  refine xw_rests_1 (A := A) (X := X) hT c4 h1 501 0 v hV hC hB c1 c3 (by omega) (by omega) ?_
  intro w w1 w2 w3
  rw [cg.2.1]
  exact hQ w w1 w2 (by rw [w3]; exact cg.1)
theorem xw_rest {s : Int} {v : Int → Int → Int} (hT : PT T) (hV : PV v) (hC : CI (v, T) A X) (hS : SH A ∧ (0 ≤ A 1 ∧ A 1 < 100000)) (hQ : ∀ w, jkK v w → (0 ≤ s ∧ s ≤ 2 → CHB (w 523) A X) → Q (.inl (some (vI (restA A X s)))) (w, T)) : jmet g (d + 114) 0 0 MX0_rest [vR 400, vI s] (v, T) Q := by
  obtain ⟨hH, h1⟩ := hS
  unfold restA rsA at hQ
  refine jmet_of (ls := [some (vR 400), some (vI s)]) sX0_rest rfl (by decide +kernel) (by decide) rfl (by simp [jent]) ?_
  refine jW_step ?_
  simp (disch := (first | decide | omega)) only [bX0_rest, jxs, hps, jtsw, jlsw, List.length_cons, List.length_nil, true_and, and_true, true_implies, false_implies, implies_true, not_true_eq_false, not_false_eq_true, false_and, and_false, if_true, if_false, or_true, true_or, or_false, false_or, Classical.not_not, and_self, Int.reduceAdd, Int.reduceMul, Int.reduceSub, Int.reduceNeg, Int.reduceLT, Int.reduceLE, Int.reduceEq, Int.reduceNe, Int.reduceToNat, Nat.reduceAdd, Nat.reduceMul, Nat.reduceSub, Nat.reduceLeDiff, Nat.reduceLT, Nat.reduceEqDiff, reduceIte, Nat.zero_le, Nat.le_refl, Nat.add_zero, Nat.zero_add, xwT hT, xwV hV]
  refine ⟨0, 0, ⟨by omega, by omega⟩, xw_isShelf ?_⟩
  simp (disch := (first | decide | omega)) only [jxs, hps, jtsw, jlsw, List.length_cons, List.length_nil, true_and, and_true, true_implies, false_implies, implies_true, not_true_eq_false, not_false_eq_true, false_and, and_false, if_true, if_false, or_true, true_or, or_false, false_or, Classical.not_not, and_self, Int.reduceAdd, Int.reduceMul, Int.reduceSub, Int.reduceNeg, Int.reduceLT, Int.reduceLE, Int.reduceEq, Int.reduceNe, Int.reduceToNat, Nat.reduceAdd, Nat.reduceMul, Nat.reduceSub, Nat.reduceLeDiff, Nat.reduceLT, Nat.reduceEqDiff, reduceIte, Nat.zero_le, Nat.le_refl, Nat.add_zero, Nat.zero_add, xwT hT, xwV hV]
  refine ⟨fun h => ?_, fun h => ?_⟩
  · rw [if_pos h] at hQ
    refine ⟨0, 0, ⟨by omega, by omega⟩, xw_laysChange hT hV hC ?_⟩
    intro u hu hB
    have hVu := hu.pv hV
    have hCu := hu.ci hC
    have hV0 := hV
    have hV := hVu
    simp (disch := (first | decide | omega)) only [jxs, hps, jtsw, jlsw, List.length_cons, List.length_nil, true_and, and_true, true_implies, false_implies, implies_true, not_true_eq_false, not_false_eq_true, false_and, and_false, if_true, if_false, or_true, true_or, or_false, false_or, Classical.not_not, and_self, Int.reduceAdd, Int.reduceMul, Int.reduceSub, Int.reduceNeg, Int.reduceLT, Int.reduceLE, Int.reduceEq, Int.reduceNe, Int.reduceToNat, Nat.reduceAdd, Nat.reduceMul, Nat.reduceSub, Nat.reduceLeDiff, Nat.reduceLT, Nat.reduceEqDiff, reduceIte, Nat.zero_le, Nat.le_refl, Nat.add_zero, Nat.zero_add, xwT hT, xwV hV]
    refine ⟨0, 0, ⟨by omega, by omega⟩, xw_laysRow hT hVu hCu hH ⟨h.1, by omega⟩ ?_⟩
    intro w hw hr e23 _
    have hV := hw.pv
    simp (disch := (first | decide | omega)) only [jxs, hps, jtsw, jlsw, List.length_cons, List.length_nil, true_and, and_true, true_implies, false_implies, implies_true, not_true_eq_false, not_false_eq_true, false_and, and_false, if_true, if_false, or_true, true_or, or_false, false_or, Classical.not_not, and_self, Int.reduceAdd, Int.reduceMul, Int.reduceSub, Int.reduceNeg, Int.reduceLT, Int.reduceLE, Int.reduceEq, Int.reduceNe, Int.reduceToNat, Nat.reduceAdd, Nat.reduceMul, Nat.reduceSub, Nat.reduceLeDiff, Nat.reduceLT, Nat.reduceEqDiff, reduceIte, Nat.zero_le, Nat.le_refl, Nat.add_zero, Nat.zero_add, xwT hT, xwV hV]
    refine ⟨0, 0, ⟨by omega, by omega⟩, xw_rests hT hw.pv (hw.ci hCu) ⟨by rw [e23]; exact hB, h1, hr⟩ ?_⟩
    intro y y1 y2 y3
    simp (disch := (first | decide | omega)) only [jxs, hps, jtsw, jlsw, List.length_cons, List.length_nil, true_and, and_true, true_implies, false_implies, implies_true, not_true_eq_false, not_false_eq_true, false_and, and_false, if_true, if_false, or_true, true_or, or_false, false_or, Classical.not_not, and_self, Int.reduceAdd, Int.reduceMul, Int.reduceSub, Int.reduceNeg, Int.reduceLT, Int.reduceLE, Int.reduceEq, Int.reduceNe, Int.reduceToNat, Nat.reduceAdd, Nat.reduceMul, Nat.reduceSub, Nat.reduceLeDiff, Nat.reduceLT, Nat.reduceEqDiff, reduceIte, Nat.zero_le, Nat.le_refl, Nat.add_zero, Nat.zero_add, xwT hT, xwV hV]
    (repeat (refine And.intro (by (first | omega | assumption | trivial | (simp only [inI]; omega) | (simp only [inL]; omega) | (refine jb_01) | (exact jb_in))) ?_))
    exact hQ y (((hu.K hV0).tr hw).tr y1) (fun _ => by rw [y2 523 (by omega), e23]; exact hB)
  · rw [if_neg h] at hQ
    (repeat (refine And.intro (by (first | omega | assumption | trivial | (simp only [inI]; omega) | (simp only [inL]; omega) | (refine jb_01) | (exact jb_in))) ?_))
    exact hQ v (jkK.rf hV hC.nm) (fun x => absurd x h)
theorem xw_theftOf_1 {b s m : Int} {v : Int → Int → Int} (hT : PT T) (hV : PV v) (hv : v 400 10 = m) (hm : 0 ≤ m ∧ m ≤ 10) : ∀ (n : Nat) (p q c : Int), 0 ≤ p → p + n = m → (0 ≤ q ∧ q ≤ p) → (0 ≤ c ∧ c ≤ p) →
    Q (.inl (some (vI (coL (v 524) (v 538) b n p q c)))) (v, T) → jW bX0_theftOf (g, d + 3, 0, 0, Q) 1 [some (vR 400), some (vI b), some (vI s), some (vI c), some (vI p), some (vI q)] [] (v, T) 0 0 := by
  intro n
  induction n with
  | zero =>
    intro p q c hp hn hq hc hQ
    unfold coL at hQ
    refine jW_step ?_
    simp (disch := (first | decide | omega)) only [bX0_theftOf, jxs, hps, jtsw, jlsw, List.length_cons, List.length_nil, true_and, and_true, true_implies, false_implies, implies_true, not_true_eq_false, not_false_eq_true, false_and, and_false, if_true, if_false, or_true, true_or, or_false, false_or, Classical.not_not, and_self, Int.reduceAdd, Int.reduceMul, Int.reduceSub, Int.reduceNeg, Int.reduceLT, Int.reduceLE, Int.reduceEq, Int.reduceNe, Int.reduceToNat, Nat.reduceAdd, Nat.reduceMul, Nat.reduceSub, Nat.reduceLeDiff, Nat.reduceLT, Nat.reduceEqDiff, reduceIte, Nat.zero_le, Nat.le_refl, Nat.add_zero, Nat.zero_add, xwT hT, xwV hV, hv]
    (repeat (refine And.intro (by (first | omega | assumption | trivial | (simp only [inI]; omega) | (simp only [inL]; omega) | (refine jb_01) | (exact jb_in))) ?_))
    (try refine ⟨fun _ => ?_, fun h9 => (by exfalso; omega)⟩)
    (repeat (refine And.intro (by (first | omega | assumption | trivial | (simp only [inI]; omega) | (simp only [inL]; omega) | (refine jb_01) | (exact jb_in))) ?_))
    exact hQ
  | succ n ih =>
    intro p q c hp hn hq hc hQ
    unfold coL at hQ
    refine jW_step ?_
    simp (disch := (first | decide | omega)) only [bX0_theftOf, jxs, hps, jtsw, jlsw, List.length_cons, List.length_nil, true_and, and_true, true_implies, false_implies, implies_true, not_true_eq_false, not_false_eq_true, false_and, and_false, if_true, if_false, or_true, true_or, or_false, false_or, Classical.not_not, and_self, Int.reduceAdd, Int.reduceMul, Int.reduceSub, Int.reduceNeg, Int.reduceLT, Int.reduceLE, Int.reduceEq, Int.reduceNe, Int.reduceToNat, Nat.reduceAdd, Nat.reduceMul, Nat.reduceSub, Nat.reduceLeDiff, Nat.reduceLT, Nat.reduceEqDiff, reduceIte, Nat.zero_le, Nat.le_refl, Nat.add_zero, Nat.zero_add, xwT hT, xwV hV, hv]
    (repeat (refine And.intro (by (first | omega | assumption | trivial | (simp only [inI]; omega) | (simp only [inL]; omega) | (refine jb_01) | (exact jb_in))) ?_))
    (first | refine ⟨fun h9 => (by exfalso; omega), fun _ => ?_⟩ | intro _)
    (repeat (refine And.intro (by (first | omega | assumption | trivial | (simp only [inI]; omega) | (simp only [inL]; omega) | (refine jb_01) | (exact jb_in))) ?_))
    refine ⟨fun h => ?_, fun h => ?_⟩
    · rw [if_neg h] at hQ
      have k2 : ∀ z, z = (if v 524 p = v 538 q then (0 : Int) else 1) → jW bX0_theftOf (g, d + 3, 0, 0, Q) 2 [some (vR 400), some (vI b), some (vI s), some (vI c), some (vI p), some (vI q)] [vI z, vI c] (v, T) 0 0 := by
        intro z hz
        have z1 : 0 ≤ z ∧ z ≤ 1 := by rw [hz]; split <;> omega
        rw [← hz] at hQ
        refine jW_step ?_
        simp (disch := (first | decide | omega)) only [bX0_theftOf, jxs, hps, jtsw, jlsw, List.length_cons, List.length_nil, true_and, and_true, true_implies, false_implies, implies_true, not_true_eq_false, not_false_eq_true, false_and, and_false, if_true, if_false, or_true, true_or, or_false, false_or, Classical.not_not, and_self, Int.reduceAdd, Int.reduceMul, Int.reduceSub, Int.reduceNeg, Int.reduceLT, Int.reduceLE, Int.reduceEq, Int.reduceNe, Int.reduceToNat, Nat.reduceAdd, Nat.reduceMul, Nat.reduceSub, Nat.reduceLeDiff, Nat.reduceLT, Nat.reduceEqDiff, reduceIte, Nat.zero_le, Nat.le_refl, Nat.add_zero, Nat.zero_add, xwT hT, xwV hV]
        (repeat (refine And.intro (by (first | omega | assumption | trivial | (simp only [inI]; omega) | (simp only [inL]; omega) | (refine jb_01) | (exact jb_in))) ?_))
        refine jW_step ?_
        simp (disch := (first | decide | omega)) only [bX0_theftOf, jxs, hps, jtsw, jlsw, List.length_cons, List.length_nil, true_and, and_true, true_implies, false_implies, implies_true, not_true_eq_false, not_false_eq_true, false_and, and_false, if_true, if_false, or_true, true_or, or_false, false_or, Classical.not_not, and_self, Int.reduceAdd, Int.reduceMul, Int.reduceSub, Int.reduceNeg, Int.reduceLT, Int.reduceLE, Int.reduceEq, Int.reduceNe, Int.reduceToNat, Nat.reduceAdd, Nat.reduceMul, Nat.reduceSub, Nat.reduceLeDiff, Nat.reduceLT, Nat.reduceEqDiff, reduceIte, Nat.zero_le, Nat.le_refl, Nat.add_zero, Nat.zero_add, xwT hT, xwV hV]
        (repeat (refine And.intro (by (first | omega | assumption | trivial | (simp only [inI]; omega) | (simp only [inL]; omega) | (refine jb_01) | (exact jb_in))) ?_))
        exact ih (p + 1) (q + 1) (c + z) (by omega) (by omega) (by omega) (by omega) hQ
      (repeat (refine And.intro (by (first | omega | assumption | trivial | (simp only [inI]; omega) | (simp only [inL]; omega) | (refine jb_01) | (exact jb_in))) ?_))
      refine ⟨fun h2 => ?_, fun h2 => ?_⟩
      · exact k2 1 (by rw [if_neg h2])
      · exact k2 0 (by rw [if_pos (by omega)])
    · rw [if_pos (by omega)] at hQ
      refine jW_step ?_
      simp (disch := (first | decide | omega)) only [bX0_theftOf, jxs, hps, jtsw, jlsw, List.length_cons, List.length_nil, true_and, and_true, true_implies, false_implies, implies_true, not_true_eq_false, not_false_eq_true, false_and, and_false, if_true, if_false, or_true, true_or, or_false, false_or, Classical.not_not, and_self, Int.reduceAdd, Int.reduceMul, Int.reduceSub, Int.reduceNeg, Int.reduceLT, Int.reduceLE, Int.reduceEq, Int.reduceNe, Int.reduceToNat, Nat.reduceAdd, Nat.reduceMul, Nat.reduceSub, Nat.reduceLeDiff, Nat.reduceLT, Nat.reduceEqDiff, reduceIte, Nat.zero_le, Nat.le_refl, Nat.add_zero, Nat.zero_add, xwT hT, xwV hV]
      (repeat (refine And.intro (by (first | omega | assumption | trivial | (simp only [inI]; omega) | (simp only [inL]; omega) | (refine jb_01) | (exact jb_in))) ?_))
      exact ih (p + 1) q c (by omega) (by omega) (by omega) (by omega) hQ
theorem xw_theftOf {b : Int} {v : Int → Int → Int} (hT : PT T) (hV : PV v) (hC : CI (v, T) A X) (hS : CHB (v 523) A X ∧ SH A ∧ (0 ≤ A 1 ∧ A 1 < 100000) ∧ (0 ≤ b ∧ b < A 0) ∧ A (46 + 6 * b + 5) < 3) (hQ : ∀ w, jkK v w → w 523 = v 523 → Q (.inl (some (vI (coA A X b)))) (w, T)) : jmet g (d + 4) 0 0 MX0_theftOf [vR 400, vI b] (v, T) Q := by
  obtain ⟨hB, hH, h1, hb, hs⟩ := hS
  have hE := hC.tb
  have h0 := hE.1
  have w0 := (hE.2.2.2.2.2.2 (46 + 6 * b + 5) (by omega) (by omega)).1
  have hm := hE.2.2.2.2.2.1 (13 + A (46 + 6 * b + 5)) (by omega) (by omega)
  have hge := fun p (p0 : 0 ≤ p) (p1 : p < A (13 + A (46 + 6 * b + 5))) => (hE.2.2.2.2.2.2 (16 + 10 * A (46 + 6 * b + 5) + p) (by omega) (by omega)).1
  unfold coA rsA at hQ
  refine jmet_of (ls := [some (vR 400), some (vI b), none, none, none, none]) sX0_theftOf rfl (by decide +kernel) (by decide) rfl (by simp [jent]) ?_
  refine jW_step ?_
  simp (disch := (first | decide | omega)) only [bX0_theftOf, jxs, hps, jtsw, jlsw, List.length_cons, List.length_nil, true_and, and_true, true_implies, false_implies, implies_true, not_true_eq_false, not_false_eq_true, false_and, and_false, if_true, if_false, or_true, true_or, or_false, false_or, Classical.not_not, and_self, Int.reduceAdd, Int.reduceMul, Int.reduceSub, Int.reduceNeg, Int.reduceLT, Int.reduceLE, Int.reduceEq, Int.reduceNe, Int.reduceToNat, Nat.reduceAdd, Nat.reduceMul, Nat.reduceSub, Nat.reduceLeDiff, Nat.reduceLT, Nat.reduceEqDiff, reduceIte, Nat.zero_le, Nat.le_refl, Nat.add_zero, Nat.zero_add, xwT hT, xwV hV]
  refine ⟨0, 0, ⟨by omega, by omega⟩, xw_whereIs hT hV hC hb ?_⟩
  have cnt := lrF_cn (A := A) (s := A (46 + 6 * b + 5)) (b := b) hb.1 hge (A (13 + A (46 + 6 * b + 5))).toNat 0 0 0 (fun _ => 0) (fun _ => 0) (by omega) (by omega) rfl
  generalize A (46 + 6 * b + 5) = s at *
  simp (disch := (first | decide | omega)) only [jxs, hps, jtsw, jlsw, List.length_cons, List.length_nil, true_and, and_true, true_implies, false_implies, implies_true, not_true_eq_false, not_false_eq_true, false_and, and_false, if_true, if_false, or_true, true_or, or_false, false_or, Classical.not_not, and_self, Int.reduceAdd, Int.reduceMul, Int.reduceSub, Int.reduceNeg, Int.reduceLT, Int.reduceLE, Int.reduceEq, Int.reduceNe, Int.reduceToNat, Nat.reduceAdd, Nat.reduceMul, Nat.reduceSub, Nat.reduceLeDiff, Nat.reduceLT, Nat.reduceEqDiff, reduceIte, Nat.zero_le, Nat.le_refl, Nat.add_zero, Nat.zero_add, xwT hT, xwV hV]
  refine ⟨0, 0, ⟨by omega, by omega⟩, xw_laysRow hT hV hC hH ⟨w0, hs⟩ ?_⟩
  intro w hw hr e23 _
  have hVw := hw.pv
  have hCw := hw.ci hC
  have hV0 := hV
  have hV := hVw
  simp (disch := (first | decide | omega)) only [jxs, hps, jtsw, jlsw, List.length_cons, List.length_nil, true_and, and_true, true_implies, false_implies, implies_true, not_true_eq_false, not_false_eq_true, false_and, and_false, if_true, if_false, or_true, true_or, or_false, false_or, Classical.not_not, and_self, Int.reduceAdd, Int.reduceMul, Int.reduceSub, Int.reduceNeg, Int.reduceLT, Int.reduceLE, Int.reduceEq, Int.reduceNe, Int.reduceToNat, Nat.reduceAdd, Nat.reduceMul, Nat.reduceSub, Nat.reduceLeDiff, Nat.reduceLT, Nat.reduceEqDiff, reduceIte, Nat.zero_le, Nat.le_refl, Nat.add_zero, Nat.zero_add, xwT hT, xwV hV]
  refine ⟨0, 0, ⟨by omega, by omega⟩, xw_rests hT hVw hCw ⟨by rw [e23]; exact hB, h1, hr⟩ ?_⟩
  intro y y1 y2 y3
  have hVy := y1.pv
  have hCy := y1.ci hCw
  have y10 : y 400 10 = (lrZ A s b).2 := by rw [y2 400 (by omega)]; exact hr.1
  have ml := hr.2.2.2
  have jy := hw.tr y1
  have ey23 : y 523 = v 523 := (y2 523 (by omega)).trans e23
  have hV := hVy
  simp (disch := (first | decide | omega)) only [jxs, hps, jtsw, jlsw, List.length_cons, List.length_nil, true_and, and_true, true_implies, false_implies, implies_true, not_true_eq_false, not_false_eq_true, false_and, and_false, if_true, if_false, or_true, true_or, or_false, false_or, Classical.not_not, and_self, Int.reduceAdd, Int.reduceMul, Int.reduceSub, Int.reduceNeg, Int.reduceLT, Int.reduceLE, Int.reduceEq, Int.reduceNe, Int.reduceToNat, Nat.reduceAdd, Nat.reduceMul, Nat.reduceSub, Nat.reduceLeDiff, Nat.reduceLT, Nat.reduceEqDiff, reduceIte, Nat.zero_le, Nat.le_refl, Nat.add_zero, Nat.zero_add, xwT hT, xwV hV]
  by_cases h : (rstR (tbl A X) (lrZ A s b).2 (A 1) (lrZ A s b).1).2 = -1
  · rw [if_pos (by omega)] at hQ
    refine ⟨fun h9 => absurd h h9, fun _ => ?_⟩
    (repeat (refine And.intro (by (first | omega | assumption | trivial | (simp only [inI]; omega) | (simp only [inL]; omega) | (refine jb_01) | (exact jb_in))) ?_))
    exact hQ y jy ey23
  have nn : ∀ (n : Nat) (k : Int) (f : Int → Int) (m : Int), 0 ≤ k → -1 ≤ (rstL (tbl A X) m (A 1) n k f).2 := by
    intro n
    induction n with
    | zero => intro k f m hk; unfold rstL; dsimp only; omega
    | succ n ih =>
      intro k f m hk
      unfold rstL
      split
      · exact ih (k + 1) _ m (by omega)
      · dsimp only; omega
  have n1 := nn 501 0 (lrZ A s b).1 (lrZ A s b).2 (by omega)
  have n1' : -1 ≤ (rstR (tbl A X) (lrZ A s b).2 (A 1) (lrZ A s b).1).2 := n1
  rw [if_neg (by omega)] at hQ
  refine ⟨fun _ => ?_, fun h9 => absurd h9 h⟩
  rw [y10]
  simp (disch := (first | decide | omega)) only [jxs, hps, jtsw, jlsw, List.length_cons, List.length_nil, true_and, and_true, true_implies, false_implies, implies_true, not_true_eq_false, not_false_eq_true, false_and, and_false, if_true, if_false, or_true, true_or, or_false, false_or, Classical.not_not, and_self, Int.reduceAdd, Int.reduceMul, Int.reduceSub, Int.reduceNeg, Int.reduceLT, Int.reduceLE, Int.reduceEq, Int.reduceNe, Int.reduceToNat, Nat.reduceAdd, Nat.reduceMul, Nat.reduceSub, Nat.reduceLeDiff, Nat.reduceLT, Nat.reduceEqDiff, reduceIte, Nat.zero_le, Nat.le_refl, Nat.add_zero, Nat.zero_add, xwT hT, xwV hV, jcpy_eq]
  (repeat (refine And.intro (by (first | omega | assumption | trivial | (simp only [inI]; omega) | (simp only [inL]; omega) | (refine jb_01) | (exact jb_in))) ?_))
  have j3 : jkK y (upA y 538 (fun k => if 0 ≤ k ∧ k < 0 + (lrZ A s b).2 then y 524 (0 + (k - 0)) else y 538 k)) := jkK.up hVy hCy.nm (by omega)
  have u38 : EQm (lrZ A s b).2 ((upA y 538 (fun k => if 0 ≤ k ∧ k < 0 + (lrZ A s b).2 then y 524 (0 + (k - 0)) else y 538 k)) 538) (rstR (tbl A X) (lrZ A s b).2 (A 1) (lrZ A s b).1).1 := by
    intro i i0 i1
    rw [upA_eq, if_pos ⟨i0, by omega⟩, show 0 + (i - 0) = i by omega]
    exact y3 i i0 i1
  have u23 : (upA y 538 (fun k => if 0 ≤ k ∧ k < 0 + (lrZ A s b).2 then y 524 (0 + (k - 0)) else y 538 k)) 523 = v 523 := by
    rw [upA_ne (by omega)]
    exact ey23
  generalize upA y 538 (fun k => if 0 ≤ k ∧ k < 0 + (lrZ A s b).2 then y 524 (0 + (k - 0)) else y 538 k) = u at *
  have hVu := j3.pv
  have hCu := j3.ci hCy
  have ju := jy.tr j3
  have hV := hVu
  refine ⟨0, 0, ⟨by omega, by omega⟩, xw_laysRow hT hVu hCu hH ⟨w0, hs⟩ ?_⟩
  intro w2 hw2 hr2 e23b e38b
  have hVw2 := hw2.pv
  have hCw2 := hw2.ci hCu
  have hV := hVw2
  simp (disch := (first | decide | omega)) only [jxs, hps, jtsw, jlsw, List.length_cons, List.length_nil, true_and, and_true, true_implies, false_implies, implies_true, not_true_eq_false, not_false_eq_true, false_and, and_false, if_true, if_false, or_true, true_or, or_false, false_or, Classical.not_not, and_self, Int.reduceAdd, Int.reduceMul, Int.reduceSub, Int.reduceNeg, Int.reduceLT, Int.reduceLE, Int.reduceEq, Int.reduceNe, Int.reduceToNat, Nat.reduceAdd, Nat.reduceMul, Nat.reduceSub, Nat.reduceLeDiff, Nat.reduceLT, Nat.reduceEqDiff, reduceIte, Nat.zero_le, Nat.le_refl, Nat.add_zero, Nat.zero_add, xwT hT, xwV hV]
  refine ⟨0, 0, ⟨by omega, by omega⟩, xw_rests hT hVw2 hCw2 ⟨by rw [e23b, u23]; exact hB, h1, hr2⟩ ?_⟩
  intro x x1 x2 x3
  have hVx := x1.pv
  have x10 : x 400 10 = (lrZ A s (-1)).2 := by rw [x2 400 (by omega)]; exact hr2.1
  have ml2 := hr2.2.2.2
  have x38 : x 538 = u 538 := (x2 538 (by omega)).trans e38b
  have jx := (ju.tr hw2).tr x1
  have ex23 : x 523 = v 523 := by rw [x2 523 (by omega), e23b, u23]
  have hV := hVx
  simp (disch := (first | decide | omega)) only [jxs, hps, jtsw, jlsw, List.length_cons, List.length_nil, true_and, and_true, true_implies, false_implies, implies_true, not_true_eq_false, not_false_eq_true, false_and, and_false, if_true, if_false, or_true, true_or, or_false, false_or, Classical.not_not, and_self, Int.reduceAdd, Int.reduceMul, Int.reduceSub, Int.reduceNeg, Int.reduceLT, Int.reduceLE, Int.reduceEq, Int.reduceNe, Int.reduceToNat, Nat.reduceAdd, Nat.reduceMul, Nat.reduceSub, Nat.reduceLeDiff, Nat.reduceLT, Nat.reduceEqDiff, reduceIte, Nat.zero_le, Nat.le_refl, Nat.add_zero, Nat.zero_add, xwT hT, xwV hV]
  by_cases h2 : (rstR (tbl A X) (lrZ A s (-1)).2 (A 1) (lrZ A s (-1)).1).2 = -1
  · rw [if_pos (by omega)] at hQ
    refine ⟨fun h9 => absurd h2 h9, fun _ => ?_⟩
    (repeat (refine And.intro (by (first | omega | assumption | trivial | (simp only [inI]; omega) | (simp only [inL]; omega) | (refine jb_01) | (exact jb_in))) ?_))
    exact hQ x jx ex23
  have n2 : -1 ≤ (rstR (tbl A X) (lrZ A s (-1)).2 (A 1) (lrZ A s (-1)).1).2 := nn 501 0 (lrZ A s (-1)).1 (lrZ A s (-1)).2 (by omega)
  rw [if_neg (by omega)] at hQ
  refine ⟨fun _ => ?_, fun h9 => absurd h9 h2⟩
  refine xw_theftOf_1 hT hVx x10 ml2 (lrZ A s (-1)).2.toNat 0 0 0 (by omega) (by omega) (by omega) (by omega) ?_
  have cn1 : cnF (rstR (tbl A X) (lrZ A s (-1)).2 (A 1) (lrZ A s (-1)).1).1 b (lrZ A s (-1)).2.toNat = cnF (lrZ A s (-1)).1 b (lrZ A s (-1)).2.toNat := cnF_rst 501 0 _
  have cn2 : (lrZ A s b).2 = cnF (lrZ A s (-1)).1 b (lrZ A s (-1)).2.toNat := cnt
  have cn3 : cnF (x 524) b (lrZ A s (-1)).2.toNat = cnF (rstR (tbl A X) (lrZ A s (-1)).2 (A 1) (lrZ A s (-1)).1).1 b (lrZ A s (-1)).2.toNat := cnF_cg _ (fun i i0 i1 => x3 i i0 (by omega))
  have fin := coL_cg (b := b) (m := (lrZ A s (-1)).2) (mr := (lrZ A s b).2) x3 (r := x 538) (r' := (rstR (tbl A X) (lrZ A s b).2 (A 1) (lrZ A s b).1).1) (by rw [x38]; exact u38) (lrZ A s (-1)).2.toNat 0 0 0 (by omega) (by omega) (by
    rw [Nat.zero_add, cn3, cn1, ← cn2]
    show 0 + ((lrZ A s b).2 - 0) ≤ _
    omega)
  have fin2 : coL (x 524) (x 538) b (lrZ A s (-1)).2.toNat 0 0 0 = coL (rstR (tbl A X) (lrZ A s (-1)).2 (A 1) (lrZ A s (-1)).1).1 (rstR (tbl A X) (lrZ A s b).2 (A 1) (lrZ A s b).1).1 b (lrZ A s (-1)).2.toNat 0 0 0 := fin
  rw [fin2]
  exact hQ x jx ex23
end XG
