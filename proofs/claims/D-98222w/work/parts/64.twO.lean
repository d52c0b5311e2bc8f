/-! ===== the reference: basin, never ===== -/
set_option maxRecDepth 100000
theorem bsF_cg {ld ld' cm cm' : Int → Int} {al e : Int} (h1 : EQm (2 * al) ld ld') (h2 : EQm al cm cm') (h3 : LD ld' al) : ∀ (n : Nat) (k : Int), 0 ≤ k → k + n = al → bsF ld cm al e n k = bsF ld' cm' al e n k
  | 0, _, _, _ => rfl
  | n + 1, k, hk, hn => by
    unfold bsF
    rw [enA_cg h1 h2 h3 ⟨hk, by omega⟩, bsF_cg h1 h2 h3 n (k + 1) (by omega) (by omega)]
theorem nvF_cg {ld ld' cm cm' : Int → Int} {al : Int} (h1 : EQm (2 * al) ld ld') (h2 : EQm al cm cm') (h3 : LD ld' al) : ∀ (n : Nat) (k : Int), 0 ≤ k → k + n = al → nvF ld cm al n k = nvF ld' cm' al n k
  | 0, _, _, _ => rfl
  | n + 1, k, hk, hn => by
    unfold nvF
    rw [enA_cg h1 h2 h3 ⟨hk, by omega⟩, nvF_cg h1 h2 h3 n (k + 1) (by omega) (by omega)]
section TG
variable {g : jjG} {d : Nat} {T : jjT} {Q : jjQ}
theorem tw_basin_2 {l1 l2 e : Int} {v : Int → Int → Int} (hT : PT T) (hV : PV v) (hL : LD (v 552) (v 539 35)) : ∀ (r : Nat) (k n : Int), 0 ≤ k → k + r = v 539 35 → (0 ≤ n ∧ n ≤ k) →
    Q (.inl (some (vI (n + bsF (v 552) (v 553) (v 539 35) e r k)))) (v, T) →
    jW bX2_basin (g, d + 8, 0, 0, Q) 2 [some (vR 539), some (vI l1), some (vI l2), some (vI e), some (vI n), some (vI k)] [] (v, T) 0 0 := by
  have ha := hL.1
  intro r
  induction r with
  | zero =>
    intro k n hk hr hn hQ
    unfold bsF at hQ
    refine jW_step ?_
    simp (disch := (first | decide | omega)) only [bX2_basin, jxs, hps, jtsw, jlsw, List.length_cons, List.length_nil, true_and, and_true, true_implies, false_implies, implies_true, not_true_eq_false, not_false_eq_true, false_and, and_false, if_true, if_false, or_true, true_or, or_false, false_or, Classical.not_not, and_self, Int.reduceAdd, Int.reduceMul, Int.reduceSub, Int.reduceNeg, Int.reduceLT, Int.reduceLE, Int.reduceEq, Int.reduceNe, Int.reduceToNat, Nat.reduceAdd, Nat.reduceMul, Nat.reduceSub, Nat.reduceLeDiff, Nat.reduceLT, Nat.reduceEqDiff, reduceIte, Nat.zero_le, Nat.le_refl, Nat.add_zero, Nat.zero_add, twT hT, twV hV]
    (repeat (refine And.intro (by (first | omega | assumption | trivial | (simp only [inI]; omega) | (simp only [inL]; omega) | (refine jb_01) | (exact jb_in))) ?_))
    (try refine ⟨fun _ => ?_, fun h9 => (by exfalso; omega)⟩)
    (repeat (refine And.intro (by (first | omega | assumption | trivial | (simp only [inI]; omega) | (simp only [inL]; omega) | (refine jb_01) | (exact jb_in))) ?_))
    rwa [show n + 0 = n by omega] at hQ
  | succ r ih =>
    intro k n hk hr hn hQ
    unfold bsF at hQ
    have k3 : ∀ z, z = (if enA (v 552) (v 553) (v 539 35) k = e then (1 : Int) else 0) → jW bX2_basin (g, d + 8, 0, 0, Q) 3 [some (vR 539), some (vI l1), some (vI l2), some (vI e), some (vI n), some (vI k)] [vI z, vI n] (v, T) 0 0 := by
      intro z hz
      have z1 : 0 ≤ z ∧ z ≤ 1 := by rw [hz]; split <;> omega
      rw [← hz] at hQ
      refine jW_step ?_
      simp (disch := (first | decide | omega)) only [bX2_basin, jxs, hps, jtsw, jlsw, List.length_cons, List.length_nil, true_and, and_true, true_implies, false_implies, implies_true, not_true_eq_false, not_false_eq_true, false_and, and_false, if_true, if_false, or_true, true_or, or_false, false_or, Classical.not_not, and_self, Int.reduceAdd, Int.reduceMul, Int.reduceSub, Int.reduceNeg, Int.reduceLT, Int.reduceLE, Int.reduceEq, Int.reduceNe, Int.reduceToNat, Nat.reduceAdd, Nat.reduceMul, Nat.reduceSub, Nat.reduceLeDiff, Nat.reduceLT, Nat.reduceEqDiff, reduceIte, Nat.zero_le, Nat.le_refl, Nat.add_zero, Nat.zero_add, twT hT, twV hV]
      (repeat (refine And.intro (by (first | omega | assumption | trivial | (simp only [inI]; omega) | (simp only [inL]; omega) | (refine jb_01) | (exact jb_in))) ?_))
      refine ih (k + 1) (n + z) (by omega) (by omega) (by omega) ?_
      rw [show n + z + bsF (v 552) (v 553) (v 539 35) e r (k + 1) = n + (z + bsF (v 552) (v 553) (v 539 35) e r (k + 1)) by omega]
      exact hQ
    refine jW_step ?_
    simp (disch := (first | decide | omega)) only [bX2_basin, jxs, hps, jtsw, jlsw, List.length_cons, List.length_nil, true_and, and_true, true_implies, false_implies, implies_true, not_true_eq_false, not_false_eq_true, false_and, and_false, if_true, if_false, or_true, true_or, or_false, false_or, Classical.not_not, and_self, Int.reduceAdd, Int.reduceMul, Int.reduceSub, Int.reduceNeg, Int.reduceLT, Int.reduceLE, Int.reduceEq, Int.reduceNe, Int.reduceToNat, Nat.reduceAdd, Nat.reduceMul, Nat.reduceSub, Nat.reduceLeDiff, Nat.reduceLT, Nat.reduceEqDiff, reduceIte, Nat.zero_le, Nat.le_refl, Nat.add_zero, Nat.zero_add, twT hT, twV hV]
    (repeat (refine And.intro (by (first | omega | assumption | trivial | (simp only [inI]; omega) | (simp only [inL]; omega) | (refine jb_01) | (exact jb_in))) ?_))
    (first | refine ⟨fun h9 => (by exfalso; omega), fun _ => ?_⟩ | intro _)
    refine ⟨0, 0, ⟨by omega, by omega⟩, tw_endOf hT hV ⟨hL, by omega⟩ ?_⟩
    simp (disch := (first | decide | omega)) only [jxs, hps, jtsw, jlsw, List.length_cons, List.length_nil, true_and, and_true, true_implies, false_implies, implies_true, not_true_eq_false, not_false_eq_true, false_and, and_false, if_true, if_false, or_true, true_or, or_false, false_or, Classical.not_not, and_self, Int.reduceAdd, Int.reduceMul, Int.reduceSub, Int.reduceNeg, Int.reduceLT, Int.reduceLE, Int.reduceEq, Int.reduceNe, Int.reduceToNat, Nat.reduceAdd, Nat.reduceMul, Nat.reduceSub, Nat.reduceLeDiff, Nat.reduceLT, Nat.reduceEqDiff, reduceIte, Nat.zero_le, Nat.le_refl, Nat.add_zero, Nat.zero_add, twT hT, twV hV]
    refine ⟨fun h => ?_, fun h => ?_⟩
    · exact k3 0 (by rw [if_neg h])
    · exact k3 1 (by rw [if_pos (by omega)])
theorem tw_basin {v : Int → Int → Int} {s i : Int} (hT : PT T) (hV : PV v) (hS : TE v) (hQ : ∀ u, jko v u → Q (.inl (some (vI (bsnA (v 540) (v 542) s i)))) (u, T)) : jmet g (d + 9) 0 0 MX2_basin [vR 539, vI s, vI i] (v, T) Q := by
  have hE := hS
  have h0 := hE.1.1
  unfold bsnA at hQ
  refine jmet_of (ls := [some (vR 539), some (vI s), some (vI i), none, none, none]) sX2_basin rfl (by decide +kernel) (by decide) rfl (by simp [jent]) ?_
  refine jW_step ?_
  simp (disch := (first | decide | omega)) only [bX2_basin, jxs, hps, jtsw, jlsw, List.length_cons, List.length_nil, true_and, and_true, true_implies, false_implies, implies_true, not_true_eq_false, not_false_eq_true, false_and, and_false, if_true, if_false, or_true, true_or, or_false, false_or, Classical.not_not, and_self, Int.reduceAdd, Int.reduceMul, Int.reduceSub, Int.reduceNeg, Int.reduceLT, Int.reduceLE, Int.reduceEq, Int.reduceNe, Int.reduceToNat, Nat.reduceAdd, Nat.reduceMul, Nat.reduceSub, Nat.reduceLeDiff, Nat.reduceLT, Nat.reduceEqDiff, reduceIte, Nat.zero_le, Nat.le_refl, Nat.add_zero, Nat.zero_add, twT hT, twV hV]
  refine ⟨0, 0, ⟨by omega, by omega⟩, tw_isSet hT hV h0 ⟨fun h => ?_, fun h => ?_⟩⟩
  · unfold setC at h
    rw [if_pos h] at hQ
    have sm := setC_m h0 h
    simp (disch := (first | decide | omega)) only [jxs, hps, jtsw, jlsw, List.length_cons, List.length_nil, true_and, and_true, true_implies, false_implies, implies_true, not_true_eq_false, not_false_eq_true, false_and, and_false, if_true, if_false, or_true, true_or, or_false, false_or, Classical.not_not, and_self, Int.reduceAdd, Int.reduceMul, Int.reduceSub, Int.reduceNeg, Int.reduceLT, Int.reduceLE, Int.reduceEq, Int.reduceNe, Int.reduceToNat, Nat.reduceAdd, Nat.reduceMul, Nat.reduceSub, Nat.reduceLeDiff, Nat.reduceLT, Nat.reduceEqDiff, reduceIte, Nat.zero_le, Nat.le_refl, Nat.add_zero, Nat.zero_add, twT hT, twV hV]
    refine ⟨fun h2 => ?_, fun h2 => ?_⟩
    · rw [if_pos (by omega)] at hQ
      refine ⟨0, 0, ⟨by omega, by omega⟩, tw_laySet hT hV ⟨hE, sm.1, sm.2.2.2⟩ ?_⟩
      intro w hw jw _
      have hVw := jw.pv hV
      unfold bsnS at hQ
      have m0 := sm.2.2
      generalize tbS (v 540) (v 542) s = c at *
      generalize (elZ (v 540 0) s).2 = m at *
      have hf := fac_bd m0.2
      obtain ⟨w34, w35, w54, w51, wF⟩ := hw
      have cl := wF.cl
      have ld := wF.ld
      have LDj := ldJ_LD (c := c) m0
      have hLw : LD (w 552) (w 539 35) := by rw [w35]; exact LDj.cg ld
      have hV := hVw
      simp (disch := (first | decide | omega)) only [jxs, hps, jtsw, jlsw, List.length_cons, List.length_nil, true_and, and_true, true_implies, false_implies, implies_true, not_true_eq_false, not_false_eq_true, false_and, and_false, if_true, if_false, or_true, true_or, or_false, false_or, Classical.not_not, and_self, Int.reduceAdd, Int.reduceMul, Int.reduceSub, Int.reduceNeg, Int.reduceLT, Int.reduceLE, Int.reduceEq, Int.reduceNe, Int.reduceToNat, Nat.reduceAdd, Nat.reduceMul, Nat.reduceSub, Nat.reduceLeDiff, Nat.reduceLT, Nat.reduceEqDiff, reduceIte, Nat.zero_le, Nat.le_refl, Nat.add_zero, Nat.zero_add, twT hT, twV hV]
      refine ⟨0, 0, ⟨by omega, by omega⟩, tw_calmOrder hT hV (by rw [w35]; omega) ?_⟩
      rw [w35, cmF_cg cl (fac m).toNat 0 0 (by omega) (by omega)]
      have kb := cmF_bd (cm := clE c m) (i := i) (al := fac m) (fac m).toNat 0 0 (by omega) (by omega)
      rw [if_neg (show ¬ fac m = 0 by omega)] at kb
      generalize cmF (clE c m) i (fac m).toNat 0 0 = k at *
      simp (disch := (first | decide | omega)) only [jxs, hps, jtsw, jlsw, List.length_cons, List.length_nil, true_and, and_true, true_implies, false_implies, implies_true, not_true_eq_false, not_false_eq_true, false_and, and_false, if_true, if_false, or_true, true_or, or_false, false_or, Classical.not_not, and_self, Int.reduceAdd, Int.reduceMul, Int.reduceSub, Int.reduceNeg, Int.reduceLT, Int.reduceLE, Int.reduceEq, Int.reduceNe, Int.reduceToNat, Nat.reduceAdd, Nat.reduceMul, Nat.reduceSub, Nat.reduceLeDiff, Nat.reduceLT, Nat.reduceEqDiff, reduceIte, Nat.zero_le, Nat.le_refl, Nat.add_zero, Nat.zero_add, twT hT, twV hV]
      refine ⟨fun h4 => ?_, fun h4 => ?_⟩
      · rw [if_neg (by omega)] at hQ
        refine tw_basin_2 hT hVw hLw (fac m).toNat 0 0 (by omega) (by rw [w35]; omega) (by omega) ?_
        rw [w35, bsF_cg ld cl LDj (fac m).toNat 0 (by omega) (by omega), Int.zero_add]
        exact hQ w jw
      · rw [if_pos (by omega)] at hQ
        (repeat (refine And.intro (by (first | omega | assumption | trivial | (simp only [inI]; omega) | (simp only [inL]; omega) | (refine jb_01) | (exact jb_in))) ?_))
        exact hQ w jw
    · rw [if_neg (by omega)] at hQ
      refine jW_step ?_
      simp (disch := (first | decide | omega)) only [bX2_basin, jxs, hps, jtsw, jlsw, List.length_cons, List.length_nil, true_and, and_true, true_implies, false_implies, implies_true, not_true_eq_false, not_false_eq_true, false_and, and_false, if_true, if_false, or_true, true_or, or_false, false_or, Classical.not_not, and_self, Int.reduceAdd, Int.reduceMul, Int.reduceSub, Int.reduceNeg, Int.reduceLT, Int.reduceLE, Int.reduceEq, Int.reduceNe, Int.reduceToNat, Nat.reduceAdd, Nat.reduceMul, Nat.reduceSub, Nat.reduceLeDiff, Nat.reduceLT, Nat.reduceEqDiff, reduceIte, Nat.zero_le, Nat.le_refl, Nat.add_zero, Nat.zero_add, twT hT, twV hV]
      (repeat (refine And.intro (by (first | omega | assumption | trivial | (simp only [inI]; omega) | (simp only [inL]; omega) | (refine jb_01) | (exact jb_in))) ?_))
      exact hQ v jko.rf
  · unfold setC at h
    rw [if_neg h] at hQ
    simp (disch := (first | decide | omega)) only [jxs, hps, jtsw, jlsw, List.length_cons, List.length_nil, true_and, and_true, true_implies, false_implies, implies_true, not_true_eq_false, not_false_eq_true, false_and, and_false, if_true, if_false, or_true, true_or, or_false, false_or, Classical.not_not, and_self, Int.reduceAdd, Int.reduceMul, Int.reduceSub, Int.reduceNeg, Int.reduceLT, Int.reduceLE, Int.reduceEq, Int.reduceNe, Int.reduceToNat, Nat.reduceAdd, Nat.reduceMul, Nat.reduceSub, Nat.reduceLeDiff, Nat.reduceLT, Nat.reduceEqDiff, reduceIte, Nat.zero_le, Nat.le_refl, Nat.add_zero, Nat.zero_add, twT hT, twV hV]
    refine jW_step ?_
    simp (disch := (first | decide | omega)) only [bX2_basin, jxs, hps, jtsw, jlsw, List.length_cons, List.length_nil, true_and, and_true, true_implies, false_implies, implies_true, not_true_eq_false, not_false_eq_true, false_and, and_false, if_true, if_false, or_true, true_or, or_false, false_or, Classical.not_not, and_self, Int.reduceAdd, Int.reduceMul, Int.reduceSub, Int.reduceNeg, Int.reduceLT, Int.reduceLE, Int.reduceEq, Int.reduceNe, Int.reduceToNat, Nat.reduceAdd, Nat.reduceMul, Nat.reduceSub, Nat.reduceLeDiff, Nat.reduceLT, Nat.reduceEqDiff, reduceIte, Nat.zero_le, Nat.le_refl, Nat.add_zero, Nat.zero_add, twT hT, twV hV]
    (repeat (refine And.intro (by (first | omega | assumption | trivial | (simp only [inI]; omega) | (simp only [inL]; omega) | (refine jb_01) | (exact jb_in))) ?_))
    exact hQ v jko.rf
theorem tw_never_1 {l1 : Int} {v : Int → Int → Int} (hT : PT T) (hV : PV v) (hL : LD (v 552) (v 539 35)) : ∀ (r : Nat) (k n : Int), 0 ≤ k → k + r = v 539 35 → (0 ≤ n ∧ n ≤ k) →
    Q (.inl (some (vI (n + nvF (v 552) (v 553) (v 539 35) r k)))) (v, T) →
    jW bX2_never (g, d + 8, 0, 0, Q) 1 [some (vR 539), some (vI l1), some (vI n), some (vI k)] [] (v, T) 0 0 := by
  have ha := hL.1
  intro r
  induction r with
  | zero =>
    intro k n hk hr hn hQ
    unfold nvF at hQ
    refine jW_step ?_
    simp (disch := (first | decide | omega)) only [bX2_never, jxs, hps, jtsw, jlsw, List.length_cons, List.length_nil, true_and, and_true, true_implies, false_implies, implies_true, not_true_eq_false, not_false_eq_true, false_and, and_false, if_true, if_false, or_true, true_or, or_false, false_or, Classical.not_not, and_self, Int.reduceAdd, Int.reduceMul, Int.reduceSub, Int.reduceNeg, Int.reduceLT, Int.reduceLE, Int.reduceEq, Int.reduceNe, Int.reduceToNat, Nat.reduceAdd, Nat.reduceMul, Nat.reduceSub, Nat.reduceLeDiff, Nat.reduceLT, Nat.reduceEqDiff, reduceIte, Nat.zero_le, Nat.le_refl, Nat.add_zero, Nat.zero_add, twT hT, twV hV]
    (repeat (refine And.intro (by (first | omega | assumption | trivial | (simp only [inI]; omega) | (simp only [inL]; omega) | (refine jb_01) | (exact jb_in))) ?_))
    (try refine ⟨fun _ => ?_, fun h9 => (by exfalso; omega)⟩)
    (repeat (refine And.intro (by (first | omega | assumption | trivial | (simp only [inI]; omega) | (simp only [inL]; omega) | (refine jb_01) | (exact jb_in))) ?_))
    rwa [show n + 0 = n by omega] at hQ
  | succ r ih =>
    intro k n hk hr hn hQ
    unfold nvF at hQ
    have k3 : ∀ z, z = (if enA (v 552) (v 553) (v 539 35) k < 0 then (1 : Int) else 0) → jW bX2_never (g, d + 8, 0, 0, Q) 2 [some (vR 539), some (vI l1), some (vI n), some (vI k)] [vI z, vI n] (v, T) 0 0 := by
      intro z hz
      have z1 : 0 ≤ z ∧ z ≤ 1 := by rw [hz]; split <;> omega
      rw [← hz] at hQ
      refine jW_step ?_
      simp (disch := (first | decide | omega)) only [bX2_never, jxs, hps, jtsw, jlsw, List.length_cons, List.length_nil, true_and, and_true, true_implies, false_implies, implies_true, not_true_eq_false, not_false_eq_true, false_and, and_false, if_true, if_false, or_true, true_or, or_false, false_or, Classical.not_not, and_self, Int.reduceAdd, Int.reduceMul, Int.reduceSub, Int.reduceNeg, Int.reduceLT, Int.reduceLE, Int.reduceEq, Int.reduceNe, Int.reduceToNat, Nat.reduceAdd, Nat.reduceMul, Nat.reduceSub, Nat.reduceLeDiff, Nat.reduceLT, Nat.reduceEqDiff, reduceIte, Nat.zero_le, Nat.le_refl, Nat.add_zero, Nat.zero_add, twT hT, twV hV]
      (repeat (refine And.intro (by (first | omega | assumption | trivial | (simp only [inI]; omega) | (simp only [inL]; omega) | (refine jb_01) | (exact jb_in))) ?_))
      refine ih (k + 1) (n + z) (by omega) (by omega) (by omega) ?_
      rw [show n + z + nvF (v 552) (v 553) (v 539 35) r (k + 1) = n + (z + nvF (v 552) (v 553) (v 539 35) r (k + 1)) by omega]
      exact hQ
    refine jW_step ?_
    simp (disch := (first | decide | omega)) only [bX2_never, jxs, hps, jtsw, jlsw, List.length_cons, List.length_nil, true_and, and_true, true_implies, false_implies, implies_true, not_true_eq_false, not_false_eq_true, false_and, and_false, if_true, if_false, or_true, true_or, or_false, false_or, Classical.not_not, and_self, Int.reduceAdd, Int.reduceMul, Int.reduceSub, Int.reduceNeg, Int.reduceLT, Int.reduceLE, Int.reduceEq, Int.reduceNe, Int.reduceToNat, Nat.reduceAdd, Nat.reduceMul, Nat.reduceSub, Nat.reduceLeDiff, Nat.reduceLT, Nat.reduceEqDiff, reduceIte, Nat.zero_le, Nat.le_refl, Nat.add_zero, Nat.zero_add, twT hT, twV hV]
    (repeat (refine And.intro (by (first | omega | assumption | trivial | (simp only [inI]; omega) | (simp only [inL]; omega) | (refine jb_01) | (exact jb_in))) ?_))
    (first | refine ⟨fun h9 => (by exfalso; omega), fun _ => ?_⟩ | intro _)
    refine ⟨0, 0, ⟨by omega, by omega⟩, tw_endOf hT hV ⟨hL, by omega⟩ ?_⟩
    simp (disch := (first | decide | omega)) only [jxs, hps, jtsw, jlsw, List.length_cons, List.length_nil, true_and, and_true, true_implies, false_implies, implies_true, not_true_eq_false, not_false_eq_true, false_and, and_false, if_true, if_false, or_true, true_or, or_false, false_or, Classical.not_not, and_self, Int.reduceAdd, Int.reduceMul, Int.reduceSub, Int.reduceNeg, Int.reduceLT, Int.reduceLE, Int.reduceEq, Int.reduceNe, Int.reduceToNat, Nat.reduceAdd, Nat.reduceMul, Nat.reduceSub, Nat.reduceLeDiff, Nat.reduceLT, Nat.reduceEqDiff, reduceIte, Nat.zero_le, Nat.le_refl, Nat.add_zero, Nat.zero_add, twT hT, twV hV]
    refine ⟨fun h => ?_, fun h => ?_⟩
    · exact k3 0 (by rw [if_neg (by omega)])
    · exact k3 1 (by rw [if_pos (by omega)])
theorem tw_never {v : Int → Int → Int} {s : Int} (hT : PT T) (hV : PV v) (hS : TE v) (hQ : ∀ u, jko v u → Q (.inl (some (vI (nvrA (v 540) (v 542) s)))) (u, T)) : jmet g (d + 9) 0 0 MX2_never [vR 539, vI s] (v, T) Q := by
  have hE := hS
  have h0 := hE.1.1
  unfold nvrA at hQ
  refine jmet_of (ls := [some (vR 539), some (vI s), none, none]) sX2_never rfl (by decide +kernel) (by decide) rfl (by simp [jent]) ?_
  refine jW_step ?_
  simp (disch := (first | decide | omega)) only [bX2_never, jxs, hps, jtsw, jlsw, List.length_cons, List.length_nil, true_and, and_true, true_implies, false_implies, implies_true, not_true_eq_false, not_false_eq_true, false_and, and_false, if_true, if_false, or_true, true_or, or_false, false_or, Classical.not_not, and_self, Int.reduceAdd, Int.reduceMul, Int.reduceSub, Int.reduceNeg, Int.reduceLT, Int.reduceLE, Int.reduceEq, Int.reduceNe, Int.reduceToNat, Nat.reduceAdd, Nat.reduceMul, Nat.reduceSub, Nat.reduceLeDiff, Nat.reduceLT, Nat.reduceEqDiff, reduceIte, Nat.zero_le, Nat.le_refl, Nat.add_zero, Nat.zero_add, twT hT, twV hV]
  refine ⟨0, 0, ⟨by omega, by omega⟩, tw_isSet hT hV h0 ⟨fun h => ?_, fun h => ?_⟩⟩
  · unfold setC at h
    rw [if_pos h] at hQ
    have sm := setC_m h0 h
    simp (disch := (first | decide | omega)) only [jxs, hps, jtsw, jlsw, List.length_cons, List.length_nil, true_and, and_true, true_implies, false_implies, implies_true, not_true_eq_false, not_false_eq_true, false_and, and_false, if_true, if_false, or_true, true_or, or_false, false_or, Classical.not_not, and_self, Int.reduceAdd, Int.reduceMul, Int.reduceSub, Int.reduceNeg, Int.reduceLT, Int.reduceLE, Int.reduceEq, Int.reduceNe, Int.reduceToNat, Nat.reduceAdd, Nat.reduceMul, Nat.reduceSub, Nat.reduceLeDiff, Nat.reduceLT, Nat.reduceEqDiff, reduceIte, Nat.zero_le, Nat.le_refl, Nat.add_zero, Nat.zero_add, twT hT, twV hV]
    refine ⟨0, 0, ⟨by omega, by omega⟩, tw_laySet hT hV ⟨hE, sm.1, sm.2.2.2⟩ ?_⟩
    intro w hw jw _
    have hVw := jw.pv hV
    have m0 := sm.2.2
    generalize tbS (v 540) (v 542) s = c at *
    generalize (elZ (v 540 0) s).2 = m at *
    have hf := fac_bd m0.2
    obtain ⟨w34, w35, w54, w51, wF⟩ := hw
    have cl := wF.cl
    have ld := wF.ld
    have LDj := ldJ_LD (c := c) m0
    have hLw : LD (w 552) (w 539 35) := by rw [w35]; exact LDj.cg ld
    have hV := hVw
    simp (disch := (first | decide | omega)) only [jxs, hps, jtsw, jlsw, List.length_cons, List.length_nil, true_and, and_true, true_implies, false_implies, implies_true, not_true_eq_false, not_false_eq_true, false_and, and_false, if_true, if_false, or_true, true_or, or_false, false_or, Classical.not_not, and_self, Int.reduceAdd, Int.reduceMul, Int.reduceSub, Int.reduceNeg, Int.reduceLT, Int.reduceLE, Int.reduceEq, Int.reduceNe, Int.reduceToNat, Nat.reduceAdd, Nat.reduceMul, Nat.reduceSub, Nat.reduceLeDiff, Nat.reduceLT, Nat.reduceEqDiff, reduceIte, Nat.zero_le, Nat.le_refl, Nat.add_zero, Nat.zero_add, twT hT, twV hV]
    refine tw_never_1 hT hVw hLw (fac m).toNat 0 0 (by omega) (by rw [w35]; omega) (by omega) ?_
    rw [w35, nvF_cg ld cl LDj (fac m).toNat 0 (by omega) (by omega), Int.zero_add]
    exact hQ w jw
  · unfold setC at h
    rw [if_neg h] at hQ
    simp (disch := (first | decide | omega)) only [jxs, hps, jtsw, jlsw, List.length_cons, List.length_nil, true_and, and_true, true_implies, false_implies, implies_true, not_true_eq_false, not_false_eq_true, false_and, and_false, if_true, if_false, or_true, true_or, or_false, false_or, Classical.not_not, and_self, Int.reduceAdd, Int.reduceMul, Int.reduceSub, Int.reduceNeg, Int.reduceLT, Int.reduceLE, Int.reduceEq, Int.reduceNe, Int.reduceToNat, Nat.reduceAdd, Nat.reduceMul, Nat.reduceSub, Nat.reduceLeDiff, Nat.reduceLT, Nat.reduceEqDiff, reduceIte, Nat.zero_le, Nat.le_refl, Nat.add_zero, Nat.zero_add, twT hT, twV hV]
    (repeat (refine And.intro (by (first | omega | assumption | trivial | (simp only [inI]; omega) | (simp only [inL]; omega) | (refine jb_01) | (exact jb_in))) ?_))
    exact hQ v jko.rf
end TG
