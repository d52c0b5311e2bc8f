/-! ===== the class: adding to a list ===== -/
-- MODE N
set_option maxRecDepth 100000
abbrev jqL : List Int := [6, 7, 8, 9, 10, 11, 12, 13, 15]
section XG
variable {g : jjG} {d : Nat} {T : jjT} {Q : jjQ} {v : Int → Int → Int}
theorem xj_newLength {c : Int} (hc : 10 ≤ c ∧ c ≤ 1000) (hQ : Q (.inl (some (vI (c + c / 2)))) (v, T)) : jmet g (d + 2) 0 0 MJ15_newLength [vI c, vI 1, vI (c / 2)] (v, T) Q := by
  refine jmet_of (ls := [some (vI c), some (vI 1), some (vI (c / 2)), none]) sJ15_newLength rfl (by decide +kernel) (by decide) rfl (by simp [jent]) ?_
  refine jW_step ?_
  simp (disch := (first | decide | omega)) only [bJ15_newLength, jxs, hps, jtsw, jlsw, List.length_cons, List.length_nil, true_and, and_true, true_implies, false_implies, implies_true, not_true_eq_false, not_false_eq_true, false_and, and_false, if_true, if_false, or_true, true_or, or_false, false_or, Classical.not_not, and_self, Int.reduceAdd, Int.reduceMul, Int.reduceSub, Int.reduceNeg, Int.reduceLT, Int.reduceLE, Int.reduceEq, Int.reduceNe, Int.reduceToNat, Nat.reduceAdd, Nat.reduceMul, Nat.reduceSub, Nat.reduceLeDiff, Nat.reduceLT, Nat.reduceEqDiff, reduceIte, Nat.zero_le, Nat.le_refl, Nat.add_zero, Nat.zero_add]
  refine ⟨0, 0, ⟨by omega, by omega⟩, xj_max2 ?_ ⟨⟨by omega, by omega⟩, ⟨by omega, by omega⟩⟩⟩
  rw [if_pos (by omega)]
  simp (disch := (first | decide | omega)) only [jxs, hps, jtsw, jlsw, List.length_cons, List.length_nil, true_and, and_true, true_implies, false_implies, implies_true, not_true_eq_false, not_false_eq_true, false_and, and_false, if_true, if_false, or_true, true_or, or_false, false_or, Classical.not_not, and_self, Int.reduceAdd, Int.reduceMul, Int.reduceSub, Int.reduceNeg, Int.reduceLT, Int.reduceLE, Int.reduceEq, Int.reduceNe, Int.reduceToNat, Nat.reduceAdd, Nat.reduceMul, Nat.reduceSub, Nat.reduceLeDiff, Nat.reduceLT, Nat.reduceEqDiff, reduceIte, Nat.zero_le, Nat.le_refl, Nat.add_zero, Nat.zero_add]
  (repeat (refine And.intro (by (first | omega | assumption | trivial | (simp only [inI]; omega) | (simp only [inL]; omega) | (refine jb_01) | (exact jb_in))) ?_))
  (first | refine ⟨fun h9 => (by exfalso; omega), fun _ => ?_⟩ | intro _)
  (first | refine ⟨fun h9 => (by exfalso; omega), fun _ => ?_⟩ | intro _)
  (repeat (refine And.intro (by (first | omega | assumption | trivial | (simp only [inI]; omega) | (simp only [inL]; omega) | (refine jb_01) | (exact jb_in))) ?_))
  exact hQ
theorem xj_grow2 {L E n c : Int} {mc ms : Nat} (t : jok T L 14) (hL : 562 ≤ L) (e1 : v L 1 = E) (tE : jok T E (-8)) (lE : jln T E = c) (hc : (c = 0 ∧ E = 7) ∨ (10 ≤ c ∧ 562 ≤ E ∧ c ≤ 600)) (hn : n = c) (h2 : 562 ≤ T.2) (hb : 1 ≤ mc ∧ (gcp c).toNat ≤ ms)
    (hQ : ∀ f, (∀ i, 0 ≤ i → i < n → f i = v E i) → Q (.inl (some (vR T.2))) (upA (upA v T.2 f) L (up1 (v L) 1 T.2), nt T (-8) (gcp c))) : jmet g (d + 8) mc ms MJ6_grow_2 [vR L, vI (n + 1)] (v, T) Q := by
  have ne : ¬ L = T.2 := by have := t.2.1; omega
  have t' : ∀ k, jok (nt T (-8) k) L 14 := fun k => jok_nt t
  refine jmet_of (ls := [some (vR L), some (vI (n + 1)), none, none]) sJ6_grow_2 rfl (by decide +kernel) (by decide) rfl (by simp [jent]) ?_
  rcases hc with ⟨c0, e7⟩ | ⟨c1, c2, c3⟩
  · have g0 : gcp c = 10 := by unfold gcp; rw [if_pos c0]
    rw [g0] at hb hQ
    rw [c0] at lE
    refine jW_step ?_
    simp (disch := (first | decide | omega)) only [bJ6_grow_2, jxs, hps, jtsw, jlsw, List.length_cons, List.length_nil, true_and, and_true, true_implies, false_implies, implies_true, not_true_eq_false, not_false_eq_true, false_and, and_false, if_true, if_false, or_true, true_or, or_false, false_or, Classical.not_not, and_self, Int.reduceAdd, Int.reduceMul, Int.reduceSub, Int.reduceNeg, Int.reduceLT, Int.reduceLE, Int.reduceEq, Int.reduceNe, Int.reduceToNat, Nat.reduceAdd, Nat.reduceMul, Nat.reduceSub, Nat.reduceLeDiff, Nat.reduceLT, Nat.reduceEqDiff, reduceIte, Nat.zero_le, Nat.le_refl, Nat.add_zero, Nat.zero_add, t, e1, tE, lE]
    (repeat (refine And.intro (by (first | omega | assumption | trivial | (simp only [inI]; omega) | (simp only [inL]; omega) | (refine jb_01) | (exact jb_in))) ?_))
    refine ⟨fun _ => ?_, fun h9 => absurd e7 h9⟩
    refine ⟨0, 0, ⟨by omega, by omega⟩, xj_max2 ?_ ⟨⟨by omega, by omega⟩, ⟨by omega, by omega⟩⟩⟩
    rw [if_neg (by omega)]
    simp (disch := (first | decide | omega)) only [jxs, hps, jtsw, jlsw, List.length_cons, List.length_nil, true_and, and_true, true_implies, false_implies, implies_true, not_true_eq_false, not_false_eq_true, false_and, and_false, if_true, if_false, or_true, true_or, or_false, false_or, Classical.not_not, and_self, Int.reduceAdd, Int.reduceMul, Int.reduceSub, Int.reduceNeg, Int.reduceLT, Int.reduceLE, Int.reduceEq, Int.reduceNe, Int.reduceToNat, Nat.reduceAdd, Nat.reduceMul, Nat.reduceSub, Nat.reduceLeDiff, Nat.reduceLT, Nat.reduceEqDiff, reduceIte, Nat.zero_le, Nat.le_refl, Nat.add_zero, Nat.zero_add, jnew_eq, t']
    (repeat (refine And.intro (by (first | omega | assumption | trivial | (simp only [inI]; omega) | (simp only [inL]; omega) | (refine jb_01) | (exact jb_in))) ?_))
    exact hQ (fun _ => 0) (fun i i0 i1 => by omega)
  · have g0 : gcp c = c + c / 2 := by unfold gcp; rw [if_neg (by omega)]
    rw [g0] at hb hQ
    have k1 : jW bJ6_grow_2 (g, d + 7, mc, ms, Q) 1 [some (vR L), some (vI (n + 1)), some (vI c), none] [] (v, T) 0 0 := by
      refine jW_step ?_
      simp (disch := (first | decide | omega)) only [bJ6_grow_2, jxs, hps, jtsw, jlsw, List.length_cons, List.length_nil, true_and, and_true, true_implies, false_implies, implies_true, not_true_eq_false, not_false_eq_true, false_and, and_false, if_true, if_false, or_true, true_or, or_false, false_or, Classical.not_not, and_self, Int.reduceAdd, Int.reduceMul, Int.reduceSub, Int.reduceNeg, Int.reduceLT, Int.reduceLE, Int.reduceEq, Int.reduceNe, Int.reduceToNat, Nat.reduceAdd, Nat.reduceMul, Nat.reduceSub, Nat.reduceLeDiff, Nat.reduceLT, Nat.reduceEqDiff, reduceIte, Nat.zero_le, Nat.le_refl, Nat.add_zero, Nat.zero_add]
      (repeat (refine And.intro (by (first | omega | assumption | trivial | (simp only [inI]; omega) | (simp only [inL]; omega) | (refine jb_01) | (exact jb_in))) ?_))
      rw [jshr_div ⟨by omega, by omega⟩ (by omega) (by omega), show n + 1 - c = 1 by omega, show c / 2 ^ (1 : Int).toNat = c / 2 by rfl]
      refine ⟨0, 0, ⟨by omega, by omega⟩, xj_newLength (d := d + 5) ⟨c1, by omega⟩ ?_⟩
      simp (disch := (first | decide | omega)) only [jxs, hps, jtsw, jlsw, List.length_cons, List.length_nil, true_and, and_true, true_implies, false_implies, implies_true, not_true_eq_false, not_false_eq_true, false_and, and_false, if_true, if_false, or_true, true_or, or_false, false_or, Classical.not_not, and_self, Int.reduceAdd, Int.reduceMul, Int.reduceSub, Int.reduceNeg, Int.reduceLT, Int.reduceLE, Int.reduceEq, Int.reduceNe, Int.reduceToNat, Nat.reduceAdd, Nat.reduceMul, Nat.reduceSub, Nat.reduceLeDiff, Nat.reduceLT, Nat.reduceEqDiff, reduceIte, Nat.zero_le, Nat.le_refl, Nat.add_zero, Nat.zero_add, t, e1]
      refine ⟨1, (c + c / 2).toNat, ⟨by omega, by omega⟩, xj_copyOf (d := d + 1) (n := c) ⟨tE, by omega, lE, by omega, by omega, by omega⟩ ?_⟩
      simp (disch := (first | decide | omega)) only [jxs, hps, jtsw, jlsw, List.length_cons, List.length_nil, true_and, and_true, true_implies, false_implies, implies_true, not_true_eq_false, not_false_eq_true, false_and, and_false, if_true, if_false, or_true, true_or, or_false, false_or, Classical.not_not, and_self, Int.reduceAdd, Int.reduceMul, Int.reduceSub, Int.reduceNeg, Int.reduceLT, Int.reduceLE, Int.reduceEq, Int.reduceNe, Int.reduceToNat, Nat.reduceAdd, Nat.reduceMul, Nat.reduceSub, Nat.reduceLeDiff, Nat.reduceLT, Nat.reduceEqDiff, reduceIte, Nat.zero_le, Nat.le_refl, Nat.add_zero, Nat.zero_add, t']
      (repeat (refine And.intro (by (first | omega | assumption | trivial | (simp only [inI]; omega) | (simp only [inL]; omega) | (refine jb_01) | (exact jb_in))) ?_))
      exact hQ _ (fun i i0 i1 => if_pos ⟨i0, by omega⟩)
    refine jW_step ?_
    simp (disch := (first | decide | omega)) only [bJ6_grow_2, jxs, hps, jtsw, jlsw, List.length_cons, List.length_nil, true_and, and_true, true_implies, false_implies, implies_true, not_true_eq_false, not_false_eq_true, false_and, and_false, if_true, if_false, or_true, true_or, or_false, false_or, Classical.not_not, and_self, Int.reduceAdd, Int.reduceMul, Int.reduceSub, Int.reduceNeg, Int.reduceLT, Int.reduceLE, Int.reduceEq, Int.reduceNe, Int.reduceToNat, Nat.reduceAdd, Nat.reduceMul, Nat.reduceSub, Nat.reduceLeDiff, Nat.reduceLT, Nat.reduceEqDiff, reduceIte, Nat.zero_le, Nat.le_refl, Nat.add_zero, Nat.zero_add, t, e1, tE, lE]
    (repeat (refine And.intro (by (first | omega | assumption | trivial | (simp only [inI]; omega) | (simp only [inL]; omega) | (refine jb_01) | (exact jb_in))) ?_))
    (try refine ⟨fun _ => ?_, fun h9 => (by exfalso; omega)⟩)
    exact k1
theorem xj_add2 {L E n c z : Int} {mc ms : Nat} (t : jok T L 14) (hL : 562 ≤ L) (e1 : v L 1 = E) (e2 : v L 2 = n) (e0 : v L 0 = n + 1) (tE : jok T E (-8)) (lE : jln T E = c) (hc : (c = 0 ∧ E = 7) ∨ (10 ≤ c ∧ 562 ≤ E ∧ c ≤ 500)) (hn : 0 ≤ n ∧ n ≤ c) (hz : jisA T z jqL) (h2 : 562 ≤ T.2) (hb : n = c → 1 ≤ mc ∧ (gcp c).toNat ≤ ms)
    (hQ : ∀ w T', T.2 ≤ T'.2 → (∀ a, 0 < a → a < T.2 → T'.1 a = T.1 a) → (∀ a, 0 < a → a < T.2 → a ≠ L → (a ≠ E ∨ a < 400) → w a = v a) → GLS w T' L (n + 1) (if n = c then gcp c else c) → (w L 1 = E ∨ w L 1 = T.2) → (∀ i, 0 ≤ i → i < n → aGet (w, T') L i = v E i) → aGet (w, T') L n = z → Q (.inl none) (w, T')) : jmet g (d + 10) mc ms MJ6_add_2 [vR L, vR z, vR E, vI n] (v, T) Q := by
  have neE : E ≠ L := by
    intro e
    have a := t.2.2
    have b := tE.2.2
    rw [e, a] at b
    omega
  have ne : ¬ L = T.2 := by have := t.2.1; omega
  have neL : ¬ L = E := fun e => neE e.symm
  refine jmet_of (ls := [some (vR L), some (vR z), some (vR E), some (vI n)]) sJ6_add_2 rfl (by decide +kernel) (by decide) rfl (by simp [jent]) ?_
  by_cases h : n = c
  · rw [if_pos h] at hQ
    have hb1 := hb h
    have g0 : 10 ≤ gcp c ∧ gcp c ≤ 900 ∧ n + 1 ≤ gcp c := by
      unfold gcp
      split <;> omega
    refine jW_step ?_
    simp (disch := (first | decide | omega)) only [bJ6_add_2, jxs, hps, jtsw, jlsw, List.length_cons, List.length_nil, true_and, and_true, true_implies, false_implies, implies_true, not_true_eq_false, not_false_eq_true, false_and, and_false, if_true, if_false, or_true, true_or, or_false, false_or, Classical.not_not, and_self, Int.reduceAdd, Int.reduceMul, Int.reduceSub, Int.reduceNeg, Int.reduceLT, Int.reduceLE, Int.reduceEq, Int.reduceNe, Int.reduceToNat, Nat.reduceAdd, Nat.reduceMul, Nat.reduceSub, Nat.reduceLeDiff, Nat.reduceLT, Nat.reduceEqDiff, reduceIte, Nat.zero_le, Nat.le_refl, Nat.add_zero, Nat.zero_add, tE, lE, t]
    (first | refine ⟨fun h9 => (by exfalso; omega), fun _ => ?_⟩ | intro _)
    have kg : jmet g (d + 9) mc ms MJ6_grow [vR L] (v, T) (jres (g, d + 9, mc, ms, Q) (ji_astore 2 (jW bJ6_add_2 (g, d + 9, mc, ms, Q) 1)) [some (vR L), some (vR z), some (vR E), some (vI n)] [] mc ms) := by
      refine jmet_of (ls := [some (vR L)]) sJ6_grow rfl (by decide +kernel) (by decide) rfl (by simp [jent]) ?_
      refine jW_step ?_
      simp (disch := (first | decide | omega)) only [bJ6_grow, jxs, hps, jtsw, jlsw, List.length_cons, List.length_nil, true_and, and_true, true_implies, false_implies, implies_true, not_true_eq_false, not_false_eq_true, false_and, and_false, if_true, if_false, or_true, true_or, or_false, false_or, Classical.not_not, and_self, Int.reduceAdd, Int.reduceMul, Int.reduceSub, Int.reduceNeg, Int.reduceLT, Int.reduceLE, Int.reduceEq, Int.reduceNe, Int.reduceToNat, Nat.reduceAdd, Nat.reduceMul, Nat.reduceSub, Nat.reduceLeDiff, Nat.reduceLT, Nat.reduceEqDiff, reduceIte, Nat.zero_le, Nat.le_refl, Nat.add_zero, Nat.zero_add, t, e2]
      (repeat (refine And.intro (by (first | omega | assumption | trivial | (simp only [inI]; omega) | (simp only [inL]; omega) | (refine jb_01) | (exact jb_in))) ?_))
      refine ⟨mc, ms, ⟨by omega, by omega⟩, xj_grow2 (n := n) t hL e1 tE lE (by omega) h h2 hb1 ?_⟩
      intro f hf
      have tn : jok (nt T (-8) (gcp c)) T.2 (-8) := nt_ok (by omega)
      have ln : jln (nt T (-8) (gcp c)) T.2 = gcp c := nt_ln
      have tL : jok (nt T (-8) (gcp c)) L 14 := jok_nt t
      have hz' : jisA (nt T (-8) (gcp c)) z jqL := by
        obtain ⟨ci, c1, c2⟩ := hz
        exact ⟨ci, c1, jok_nt c2⟩
      have ne3 : ¬ T.2 = L := fun e => ne e.symm
      simp (disch := (first | decide | omega)) only [jxs, hps, jtsw, jlsw, List.length_cons, List.length_nil, true_and, and_true, true_implies, false_implies, implies_true, not_true_eq_false, not_false_eq_true, false_and, and_false, if_true, if_false, or_true, true_or, or_false, false_or, Classical.not_not, and_self, Int.reduceAdd, Int.reduceMul, Int.reduceSub, Int.reduceNeg, Int.reduceLT, Int.reduceLE, Int.reduceEq, Int.reduceNe, Int.reduceToNat, Nat.reduceAdd, Nat.reduceMul, Nat.reduceSub, Nat.reduceLeDiff, Nat.reduceLT, Nat.reduceEqDiff, reduceIte, Nat.zero_le, Nat.le_refl, Nat.add_zero, Nat.zero_add]
      (repeat (refine And.intro (by (first | omega | assumption | trivial | (simp only [inI]; omega) | (simp only [inL]; omega) | (refine jb_01) | (exact jb_in))) ?_))
      refine jW_step ?_
      simp (disch := (first | decide | omega)) only [bJ6_add_2, jxs, hps, jtsw, jlsw, List.length_cons, List.length_nil, true_and, and_true, true_implies, false_implies, implies_true, not_true_eq_false, not_false_eq_true, false_and, and_false, if_true, if_false, or_true, true_or, or_false, false_or, Classical.not_not, and_self, Int.reduceAdd, Int.reduceMul, Int.reduceSub, Int.reduceNeg, Int.reduceLT, Int.reduceLE, Int.reduceEq, Int.reduceNe, Int.reduceToNat, Nat.reduceAdd, Nat.reduceMul, Nat.reduceSub, Nat.reduceLeDiff, Nat.reduceLT, Nat.reduceEqDiff, reduceIte, Nat.zero_le, Nat.le_refl, Nat.add_zero, Nat.zero_add, tn, ln, tL]
      (repeat (refine And.intro (by (first | omega | assumption | trivial | (simp only [inI]; omega) | (simp only [inL]; omega) | (refine jb_01) | (exact jb_in))) ?_))
      refine ⟨⟨by omega, by omega, by omega, hz'⟩, ?_⟩
      (repeat (refine And.intro (by (first | omega | assumption | trivial | (simp only [inI]; omega) | (simp only [inL]; omega) | (refine jb_01) | (exact jb_in))) ?_))
      refine hQ _ (nt T (-8) (gcp c)) (by show T.2 ≤ T.2 + 1; omega) (fun a _ a1 => (GRT.nt (tk := 0) (v := v) (f := f)).2.1 a (by omega) a1) ?_ ?_ ?_ ?_ ?_
      · intro a a0 a1 a2 _
        simp (disch := (first | decide | omega)) only [upA_ne, upA_eq]
      · refine ⟨⟨tL, ?_, by omega, ?_, ?_⟩, ?_, hL, Or.inr ⟨by omega, ?_⟩, ?_, by omega, by omega⟩
        · dsimp only
          simp (disch := (first | decide | omega)) only [upA_ne, upA_eq, up1_eq, up1_ne]
        · dsimp only
          simp (disch := (first | decide | omega)) only [upA_ne, upA_eq, up1_eq, up1_ne]
          exact tn
        · dsimp only
          simp (disch := (first | decide | omega)) only [upA_ne, upA_eq, up1_eq, up1_ne, ln]
          omega
        · simp (disch := (first | decide | omega)) only [upA_ne, upA_eq, up1_eq, up1_ne, ln]
        · simp (disch := (first | decide | omega)) only [upA_ne, upA_eq, up1_eq, up1_ne]
          omega
        · simp (disch := (first | decide | omega)) only [upA_ne, upA_eq, up1_eq, up1_ne]
          exact e0
      · right
        simp (disch := (first | decide | omega)) only [upA_ne, upA_eq, up1_eq, up1_ne]
      · intro i i0 i1
        unfold aGet
        dsimp only
        simp (disch := (first | decide | omega)) only [upA_ne, upA_eq, up1_eq, up1_ne]
        exact hf i i0 i1
      · unfold aGet
        dsimp only
        simp (disch := (first | decide | omega)) only [upA_ne, upA_eq, up1_eq, up1_ne]
    exact ⟨mc, ms, ⟨by omega, by omega⟩, kg⟩
  · rw [if_neg h] at hQ
    refine jW_step ?_
    simp (disch := (first | decide | omega)) only [bJ6_add_2, jxs, hps, jtsw, jlsw, List.length_cons, List.length_nil, true_and, and_true, true_implies, false_implies, implies_true, not_true_eq_false, not_false_eq_true, false_and, and_false, if_true, if_false, or_true, true_or, or_false, false_or, Classical.not_not, and_self, Int.reduceAdd, Int.reduceMul, Int.reduceSub, Int.reduceNeg, Int.reduceLT, Int.reduceLE, Int.reduceEq, Int.reduceNe, Int.reduceToNat, Nat.reduceAdd, Nat.reduceMul, Nat.reduceSub, Nat.reduceLeDiff, Nat.reduceLT, Nat.reduceEqDiff, reduceIte, Nat.zero_le, Nat.le_refl, Nat.add_zero, Nat.zero_add, tE, lE]
    (try refine ⟨fun _ => ?_, fun h9 => (by exfalso; omega)⟩)
    refine jW_step ?_
    simp (disch := (first | decide | omega)) only [bJ6_add_2, jxs, hps, jtsw, jlsw, List.length_cons, List.length_nil, true_and, and_true, true_implies, false_implies, implies_true, not_true_eq_false, not_false_eq_true, false_and, and_false, if_true, if_false, or_true, true_or, or_false, false_or, Classical.not_not, and_self, Int.reduceAdd, Int.reduceMul, Int.reduceSub, Int.reduceNeg, Int.reduceLT, Int.reduceLE, Int.reduceEq, Int.reduceNe, Int.reduceToNat, Nat.reduceAdd, Nat.reduceMul, Nat.reduceSub, Nat.reduceLeDiff, Nat.reduceLT, Nat.reduceEqDiff, reduceIte, Nat.zero_le, Nat.le_refl, Nat.add_zero, Nat.zero_add, tE, lE, t]
    refine ⟨⟨by omega, by omega, by omega, hz⟩, ?_⟩
    (repeat (refine And.intro (by (first | omega | assumption | trivial | (simp only [inI]; omega) | (simp only [inL]; omega) | (refine jb_01) | (exact jb_in))) ?_))
    refine hQ _ T (Int.le_refl _) (fun _ _ _ => rfl) ?_ ?_ ?_ ?_ ?_
    · intro a a0 a1 a2 a3
      have a4 : a ≠ E := by omega
      simp (disch := (first | decide | omega)) only [upA_ne, upA_eq]
    · refine ⟨⟨t, ?_, by omega, ?_, ?_⟩, ?_, hL, ?_, ?_, by omega, by omega⟩
      · dsimp only
        simp (disch := (first | decide | omega)) only [upA_ne, upA_eq, up1_eq, up1_ne]
      · dsimp only
        simp (disch := (first | decide | omega)) only [upA_ne, upA_eq, up1_eq, up1_ne, e1]
        exact tE
      · dsimp only
        simp (disch := (first | decide | omega)) only [upA_ne, upA_eq, up1_eq, up1_ne, e1, lE]
        omega
      · simp (disch := (first | decide | omega)) only [upA_ne, upA_eq, up1_eq, up1_ne, e1, lE]
      · simp (disch := (first | decide | omega)) only [upA_ne, upA_eq, up1_eq, up1_ne, e1]
        omega
      · simp (disch := (first | decide | omega)) only [upA_ne, upA_eq, up1_eq, up1_ne]
        exact e0
    · left
      simp (disch := (first | decide | omega)) only [upA_ne, upA_eq, up1_eq, up1_ne, e1]
    · intro i i0 i1
      unfold aGet
      dsimp only
      simp (disch := (first | decide | omega)) only [upA_ne, upA_eq, up1_eq, up1_ne, e1]
    · unfold aGet
      dsimp only
      simp (disch := (first | decide | omega)) only [upA_ne, upA_eq, up1_eq, up1_ne, e1]
theorem xj_add {L n c z : Int} {mc ms : Nat} (h : GLS v T L n c) (hz : jisA T z jqL) (h2 : 562 ≤ T.2) (hc : c ≤ 500) (hb : n = c → 1 ≤ mc ∧ (gcp c).toNat ≤ ms)
    (hQ : ∀ w T', T.2 ≤ T'.2 → (∀ a, 0 < a → a < T.2 → T'.1 a = T.1 a) → (∀ a, 0 < a → a < T.2 → a ≠ L → (a ≠ v L 1 ∨ a < 400) → w a = v a) → GLS w T' L (n + 1) (if n = c then gcp c else c) → (w L 1 = v L 1 ∨ w L 1 = T.2) → (∀ i, 0 ≤ i → i < n → aGet (w, T') L i = aGet (v, T) L i) → aGet (w, T') L n = z → Q (.inl (some (vI 1))) (w, T')) : jmet g (d + 11) mc ms MJ6_add [vR L, vR z] (v, T) Q := by
  have neE := h.ne
  obtain ⟨⟨l1, l2, l3, l4, l5⟩, h2', h3, h4, h5, h6, h7⟩ := h
  dsimp only at l1 l2 l4 l5
  refine jmet_of (ls := [some (vR L), some (vR z)]) sJ6_add rfl (by decide +kernel) (by decide) rfl (by simp [jent]) ?_
  refine jW_step ?_
  simp (disch := (first | decide | omega)) only [bJ6_add, jxs, hps, jtsw, jlsw, List.length_cons, List.length_nil, true_and, and_true, true_implies, false_implies, implies_true, not_true_eq_false, not_false_eq_true, false_and, and_false, if_true, if_false, or_true, true_or, or_false, false_or, Classical.not_not, and_self, Int.reduceAdd, Int.reduceMul, Int.reduceSub, Int.reduceNeg, Int.reduceLT, Int.reduceLE, Int.reduceEq, Int.reduceNe, Int.reduceToNat, Nat.reduceAdd, Nat.reduceMul, Nat.reduceSub, Nat.reduceLeDiff, Nat.reduceLT, Nat.reduceEqDiff, reduceIte, Nat.zero_le, Nat.le_refl, Nat.add_zero, Nat.zero_add, l1, l2, h5]
  (repeat (refine And.intro (by (first | omega | assumption | trivial | (simp only [inI]; omega) | (simp only [inL]; omega) | (refine jb_01) | (exact jb_in))) ?_))
  refine ⟨mc, ms, ⟨by omega, by omega⟩, xj_add2 (E := v L 1) (n := n) (c := c) l1 h3 (by rw [upA_eq, up1_ne (by decide)]) (by rw [upA_eq, up1_ne (by decide)]; exact l2) (by rw [upA_eq, up1_eq]) l4 h2' (by omega) (by omega) hz h2 hb ?_⟩
  intro w T' w1 w2 w3 w4 w5 w6 w7
  simp (disch := (first | decide | omega)) only [jxs, hps, jtsw, jlsw, List.length_cons, List.length_nil, true_and, and_true, true_implies, false_implies, implies_true, not_true_eq_false, not_false_eq_true, false_and, and_false, if_true, if_false, or_true, true_or, or_false, false_or, Classical.not_not, and_self, Int.reduceAdd, Int.reduceMul, Int.reduceSub, Int.reduceNeg, Int.reduceLT, Int.reduceLE, Int.reduceEq, Int.reduceNe, Int.reduceToNat, Nat.reduceAdd, Nat.reduceMul, Nat.reduceSub, Nat.reduceLeDiff, Nat.reduceLT, Nat.reduceEqDiff, reduceIte, Nat.zero_le, Nat.le_refl, Nat.add_zero, Nat.zero_add]
  (repeat (refine And.intro (by (first | omega | assumption | trivial | (simp only [inI]; omega) | (simp only [inL]; omega) | (refine jb_01) | (exact jb_in))) ?_))
  refine hQ w T' w1 w2 (fun a a0 a1 a2 a3 => (w3 a a0 a1 a2 a3).trans (upA_ne a2)) w4 w5 (fun i i0 i1 => ?_) w7
  rw [w6 i i0 i1, upA_ne neE]
  rfl
theorem xj_valueOf {i : Int} (hO : OLD v T) (hi : -128 ≤ i ∧ i ≤ 127) (hQ : Q (.inl (some (vR (v 6 (i + 128))))) (v, T)) : jmet g (d + 1) 0 0 MJ14_valueOf [vI i] (v, T) Q := by
  obtain ⟨_, _, _, ⟨h5, h6, h7⟩, _⟩ := hO
  refine jmet_of (ls := [some (vI i)]) sJ14_valueOf rfl (by decide +kernel) (by decide) rfl (by simp [jent]) ?_
  refine jW_step ?_
  simp (disch := (first | decide | omega)) only [bJ14_valueOf, jxs, hps, jtsw, jlsw, List.length_cons, List.length_nil, true_and, and_true, true_implies, false_implies, implies_true, not_true_eq_false, not_false_eq_true, false_and, and_false, if_true, if_false, or_true, true_or, or_false, false_or, Classical.not_not, and_self, Int.reduceAdd, Int.reduceMul, Int.reduceSub, Int.reduceNeg, Int.reduceLT, Int.reduceLE, Int.reduceEq, Int.reduceNe, Int.reduceToNat, Nat.reduceAdd, Nat.reduceMul, Nat.reduceSub, Nat.reduceLeDiff, Nat.reduceLT, Nat.reduceEqDiff, reduceIte, Nat.zero_le, Nat.le_refl, Nat.add_zero, Nat.zero_add, h5, h6]
  (first | refine ⟨fun h9 => (by exfalso; omega), fun _ => ?_⟩ | intro _)
  (first | refine ⟨fun h9 => (by exfalso; omega), fun _ => ?_⟩ | intro _)
  (repeat (refine And.intro (by (first | omega | assumption | trivial | (simp only [inI]; omega) | (simp only [inL]; omega) | (refine jb_01) | (exact jb_in))) ?_))
  exact hQ
end XG
