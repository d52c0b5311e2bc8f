/-! ===== the class: chains ===== -/
-- MODE N
set_option maxRecDepth 100000
def gcN (c : Nat) : Nat := if c = 0 then 10 else c + c / 2
theorem gcN_eq {c : Nat} : gcp (c : Int) = (gcN c : Int) := by
  unfold gcp gcN
  by_cases h : c = 0
  · rw [if_pos (by omega), if_pos h]; rfl
  · rw [if_neg (by omega), if_neg h]; omega
theorem nt_2 {T : jjT} {c n : Int} : (nt T c n).2 = T.2 + 1 := rfl
/-- a chain as it grows -/
def CHN (v : Int → Int → Int) (T : jjT) (X0 L1 L2 m c : Int) : Prop :=
  jok T X0 7 ∧ (v X0 1 = L1 ∧ v X0 2 = L2) ∧ (X0 < L1 ∧ X0 < L2 ∧ L1 ≠ L2 ∧ 562 ≤ X0) ∧ GLS v T L1 m c ∧ GLS v T L2 m c ∧ ((v L1 1 = 7 ∧ v L2 1 = 7) ∨ (X0 < v L1 1 ∧ X0 < v L2 1 ∧ v L1 1 ≠ v L2 1))
theorem jok_ne {T : jjT} {a b c c' : Int} (h : jok T a c) (h2 : jok T b c') (hc : c ≠ c') : a ≠ b := by
  intro e
  have a1 := h.2.2
  have a2 := h2.2.2
  rw [e, a2] at a1
  exact hc a1.symm
/-- cells that a growing chain leaves alone -/
abbrev fzC (v : Int → Int → Int) (X0 L1 L2 : Int) : Int → Prop := fun a => a < 400 ∨ (X0 < a ∧ a ≠ L1 ∧ a ≠ L2 ∧ a ≠ v L1 1 ∧ a ≠ v L2 1)
section XG
variable {g : jjG} {d : Nat} {T : jjT} {Q : jjQ} {v : Int → Int → Int}
theorem xw_chInit {X0 a : Int} (t : jok T X0 7) (hX : 562 ≤ X0) (hO : jok T 7 (-8) ∧ jln T 7 = 0) (hQ : ∀ w, (∀ b, 0 < b → b < T.2 → b ≠ X0 → w b = v b) → w X0 0 = a → CHN w (nt (nt T 14 3) 14 3) X0 T.2 (T.2 + 1) 0 0 → Q (.inl none) (w, nt (nt T 14 3) 14 3)) : jmet g (d + 7) 2 6 MX7_init [vR X0, vR a] (v, T) Q := by
  have x1 := t.2.1
  have h2 : 0 < T.2 := by omega
  have h2' : 0 < (nt T 14 3).2 := by show 0 < T.2 + 1; omega
  have t1 : jok (nt T 14 3) T.2 14 := nt_ok h2
  have t2 : jok (nt (nt T 14 3) 14 3) (T.2 + 1) 14 := nt_ok h2'
  have tx1 : jok (nt T 14 3) X0 7 := jok_nt t
  have tx2 : jok (nt (nt T 14 3) 14 3) X0 7 := jok_nt tx1
  have t12 : jok (nt (nt T 14 3) 14 3) T.2 14 := jok_nt t1
  have o1 : jok (nt (nt T 14 3) 14 3) 7 (-8) := jok_nt (jok_nt hO.1)
  have o2 : jln (nt (nt T 14 3) 14 3) 7 = 0 := by rw [jln_nt (jok_nt hO.1), jln_nt hO.1]; exact hO.2
  refine jmet_of (ls := [some (vR X0), some (vR a)]) sX7_initO rfl (by decide +kernel) (by decide) rfl (by simp [jent]) ?_
  refine jW_step ?_
  simp (disch := (first | decide | omega)) only [bX7_initO, jxs, hps, jtsw, jlsw, List.length_cons, List.length_nil, true_and, and_true, true_implies, false_implies, implies_true, not_true_eq_false, not_false_eq_true, false_and, and_false, if_true, if_false, or_true, true_or, or_false, false_or, Classical.not_not, and_self, Int.reduceAdd, Int.reduceMul, Int.reduceSub, Int.reduceNeg, Int.reduceLT, Int.reduceLE, Int.reduceEq, Int.reduceNe, Int.reduceToNat, Nat.reduceAdd, Nat.reduceMul, Nat.reduceSub, Nat.reduceLeDiff, Nat.reduceLT, Nat.reduceEqDiff, reduceIte, Nat.zero_le, Nat.le_refl, Nat.add_zero, Nat.zero_add, jx_obj, jnew_eq, nt_2]
  (repeat (refine And.intro (by (first | omega | assumption | trivial | (simp only [inI]; omega) | (simp only [inL]; omega) | (refine jb_01) | (exact jb_in))) ?_))
  refine ⟨0, 0, ⟨by omega, by omega⟩, xj_linit t1 (by omega) ?_⟩
  simp (disch := (first | decide | omega)) only [jxs, hps, jtsw, jlsw, List.length_cons, List.length_nil, true_and, and_true, true_implies, false_implies, implies_true, not_true_eq_false, not_false_eq_true, false_and, and_false, if_true, if_false, or_true, true_or, or_false, false_or, Classical.not_not, and_self, Int.reduceAdd, Int.reduceMul, Int.reduceSub, Int.reduceNeg, Int.reduceLT, Int.reduceLE, Int.reduceEq, Int.reduceNe, Int.reduceToNat, Nat.reduceAdd, Nat.reduceMul, Nat.reduceSub, Nat.reduceLeDiff, Nat.reduceLT, Nat.reduceEqDiff, reduceIte, Nat.zero_le, Nat.le_refl, Nat.add_zero, Nat.zero_add, jnew_eq, nt_2, tx1]
  (repeat (refine And.intro (by (first | omega | assumption | trivial | (simp only [inI]; omega) | (simp only [inL]; omega) | (refine jb_01) | (exact jb_in))) ?_))
  refine ⟨0, 0, ⟨by omega, by omega⟩, xj_linit t2 (by omega) ?_⟩
  simp (disch := (first | decide | omega)) only [jxs, hps, jtsw, jlsw, List.length_cons, List.length_nil, true_and, and_true, true_implies, false_implies, implies_true, not_true_eq_false, not_false_eq_true, false_and, and_false, if_true, if_false, or_true, true_or, or_false, false_or, Classical.not_not, and_self, Int.reduceAdd, Int.reduceMul, Int.reduceSub, Int.reduceNeg, Int.reduceLT, Int.reduceLE, Int.reduceEq, Int.reduceNe, Int.reduceToNat, Nat.reduceAdd, Nat.reduceMul, Nat.reduceSub, Nat.reduceLeDiff, Nat.reduceLT, Nat.reduceEqDiff, reduceIte, Nat.zero_le, Nat.le_refl, Nat.add_zero, Nat.zero_add, tx2]
  (repeat (refine And.intro (by (first | omega | assumption | trivial | (simp only [inI]; omega) | (simp only [inL]; omega) | (refine jb_01) | (exact jb_in))) ?_))
  refine hQ _ ?_ ?_ ⟨tx2, ⟨?_, ?_⟩, ⟨by omega, by omega, by omega, hX⟩, ?_, ?_, Or.inl ⟨?_, ?_⟩⟩
  · intro b b0 b1 b2
    simp (disch := (first | decide | omega)) only [upA_ne, upA_eq]
  · simp (disch := (first | decide | omega)) only [upA_ne, upA_eq, up1_eq, up1_ne]
  · simp (disch := (first | decide | omega)) only [upA_ne, upA_eq, up1_eq, up1_ne]
  · simp (disch := (first | decide | omega)) only [upA_ne, upA_eq, up1_eq, up1_ne]
  · refine ⟨⟨t12, ?_, by omega, ?_, ?_⟩, ?_, by omega, Or.inl ⟨rfl, ?_⟩, ?_, by omega, by omega⟩ <;> (try dsimp only) <;> simp (disch := (first | decide | omega)) only [upA_ne, upA_eq, up1_eq, up1_ne, o1, o2] <;> (try omega)
  · refine ⟨⟨t2, ?_, by omega, ?_, ?_⟩, ?_, by omega, Or.inl ⟨rfl, ?_⟩, ?_, by omega, by omega⟩ <;> (try dsimp only) <;> simp (disch := (first | decide | omega)) only [upA_ne, upA_eq, up1_eq, up1_ne, o1, o2] <;> (try omega)
  · simp (disch := (first | decide | omega)) only [upA_ne, upA_eq, up1_eq, up1_ne]
  · simp (disch := (first | decide | omega)) only [upA_ne, upA_eq, up1_eq, up1_ne]
theorem xw_chAdd {X0 L1 L2 m s a : Int} {c mc ms : Nat} (hC : CHN v T X0 L1 L2 m c) (hO : OLD v T) (h2 : 562 ≤ T.2) (ha : jisA T a [7, 8, 9, 10]) (hs : -128 ≤ s ∧ s ≤ 127) (hc : c ≤ 500) (hb : m = c → 2 ≤ mc ∧ 2 * gcN c ≤ ms)
    (hQ : ∀ w T', T.2 ≤ T'.2 → (∀ b, 0 < b → b < T.2 → T'.1 b = T.1 b) → (∀ b, 0 < b → b < T.2 → fzC v X0 L1 L2 b ∨ b ≤ X0 → w b = v b) → CHN w T' X0 L1 L2 (m + 1) ((if m = c then gcN c else c : Nat) : Int) → (w L1 1 = v L1 1 ∨ T.2 ≤ w L1 1) → (w L2 1 = v L2 1 ∨ T.2 ≤ w L2 1) → (∀ i, 0 ≤ i → i < m → aGet (w, T') L1 i = aGet (v, T) L1 i ∧ aGet (w, T') L2 i = aGet (v, T) L2 i) → aGet (w, T') L1 m = a → aGet (w, T') L2 m = v 6 (s + 128) → Q (.inl none) (w, T')) : jmet g (d + 12) mc ms MX7_add [vR X0, vI s, vR a] (v, T) Q := by
  obtain ⟨t, ⟨e1, e2⟩, ⟨x1, x2, x3, x4⟩, G1, G2, hE⟩ := hC
  have ob := hO.2.2.2.1.2.2 (s + 128) (by omega) (by omega)
  have l1 := G1.1.1
  have l2 := G2.1.1
  have r1 := G1.1.2.2.2.1
  have r2 := G2.1.2.2.2.1
  dsimp only at l1 l2 r1 r2
  have n1 := jok_ne l2 r1 (by decide)
  have n2 := jok_ne l1 r2 (by decide)
  have n3 := jok_ne t r1 (by decide)
  have n4 := jok_ne t r2 (by decide)
  have n5 := G1.ne
  have n6 := G2.ne
  have gb : gcp (c : Int) = (gcN c : Int) := gcN_eq
  refine jmet_of (ls := [some (vR X0), some (vI s), some (vR a)]) sX7_add rfl (by decide +kernel) (by decide) rfl (by simp [jent]) ?_
  refine jW_step ?_
  simp (disch := (first | decide | omega)) only [bX7_add, jxs, hps, jtsw, jlsw, List.length_cons, List.length_nil, true_and, and_true, true_implies, false_implies, implies_true, not_true_eq_false, not_false_eq_true, false_and, and_false, if_true, if_false, or_true, true_or, or_false, false_or, Classical.not_not, and_self, Int.reduceAdd, Int.reduceMul, Int.reduceSub, Int.reduceNeg, Int.reduceLT, Int.reduceLE, Int.reduceEq, Int.reduceNe, Int.reduceToNat, Nat.reduceAdd, Nat.reduceMul, Nat.reduceSub, Nat.reduceLeDiff, Nat.reduceLT, Nat.reduceEqDiff, reduceIte, Nat.zero_le, Nat.le_refl, Nat.add_zero, Nat.zero_add, t, e1, e2]
  refine ⟨0, 0, ⟨by omega, by omega⟩, xj_valueOf (d := d + 10) hO hs ?_⟩
  simp (disch := (first | decide | omega)) only [jxs, hps, jtsw, jlsw, List.length_cons, List.length_nil, true_and, and_true, true_implies, false_implies, implies_true, not_true_eq_false, not_false_eq_true, false_and, and_false, if_true, if_false, or_true, true_or, or_false, false_or, Classical.not_not, and_self, Int.reduceAdd, Int.reduceMul, Int.reduceSub, Int.reduceNeg, Int.reduceLT, Int.reduceLE, Int.reduceEq, Int.reduceNe, Int.reduceToNat, Nat.reduceAdd, Nat.reduceMul, Nat.reduceSub, Nat.reduceLeDiff, Nat.reduceLT, Nat.reduceEqDiff, reduceIte, Nat.zero_le, Nat.le_refl, Nat.add_zero, Nat.zero_add, l2]
  refine ⟨if m = c then 1 else 0, if m = c then gcN c else 0, ⟨?_, ?_⟩, xj_add (d := d) G2 ⟨15, by decide, ob.1⟩ h2 (by omega) (fun h => ?_) ?_⟩
  · split
    · have := hb (by assumption); omega
    · omega
  · split
    · have := hb (by assumption); omega
    · omega
  · rw [if_pos h, if_pos h, gb]; omega
  intro w T1 w1 w2 w3 w4 w5 w6 w7
  have eX : w X0 = v X0 := w3 X0 (by omega) t.2.1 (by omega) (Or.inl n4)
  have eL1 : w L1 = v L1 := w3 L1 l1.1 l1.2.1 x3 (Or.inl n2)
  have ty : ∀ b c, jok T b c → jok T1 b c := fun b c q => ⟨q.1, by have := q.2.1; omega, by rw [w2 b q.1 q.2.1]; exact q.2.2⟩
  have G1w : GLS w T1 L1 m c := G1.fr eL1 w2 w1
  have eE1 : w (v L1 1) = v (v L1 1) := w3 _ r1.1 r1.2.1 (fun e => n1 e.symm) (by rcases hE with ⟨q1, q2⟩ | ⟨q1, q2, q3⟩ <;> omega)
  have tX := ty _ _ t
  have tL1 := ty _ _ l1
  have eX1 : w X0 1 = L1 := by rw [eX]; exact e1
  simp (disch := (first | decide | omega)) only [jxs, hps, jtsw, jlsw, List.length_cons, List.length_nil, true_and, and_true, true_implies, false_implies, implies_true, not_true_eq_false, not_false_eq_true, false_and, and_false, if_true, if_false, or_true, true_or, or_false, false_or, Classical.not_not, and_self, Int.reduceAdd, Int.reduceMul, Int.reduceSub, Int.reduceNeg, Int.reduceLT, Int.reduceLE, Int.reduceEq, Int.reduceNe, Int.reduceToNat, Nat.reduceAdd, Nat.reduceMul, Nat.reduceSub, Nat.reduceLeDiff, Nat.reduceLT, Nat.reduceEqDiff, reduceIte, Nat.zero_le, Nat.le_refl, Nat.add_zero, Nat.zero_add, tX, eX1]
  (repeat (refine And.intro (by (first | omega | assumption | trivial | (simp only [inI]; omega) | (simp only [inL]; omega) | (refine jb_01) | (exact jb_in))) ?_))
  refine ⟨if m = c then 1 else 0, if m = c then gcN c else 0, ⟨?_, ?_⟩, xj_add (d := d) G1w ((by obtain ⟨z, z1, z2⟩ := ha; exact ⟨z, z1, ty _ _ z2⟩ : jisA T1 a [7, 8, 9, 10]).sub (by decide)) (by omega) (by omega) (fun h => ?_) ?_⟩
  · split
    · have := hb (by assumption); omega
    · omega
  · split
    · have := hb (by assumption); omega
    · omega
  · rw [if_pos h, if_pos h, gb]; omega
  intro y T2 y1 y2 y3 y4 y5 y6 y7
  simp (disch := (first | decide | omega)) only [jxs, hps, jtsw, jlsw, List.length_cons, List.length_nil, true_and, and_true, true_implies, false_implies, implies_true, not_true_eq_false, not_false_eq_true, false_and, and_false, if_true, if_false, or_true, true_or, or_false, false_or, Classical.not_not, and_self, Int.reduceAdd, Int.reduceMul, Int.reduceSub, Int.reduceNeg, Int.reduceLT, Int.reduceLE, Int.reduceEq, Int.reduceNe, Int.reduceToNat, Nat.reduceAdd, Nat.reduceMul, Nat.reduceSub, Nat.reduceLeDiff, Nat.reduceLT, Nat.reduceEqDiff, reduceIte, Nat.zero_le, Nat.le_refl, Nat.add_zero, Nat.zero_add]
  (repeat (refine And.intro (by (first | omega | assumption | trivial | (simp only [inI]; omega) | (simp only [inL]; omega) | (refine jb_01) | (exact jb_in))) ?_))
  have ty2 : ∀ b, 0 < b → b < T.2 → T2.1 b = T.1 b := fun b b0 b1 => (y2 b b0 (by omega)).trans (w2 b b0 b1)
  have l2w := w4.1.1
  have r2w := w4.1.2.2.2.1
  dsimp only at l2w r2w
  have nL1E2 : w L2 1 ≠ L1 := jok_ne r2w tL1 (by decide)
  have yL2 : y L2 = w L2 := y3 L2 l2w.1 l2w.2.1 (fun e => x3 e.symm) (by rw [eL1]; exact Or.inl n1)
  have yX : y X0 = v X0 := (y3 X0 (by omega) tX.2.1 (by omega) (by rw [eL1]; exact Or.inl n3)).trans eX
  have E12 : w L2 1 ≠ v L1 1 ∨ w L2 1 < 400 := by
    rcases w5 with q | q
    · rcases hE with ⟨p1, p2⟩ | ⟨p1, p2, p3⟩
      · right; omega
      · left; rw [q]; exact fun e => p3 e.symm
    · left
      have := r1.2.1
      omega
  have yE2 : y (w L2 1) = w (w L2 1) := y3 _ r2w.1 r2w.2.1 nL1E2 (by rw [eL1]; exact E12)
  have G2y : GLS y T2 L2 (m + 1) (if m = (c : Int) then gcp c else c) := w4.fr yL2 y2 y1
  have ec : (if m = (c : Int) then gcp (c : Int) else (c : Int)) = ((if m = (c : Int) then gcN c else c : Nat) : Int) := by
    split
    · exact gb
    · rfl
  rw [ec] at y4 G2y
  have hcst : ((if m = (c : Int) then 1 else 0) + if m = (c : Int) then 1 else 0) ≤ mc ∧ ((if m = (c : Int) then gcN c else 0) + if m = (c : Int) then gcN c else 0) ≤ ms := by
    by_cases h : m = (c : Int)
    · rw [if_pos h, if_pos h]; have := hb h; omega
    · rw [if_neg h, if_neg h]; omega
  refine ⟨hcst.1, hcst.2, ?_⟩
  refine hQ y T2 (by omega) ty2 ?_ ⟨⟨t.1, by have := t.2.1; omega, by rw [ty2 X0 t.1 t.2.1]; exact t.2.2⟩, by rw [yX]; exact ⟨e1, e2⟩, ⟨x1, x2, x3, x4⟩, y4, G2y, ?_⟩ ?_ ?_ ?_ y7 ?_
  · intro b b0 b1 b2
    have c1 : b ≠ L1 ∧ b ≠ L2 ∧ (b ≠ v L1 1 ∨ b < 400) ∧ (b ≠ v L2 1 ∨ b < 400) := by
      rcases b2 with (q | q) | q
      · refine ⟨by omega, by omega, Or.inr q, Or.inr q⟩
      · exact ⟨q.2.1, q.2.2.1, Or.inl q.2.2.2.1, Or.inl q.2.2.2.2⟩
      · refine ⟨by omega, by omega, ?_, ?_⟩
        · rcases hE with ⟨p1, p2⟩ | ⟨p1, p2, p3⟩ <;> omega
        · rcases hE with ⟨p1, p2⟩ | ⟨p1, p2, p3⟩ <;> omega
    rw [y3 b b0 (by omega) c1.1 (by rw [eL1]; exact c1.2.2.1), w3 b b0 b1 c1.2.1 c1.2.2.2]
  · rw [yL2]
    rw [eL1] at y5
    have q1 := r1.2.1
    have q2 := r2.2.1
    have q3 := r2w.2.1
    have q4 := t.2.1
    have z1 := y4.1.2.2.2.1
    have z2 := y4.2.2.2.1
    have z3 := w4.2.2.2.1
    have z4 := y4.2.1
    rcases hE with ⟨p1, p2⟩ | ⟨p1, p2, p3⟩
    · by_cases hm : m = (c : Int)
      · rw [if_pos hm] at z2 z3
        have gc := G1.2.2.2.1
        have z5 : (10 : Int) ≤ gcN c := by unfold gcN; split <;> omega
        right
        have a1 : y L1 1 = T1.2 := by omega
        have a2 : w L2 1 = T.2 := by omega
        omega
      · rw [if_neg hm] at z2 z3
        have := G1.2.2.2.1
        have l := G1.1.2.2.2.2
        have l2 := G1.2.1
        have l3 := G1.1.2.2.1
        dsimp only at l l2
        exfalso
        omega
    · right
      rcases y5 with q | q <;> rcases w5 with q' | q' <;> omega
  · rw [← eL1]
    rcases y5 with q | q
    · exact Or.inl q
    · right; omega
  · rw [yL2]
    rcases w5 with q | q
    · exact Or.inl q
    · right; omega
  · intro i i0 i1
    refine ⟨?_, ?_⟩
    · rw [y6 i i0 i1]
      unfold aGet
      dsimp only
      rw [eL1, eE1]
    · rw [← w6 i i0 i1]
      unfold aGet
      dsimp only
      rw [yL2, yE2]
  · rw [← w7]
    unfold aGet
    dsimp only
    rw [yL2, yE2]
theorem xw_itself {X0 L1 L2 m c : Int} (hC : CHN v T X0 L1 L2 m c) (hQ : Q (.inl (some (vR (if m = 0 then v X0 0 else X0)))) (v, T)) : jmet g (d + 2) 0 0 MX7_itself [vR X0] (v, T) Q := by
  obtain ⟨t, ⟨e1, e2⟩, ⟨x1, x2, x3, x4⟩, G1, G2, hE⟩ := hC
  have l1 := G1.1.1
  have l2 := G1.1.2.1
  dsimp only at l1 l2
  have ke : ∀ Q : jjQ, Q (.inl (some (vI (if m = 0 then 1 else 0)))) (v, T) → jmet g (d + 1) 0 0 MJ6_isEmpty [vR L1] (v, T) Q := by
    intro Q hQ
    refine jmet_of (ls := [some (vR L1)]) sJ6_isEmpty rfl (by decide +kernel) (by decide) rfl (by simp [jent]) ?_
    refine jW_step ?_
    simp (disch := (first | decide | omega)) only [bJ6_isEmpty, jxs, hps, jtsw, jlsw, List.length_cons, List.length_nil, true_and, and_true, true_implies, false_implies, implies_true, not_true_eq_false, not_false_eq_true, false_and, and_false, if_true, if_false, or_true, true_or, or_false, false_or, Classical.not_not, and_self, Int.reduceAdd, Int.reduceMul, Int.reduceSub, Int.reduceNeg, Int.reduceLT, Int.reduceLE, Int.reduceEq, Int.reduceNe, Int.reduceToNat, Nat.reduceAdd, Nat.reduceMul, Nat.reduceSub, Nat.reduceLeDiff, Nat.reduceLT, Nat.reduceEqDiff, reduceIte, Nat.zero_le, Nat.le_refl, Nat.add_zero, Nat.zero_add, l1, l2]
    refine ⟨fun h => ?_, fun h => ?_⟩
    · rw [if_neg h] at hQ
      refine jW_step ?_
      simp (disch := (first | decide | omega)) only [bJ6_isEmpty, jxs, hps, jtsw, jlsw, List.length_cons, List.length_nil, true_and, and_true, true_implies, false_implies, implies_true, not_true_eq_false, not_false_eq_true, false_and, and_false, if_true, if_false, or_true, true_or, or_false, false_or, Classical.not_not, and_self, Int.reduceAdd, Int.reduceMul, Int.reduceSub, Int.reduceNeg, Int.reduceLT, Int.reduceLE, Int.reduceEq, Int.reduceNe, Int.reduceToNat, Nat.reduceAdd, Nat.reduceMul, Nat.reduceSub, Nat.reduceLeDiff, Nat.reduceLT, Nat.reduceEqDiff, reduceIte, Nat.zero_le, Nat.le_refl, Nat.add_zero, Nat.zero_add]
      (repeat (refine And.intro (by (first | omega | assumption | trivial | (simp only [inI]; omega) | (simp only [inL]; omega) | (refine jb_01) | (exact jb_in))) ?_))
      exact hQ
    · rw [if_pos (by omega)] at hQ
      refine jW_step ?_
      simp (disch := (first | decide | omega)) only [bJ6_isEmpty, jxs, hps, jtsw, jlsw, List.length_cons, List.length_nil, true_and, and_true, true_implies, false_implies, implies_true, not_true_eq_false, not_false_eq_true, false_and, and_false, if_true, if_false, or_true, true_or, or_false, false_or, Classical.not_not, and_self, Int.reduceAdd, Int.reduceMul, Int.reduceSub, Int.reduceNeg, Int.reduceLT, Int.reduceLE, Int.reduceEq, Int.reduceNe, Int.reduceToNat, Nat.reduceAdd, Nat.reduceMul, Nat.reduceSub, Nat.reduceLeDiff, Nat.reduceLT, Nat.reduceEqDiff, reduceIte, Nat.zero_le, Nat.le_refl, Nat.add_zero, Nat.zero_add]
      (repeat (refine And.intro (by (first | omega | assumption | trivial | (simp only [inI]; omega) | (simp only [inL]; omega) | (refine jb_01) | (exact jb_in))) ?_))
      exact hQ
  refine jmet_of (ls := [some (vR X0)]) sX7_itself rfl (by decide +kernel) (by decide) rfl (by simp [jent]) ?_
  refine jW_step ?_
  simp (disch := (first | decide | omega)) only [bX7_itself, jxs, hps, jtsw, jlsw, List.length_cons, List.length_nil, true_and, and_true, true_implies, false_implies, implies_true, not_true_eq_false, not_false_eq_true, false_and, and_false, if_true, if_false, or_true, true_or, or_false, false_or, Classical.not_not, and_self, Int.reduceAdd, Int.reduceMul, Int.reduceSub, Int.reduceNeg, Int.reduceLT, Int.reduceLE, Int.reduceEq, Int.reduceNe, Int.reduceToNat, Nat.reduceAdd, Nat.reduceMul, Nat.reduceSub, Nat.reduceLeDiff, Nat.reduceLT, Nat.reduceEqDiff, reduceIte, Nat.zero_le, Nat.le_refl, Nat.add_zero, Nat.zero_add, t, e1, l1]
  refine ⟨0, 0, ⟨by omega, by omega⟩, ke _ ?_⟩
  by_cases h : m = 0
  · rw [if_pos h] at hQ ⊢
    simp (disch := (first | decide | omega)) only [jxs, hps, jtsw, jlsw, List.length_cons, List.length_nil, true_and, and_true, true_implies, false_implies, implies_true, not_true_eq_false, not_false_eq_true, false_and, and_false, if_true, if_false, or_true, true_or, or_false, false_or, Classical.not_not, and_self, Int.reduceAdd, Int.reduceMul, Int.reduceSub, Int.reduceNeg, Int.reduceLT, Int.reduceLE, Int.reduceEq, Int.reduceNe, Int.reduceToNat, Nat.reduceAdd, Nat.reduceMul, Nat.reduceSub, Nat.reduceLeDiff, Nat.reduceLT, Nat.reduceEqDiff, reduceIte, Nat.zero_le, Nat.le_refl, Nat.add_zero, Nat.zero_add, t]
    refine jW_step ?_
    simp (disch := (first | decide | omega)) only [bX7_itself, jxs, hps, jtsw, jlsw, List.length_cons, List.length_nil, true_and, and_true, true_implies, false_implies, implies_true, not_true_eq_false, not_false_eq_true, false_and, and_false, if_true, if_false, or_true, true_or, or_false, false_or, Classical.not_not, and_self, Int.reduceAdd, Int.reduceMul, Int.reduceSub, Int.reduceNeg, Int.reduceLT, Int.reduceLE, Int.reduceEq, Int.reduceNe, Int.reduceToNat, Nat.reduceAdd, Nat.reduceMul, Nat.reduceSub, Nat.reduceLeDiff, Nat.reduceLT, Nat.reduceEqDiff, reduceIte, Nat.zero_le, Nat.le_refl, Nat.add_zero, Nat.zero_add]
    (repeat (refine And.intro (by (first | omega | assumption | trivial | (simp only [inI]; omega) | (simp only [inL]; omega) | (refine jb_01) | (exact jb_in))) ?_))
    exact hQ
  · rw [if_neg h] at hQ ⊢
    simp (disch := (first | decide | omega)) only [jxs, hps, jtsw, jlsw, List.length_cons, List.length_nil, true_and, and_true, true_implies, false_implies, implies_true, not_true_eq_false, not_false_eq_true, false_and, and_false, if_true, if_false, or_true, true_or, or_false, false_or, Classical.not_not, and_self, Int.reduceAdd, Int.reduceMul, Int.reduceSub, Int.reduceNeg, Int.reduceLT, Int.reduceLE, Int.reduceEq, Int.reduceNe, Int.reduceToNat, Nat.reduceAdd, Nat.reduceMul, Nat.reduceSub, Nat.reduceLeDiff, Nat.reduceLT, Nat.reduceEqDiff, reduceIte, Nat.zero_le, Nat.le_refl, Nat.add_zero, Nat.zero_add]
    refine jW_step ?_
    simp (disch := (first | decide | omega)) only [bX7_itself, jxs, hps, jtsw, jlsw, List.length_cons, List.length_nil, true_and, and_true, true_implies, false_implies, implies_true, not_true_eq_false, not_false_eq_true, false_and, and_false, if_true, if_false, or_true, true_or, or_false, false_or, Classical.not_not, and_self, Int.reduceAdd, Int.reduceMul, Int.reduceSub, Int.reduceNeg, Int.reduceLT, Int.reduceLE, Int.reduceEq, Int.reduceNe, Int.reduceToNat, Nat.reduceAdd, Nat.reduceMul, Nat.reduceSub, Nat.reduceLeDiff, Nat.reduceLT, Nat.reduceEqDiff, reduceIte, Nat.zero_le, Nat.le_refl, Nat.add_zero, Nat.zero_add]
    (repeat (refine And.intro (by (first | omega | assumption | trivial | (simp only [inI]; omega) | (simp only [inL]; omega) | (refine jb_01) | (exact jb_in))) ?_))
    exact hQ
end XG
