/-! ===== the class: a step taken back ===== -/
-- MODE X
set_option maxRecDepth 100000
theorem undC_at {A : Int → Int} {k : Int} (h0 : 0 ≤ A 0 ∧ A 0 ≤ 10) (hk : 0 ≤ k ∧ k < 30) : (undC A (154 + 48 * k) 0 = A 0 ∧ undC A (154 + 48 * k) 1 = A (154 + 48 * k + 1) ∧ undC A (154 + 48 * k) 2 = A (154 + 48 * k + 2) ∧ undC A (154 + 48 * k) 4 = A (154 + 48 * k + 3) ∧ undC A (154 + 48 * k) 9 = A (154 + 48 * k + 4)) ∧ (∀ j, 0 ≤ j → j < 33 → undC A (154 + 48 * k) (13 + j) = A (154 + 48 * k + 5 + j)) ∧ (∀ b, 0 ≤ b → b < A 0 → undC A (154 + 48 * k) (46 + 6 * b + 5) = if b < A (154 + 48 * k) then A (154 + 48 * k + 38 + b) else 3) ∧ ∀ i, (i = 3 ∨ i = 5 ∨ i = 6 ∨ i = 7 ∨ i = 8 ∨ (10 ≤ i ∧ i < 13) ∨ 106 ≤ i ∨ (46 ≤ i ∧ i < 106 ∧ ((i - 46) % 6 ≠ 5 ∨ 51 + 6 * A 0 ≤ i))) → undC A (154 + 48 * k) i = A i := by
  have lo : ∀ i, undB A (154 + 48 * k) i = if i = 9 then A (154 + 48 * k + 4) else if i = 4 then A (154 + 48 * k + 3) else if i = 2 then A (154 + 48 * k + 2) else if i = 1 then A (154 + 48 * k + 1) else A i := fun i => rfl
  have cp : ∀ i, cpA (undB A (154 + 48 * k)) 13 (154 + 48 * k + 5) 33 i = if 13 ≤ i ∧ i < 46 then A (154 + 48 * k + 5 + (i - 13)) else undB A (154 + 48 * k) i := by
    intro i
    unfold cpA
    by_cases h : 13 ≤ i ∧ i < 46
    · rw [if_pos (by omega), if_pos h, lo, if_neg (by omega), if_neg (by omega), if_neg (by omega), if_neg (by omega)]
    · rw [if_neg (by omega), if_neg h]
  have c0 : cpA (undB A (154 + 48 * k)) 13 (154 + 48 * k + 5) 33 0 = A 0 := by rw [cp, if_neg (by omega), lo, if_neg (by omega), if_neg (by omega), if_neg (by omega), if_neg (by omega)]
  have cx : cpA (undB A (154 + 48 * k)) 13 (154 + 48 * k + 5) 33 (154 + 48 * k) = A (154 + 48 * k) := by rw [cp, if_neg (by omega), lo, if_neg (by omega), if_neg (by omega), if_neg (by omega), if_neg (by omega)]
  have un : ∀ i, undC A (154 + 48 * k) i = if 51 + 6 * 0 ≤ i ∧ i < 51 + 6 * A 0 ∧ (i - 51) % 6 = 0 then (if (i - 51) / 6 < A (154 + 48 * k) then cpA (undB A (154 + 48 * k)) 13 (154 + 48 * k + 5) 33 (154 + 48 * k + 38 + (i - 51) / 6) else 3) else cpA (undB A (154 + 48 * k)) 13 (154 + 48 * k + 5) 33 i := by
    intro i
    unfold undC undW
    rw [c0, cx]
  refine ⟨⟨?_, ?_, ?_, ?_, ?_⟩, fun j j0 j1 => ?_, fun b b0 b1 => ?_, fun i hi => ?_⟩
  · rw [un, if_neg (by omega), c0]
  · rw [un, if_neg (by omega), cp, if_neg (by omega), lo, if_neg (by omega), if_neg (by omega), if_neg (by omega), if_pos rfl]
  · rw [un, if_neg (by omega), cp, if_neg (by omega), lo, if_neg (by omega), if_neg (by omega), if_pos rfl]
  · rw [un, if_neg (by omega), cp, if_neg (by omega), lo, if_neg (by omega), if_pos rfl]
  · rw [un, if_neg (by omega), cp, if_neg (by omega), lo, if_pos rfl]
  · rw [un, if_neg (by omega), cp, if_pos (by omega), show 13 + j - 13 = j by omega]
  · rw [un, if_pos (by omega), show (46 + 6 * b + 5 - 51) / 6 = b by omega]
    by_cases h : b < A (154 + 48 * k)
    · rw [if_pos h, if_pos h, cp, if_neg (by omega), lo, if_neg (by omega), if_neg (by omega), if_neg (by omega), if_neg (by omega)]
    · rw [if_neg h, if_neg h]
  · rw [un, if_neg (by omega), cp, if_neg (by omega), lo, if_neg (by omega), if_neg (by omega), if_neg (by omega), if_neg (by omega)]
theorem CI.undo {T : jjT} {A X : Int → Int} {v w : Int → Int → Int} (h : CI (v, T) A X) (hm : ¬ A 7 = 0) (hB : TB (undoA A)) (hx : A (154 + 48 * (A 7 - 1)) ≤ A 0) (e1 : w 402 = up1 (v 402) 4 (A 7 - 1)) (e2 : EQm 287 (w 404) (v (430 + (A 7 - 1)))) (e4 : ∀ a, a ≠ 402 → a ≠ 404 → w a = v a) : CI (w, T) (undoA A) X := by
  have g : jGR (v, T) (w, T) := jGR_of (fun a ha => e4 a (by unfold jfz at ha; omega) (by unfold jfz at ha; omega))
  have hTB := h.tb
  have h0 := hTB.1
  have h7 := h.2.2.2.2.2.1
  have h8 := h.2.2.2.2.2.2.1
  have at0 := undC_at (A := up1 A 7 (A 7 - 1)) (k := A 7 - 1) (by rw [up1_ne (by omega)]; exact h0) (by omega)
  have eU : undC (up1 A 7 (A 7 - 1)) (154 + 48 * (A 7 - 1)) = undoA A := rfl
  rw [eU] at at0
  obtain ⟨⟨a0, a1, a2, a4, a9⟩, am, aw, ao⟩ := at0
  rw [up1_ne (by omega)] at a0 a1 a2 a4 a9
  have u7 : undoA A 7 = A 7 - 1 := by rw [ao 7 (by omega), up1_eq]
  have uo : ∀ i, (i = 3 ∨ i = 5 ∨ i = 6 ∨ i = 8 ∨ (10 ≤ i ∧ i < 13) ∨ 106 ≤ i ∨ (46 ≤ i ∧ i < 106 ∧ (i - 46) % 6 ≠ 5)) → undoA A i = A i := fun i hi => by
    rw [ao i (by omega), up1_ne (by omega)]
  obtain ⟨⟨q1, q2, q3, q4, q5, q6, q7⟩, hn, ht, _, hX, _, _, hl⟩ := h
  dsimp only at q1 q2 q3 q4 q5 q6 q7 hn
  have q6m : RS (v (430 + (A 7 - 1))) A (A 7 - 1) := q6 (A 7 - 1) (by omega) (by omega)
  refine ⟨⟨?_, fun s s0 s1 => ?_, ?_, fun b w b0 b1 w0 w1 => ?_, fun k w k0 k1 w0 w1 => ?_, fun k k0 k1 => ?_, fun t t0 t1 => ?_⟩, ?_, ht.gr g, hB, ?_, ?_, ?_, ?_⟩
  · show cN (w 402) (undoA A)
    have q1 : cN (v 402) A := q1
    rw [e1]
    unfold cN at q1 ⊢
    rw [a0, uo 3 (by omega), uo 5 (by omega), uo 6 (by omega), u7, uo 8 (by omega), up1_eq, up1_ne (by omega), up1_ne (by omega), up1_ne (by omega), up1_ne (by omega), up1_ne (by omega)]
    exact ⟨q1.1, q1.2.1, q1.2.2.1, q1.2.2.2.1, rfl, q1.2.2.2.2.2⟩
  · dsimp only; rw [e4 _ (by omega) (by omega), uo _ (by omega)]; exact q2 s s0 s1
  · show RW (w 404) (undoA A)
    have hM : ∀ s, 0 ≤ s → s < 3 → A (154 + 48 * (A 7 - 1) + 5 + s) ≤ 10 := fun s s0 s1 => by
      have := (hB.2.2.2.2.2.1 (13 + s) (by omega) (by omega)).2
      rw [am s s0 (by omega), up1_ne (by omega)] at this
      exact this
    unfold RS at q6m
    have r := RWx.f q6m hM e2
    obtain ⟨p1, p2, p3, p4, p5, p6, p7, p8⟩ := r
    rw [RW_d, a0, a2, a1, a4, a9]
    refine ⟨fun s s0 s1 => ?_, fun s p s0 s1 p0 p1' => ?_, fun b b0 b1 => ?_, p4, p5, p6, p7, fun i x i0 i1 x0 x1 => ?_⟩
    · rw [am s s0 (by omega), up1_ne (by omega)]
      exact p1 s s0 s1
    · rw [am s s0 (by omega), up1_ne (by omega)] at p1'
      have m10 := hM s s0 s1
      have a := am (3 + 10 * s + p) (by omega) (by omega)
      rw [up1_ne (by omega), show 13 + (3 + 10 * s + p) = 16 + 10 * s + p by omega, show 154 + 48 * (A 7 - 1) + 5 + (3 + 10 * s + p) = 154 + 48 * (A 7 - 1) + 8 + 10 * s + p by omega] at a
      rw [a]
      exact p2 s p s0 s1 p0 p1'
    · have a := p3 b b0 b1
      dsimp only at a
      rw [a]
      by_cases hb : b < A 0
      · have c := aw b b0 (by rw [up1_ne (by omega)]; exact hb)
        rw [up1_ne (by omega), up1_ne (by omega)] at c
        rw [if_pos hb, c]
      · rw [if_neg hb, if_neg (by omega)]
    · have a := p8 i x i0 i1 x0 x1
      dsimp only at a
      rw [a, uo _ (by omega)]
  · dsimp only
    rw [a0] at b1
    rw [e4 _ (by omega) (by omega), uo _ (by omega)]
    exact q4 b w b0 b1 w0 w1
  · dsimp only
    rw [uo 8 (by omega)] at k1
    rw [e4 _ (by omega) (by omega), uo _ (by omega)]
    exact q5 k w k0 k1 w0 w1
  · dsimp only
    rw [u7] at k1
    rw [e4 _ (by omega) (by omega)]
    exact (q6 k k0 (by omega)).fr k0 (fun i hi => uo i (by omega))
  · dsimp only
    rw [uo 5 (by omega)] at t1
    rw [e4 _ (by omega) (by omega)]
    exact (q7 t t0 t1).gr g
  · dsimp only; rw [e4 _ (by omega) (by omega)]; exact hn
  · rw [uo 5 (by omega)]; exact hX
  · omega
  · rw [uo 8 (by omega)]; exact h8
  · intro b b0 b1
    rw [a0] at b1
    rw [uo _ (by omega)]
    exact hl b b0 b1
section XG
variable {g : jjG} {d : Nat} {T : jjT} {Q : jjQ} {A X : Int → Int} {v : Int → Int → Int}
theorem xw_undo (hT : PT T) (hV : PV v) (hC : CI (v, T) A X) (hU : ¬ A 7 = 0 → TB (undoA A) ∧ A (154 + 48 * (A 7 - 1)) ≤ A 0) (hQ : (A 7 = 0 → Q (.inl (some (vI (-1)))) (v, T)) ∧ (¬ A 7 = 0 → ∀ w, CI (w, T) (undoA A) X → jkM v w → Q (.inl (some (vI (A 7 - 1)))) (w, T))) : jmet g (d + 2) 0 0 MX0_undo [vR 400] (v, T) Q := by
  have h7 := hC.2.2.2.2.2.1
  refine jmet_of (ls := [some (vR 400)]) sX0_undo rfl (by decide +kernel) (by decide) rfl (by simp [jent]) ?_
  by_cases h : A 7 = 0
  · refine jW_step ?_
    simp (disch := (first | decide | omega)) only [bX0_undo, jxs, hps, jtsw, jlsw, List.length_cons, List.length_nil, true_and, and_true, true_implies, false_implies, implies_true, not_true_eq_false, not_false_eq_true, false_and, and_false, if_true, if_false, or_true, true_or, or_false, false_or, Classical.not_not, and_self, Int.reduceAdd, Int.reduceMul, Int.reduceSub, Int.reduceNeg, Int.reduceLT, Int.reduceLE, Int.reduceEq, Int.reduceNe, Int.reduceToNat, Nat.reduceAdd, Nat.reduceMul, Nat.reduceSub, Nat.reduceLeDiff, Nat.reduceLT, Nat.reduceEqDiff, reduceIte, Nat.zero_le, Nat.le_refl, Nat.add_zero, Nat.zero_add, xwT hT, xwV hV, hC.n4]
    (repeat (refine And.intro (by (first | omega | assumption | trivial | (simp only [inI]; omega) | (simp only [inL]; omega) | (refine jb_01) | (exact jb_in))) ?_))
    exact fun _ => hQ.1 h
  · have u := hU h
    have e1 := PVst hV (k := A 7 - 1) (by omega)
    have t1 := PTst hT (k := A 7 - 1) (by omega)
    refine jW_step ?_
    simp (disch := (first | decide | omega)) only [bX0_undo, jxs, hps, jtsw, jlsw, List.length_cons, List.length_nil, true_and, and_true, true_implies, false_implies, implies_true, not_true_eq_false, not_false_eq_true, false_and, and_false, if_true, if_false, or_true, true_or, or_false, false_or, Classical.not_not, and_self, Int.reduceAdd, Int.reduceMul, Int.reduceSub, Int.reduceNeg, Int.reduceLT, Int.reduceLE, Int.reduceEq, Int.reduceNe, Int.reduceToNat, Nat.reduceAdd, Nat.reduceMul, Nat.reduceSub, Nat.reduceLeDiff, Nat.reduceLT, Nat.reduceEqDiff, reduceIte, Nat.zero_le, Nat.le_refl, Nat.add_zero, Nat.zero_add, xwT hT, xwV hV, hC.n4, e1]
    (repeat (refine And.intro (by (first | omega | assumption | trivial | (simp only [inI]; omega) | (simp only [inL]; omega) | (refine jb_01) | (exact jb_in))) ?_))
    refine ⟨fun _ => ?_, fun h9 => absurd h9 h⟩
    (repeat (refine And.intro (by (first | omega | assumption | trivial | (simp only [inI]; omega) | (simp only [inL]; omega) | (refine jb_01) | (exact jb_in))) ?_))
    have hVu : PV (upA v 402 (up1 (v 402) 4 (A 7 - 1))) := hV.A (by decide)
    have u2 : (upA v 402 (up1 (v 402) 4 (A 7 - 1))) 402 = up1 (v 402) 4 (A 7 - 1) := upA_eq
    have uo : ∀ a, a ≠ 402 → (upA v 402 (up1 (v 402) 4 (A 7 - 1))) a = v a := fun a ha => upA_ne ha
    have ju : jkM v (upA v 402 (up1 (v 402) 4 (A 7 - 1))) := jkM.up hV (by omega)
    generalize upA v 402 (up1 (v 402) 4 (A 7 - 1)) = y at *
    refine ⟨0, 0, ⟨by omega, by omega⟩, xw_copy ⟨t1.1, by omega, t1.2⟩ ⟨pt_404 hT, by omega, by rw [pl_404 hT]; omega⟩ (by omega) ?_⟩
    have hVz : PV (upA y 404 (fun k => if 0 ≤ k ∧ k < 287 then y (430 + (A 7 - 1)) k else y 404 k)) := hVu.A (by decide)
    have jz : jkM y (upA y 404 (fun k => if 0 ≤ k ∧ k < 287 then y (430 + (A 7 - 1)) k else y 404 k)) := (jkR.up).M hVu
    have z2 : (upA y 404 (fun k => if 0 ≤ k ∧ k < 287 then y (430 + (A 7 - 1)) k else y 404 k)) 402 = up1 (v 402) 4 (A 7 - 1) := by rw [upA_ne (by omega), u2]
    have z4 : EQm 287 ((upA y 404 (fun k => if 0 ≤ k ∧ k < 287 then y (430 + (A 7 - 1)) k else y 404 k)) 404) (v (430 + (A 7 - 1))) := by
      intro i i0 i1
      rw [upA_eq, if_pos ⟨i0, i1⟩, uo _ (by omega)]
    have zo : ∀ a, a ≠ 402 → a ≠ 404 → (upA y 404 (fun k => if 0 ≤ k ∧ k < 287 then y (430 + (A 7 - 1)) k else y 404 k)) a = v a := fun a a1 a2 => by rw [upA_ne a2, uo a a1]
    generalize upA y 404 (fun k => if 0 ≤ k ∧ k < 287 then y (430 + (A 7 - 1)) k else y 404 k) = z at *
    have ci := hC.undo h u.1 u.2 z2 z4 zo
    have z5 : z 402 4 = A 7 - 1 := by rw [z2, up1_eq]
    have hV := hVz
    simp (disch := (first | decide | omega)) only [jxs, hps, jtsw, jlsw, List.length_cons, List.length_nil, true_and, and_true, true_implies, false_implies, implies_true, not_true_eq_false, not_false_eq_true, false_and, and_false, if_true, if_false, or_true, true_or, or_false, false_or, Classical.not_not, and_self, Int.reduceAdd, Int.reduceMul, Int.reduceSub, Int.reduceNeg, Int.reduceLT, Int.reduceLE, Int.reduceEq, Int.reduceNe, Int.reduceToNat, Nat.reduceAdd, Nat.reduceMul, Nat.reduceSub, Nat.reduceLeDiff, Nat.reduceLT, Nat.reduceEqDiff, reduceIte, Nat.zero_le, Nat.le_refl, Nat.add_zero, Nat.zero_add, xwT hT, xwV hV, z5]
    (repeat (refine And.intro (by (first | omega | assumption | trivial | (simp only [inI]; omega) | (simp only [inL]; omega) | (refine jb_01) | (exact jb_in))) ?_))
    exact hQ.2 h z ci (ju.tr jz)
end XG
