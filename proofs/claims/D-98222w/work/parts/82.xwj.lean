/-! ===== the class: who would change, a night on a row ===== -/
-- MODE X
set_option maxRecDepth 100000
def gch (A X : Int → Int) (a : Int) : Int → Bool := fun y => decide (cgA A X a y = 1)
theorem CHB_of {f A X : Int → Int} (h0 : 0 ≤ A 0 ∧ A 0 ≤ 10) (h : ∀ x, 0 ≤ x → x < A 0 → f x = gat (gch A X x) (A 0).toNat) : CHB f A X := by
  intro a a0 a1
  rw [h a a0 a1]
  have b := gat_in (p := gch A X a) (n := (A 0).toNat) (by omega)
  refine ⟨by omega, fun y y0 y1 => ?_⟩
  rw [gat_bit (A 0).toNat y.toNat (by omega)]
  have c := cgA_01 (A := A) (X := X) (x := a) (y := y)
  unfold gch
  rw [show ((y.toNat : Nat) : Int) = y by omega]
  by_cases e : cgA A X a y = 1
  · rw [if_pos (decide_eq_true e), e]
  · rw [if_neg (by simpa using e)]; omega
section XG
variable {g : jjG} {d : Nat} {T : jjT} {Q : jjQ} {A X : Int → Int}
theorem xw_lc_3 {a : Int} (hT : PT T) (ha : 0 ≤ a ∧ a < A 0) : ∀ (r b : Nat) (v : Int → Int → Int), PV v → CI (v, T) A X → (b : Int) + r = A 0 → v 523 a = gat (gch A X a) b →
    (∀ w, jkz v w → (∀ x, x ≠ a → w 523 x = v 523 x) → w 523 a = gat (gch A X a) (A 0).toNat → jW bX0_laysChange (g, d + 112, 0, 0, Q) 2 [some (vR 400), some (vI (needA A X)), some (vI (a + 1)), none, none] [] (w, T) 0 0) →
    jW bX0_laysChange (g, d + 112, 0, 0, Q) 3 [some (vR 400), some (vI (needA A X)), some (vI a), some (vI (b : Int)), none] [] (v, T) 0 0 := by
  intro r
  induction r with
  | zero =>
    intro b v hV hC hb hg hQ
    have h0 := hC.tb.1
    refine jW_step ?_
    simp (disch := (first | decide | omega)) only [bX0_laysChange, jxs, hps, jtsw, jlsw, List.length_cons, List.length_nil, true_and, and_true, true_implies, false_implies, implies_true, not_true_eq_false, not_false_eq_true, false_and, and_false, if_true, if_false, or_true, true_or, or_false, false_or, Classical.not_not, and_self, Int.reduceAdd, Int.reduceMul, Int.reduceSub, Int.reduceNeg, Int.reduceLT, Int.reduceLE, Int.reduceEq, Int.reduceNe, Int.reduceToNat, Nat.reduceAdd, Nat.reduceMul, Nat.reduceSub, Nat.reduceLeDiff, Nat.reduceLT, Nat.reduceEqDiff, reduceIte, Nat.zero_le, Nat.le_refl, Nat.add_zero, Nat.zero_add, xwT hT, xwV hV, hC.n0]
    (repeat (refine And.intro (by (first | omega | assumption | trivial | (simp only [inI]; omega) | (simp only [inL]; omega) | (refine jb_01) | (exact jb_in))) ?_))
    (try refine ⟨fun _ => ?_, fun h9 => (by exfalso; omega)⟩)
    (repeat (refine And.intro (by (first | omega | assumption | trivial | (simp only [inI]; omega) | (simp only [inL]; omega) | (refine jb_01) | (exact jb_in))) ?_))
    refine jW_sub (ls' := [some (vR 400), some (vI (needA A X)), some (vI (a + 1)), none, none]) (by simp [jsub]) ?_
    exact hQ v (jkz.rf hC.nm) (fun _ _ => rfl) (by rw [hg, show (A 0).toNat = b by omega])
  | succ r ih =>
    intro b v hV hC hb hg hQ
    have h0 := hC.tb.1
    have gb := gat_in (p := gch A X a) (n := b) (by omega)
    have k7 : ∀ w, jkz v w → (∀ x, x ≠ a → w 523 x = v 523 x) → w 523 a = gat (gch A X a) (b + 1) → ∀ l4, jW bX0_laysChange (g, d + 112, 0, 0, Q) 7 [some (vR 400), some (vI (needA A X)), some (vI a), some (vI (b : Int)), l4] [] (w, T) 0 0 := by
      intro w hw h1 h2 l4
      have hV := hw.pv hV
      refine jW_step ?_
      simp (disch := (first | decide | omega)) only [bX0_laysChange, jxs, hps, jtsw, jlsw, List.length_cons, List.length_nil, true_and, and_true, true_implies, false_implies, implies_true, not_true_eq_false, not_false_eq_true, false_and, and_false, if_true, if_false, or_true, true_or, or_false, false_or, Classical.not_not, and_self, Int.reduceAdd, Int.reduceMul, Int.reduceSub, Int.reduceNeg, Int.reduceLT, Int.reduceLE, Int.reduceEq, Int.reduceNe, Int.reduceToNat, Nat.reduceAdd, Nat.reduceMul, Nat.reduceSub, Nat.reduceLeDiff, Nat.reduceLT, Nat.reduceEqDiff, reduceIte, Nat.zero_le, Nat.le_refl, Nat.add_zero, Nat.zero_add, xwT hT, xwV hV]
      (repeat (refine And.intro (by (first | omega | assumption | trivial | (simp only [inI]; omega) | (simp only [inL]; omega) | (refine jb_01) | (exact jb_in))) ?_))
      refine jW_sub (ls' := [some (vR 400), some (vI (needA A X)), some (vI a), some (vI ((b : Int) + 1)), none]) (by simp [jsub]) ?_
      have nx := ih (b + 1) w hV (hw.ci hC) (by omega) h2 (fun y hy y1 y2 => hQ y (hw.tr hy) (fun x hx => (y1 x hx).trans (h1 x hx)) y2)
      rw [show ((b + 1 : Nat) : Int) = (b : Int) + 1 by omega] at nx
      exact nx
    have k6 : ∀ w z l4, jkz v w → w 523 = v 523 → z = (if gch A X a b then 2 ^ b else 0) → jW bX0_laysChange (g, d + 112, 0, 0, Q) 6 [some (vR 400), some (vI (needA A X)), some (vI a), some (vI (b : Int)), l4] [vI z, vI (v 523 a), vI a, vR 523] (w, T) 0 0 := by
      intro w z l4 hw h1 hz
      have hVw := hw.pv hV
      have hV := hVw
      have e := gat_jor (p := gch A X a) (n := b) (by omega) hz
      refine jW_step ?_
      simp (disch := (first | decide | omega)) only [bX0_laysChange, jxs, hps, jtsw, jlsw, List.length_cons, List.length_nil, true_and, and_true, true_implies, false_implies, implies_true, not_true_eq_false, not_false_eq_true, false_and, and_false, if_true, if_false, or_true, true_or, or_false, false_or, Classical.not_not, and_self, Int.reduceAdd, Int.reduceMul, Int.reduceSub, Int.reduceNeg, Int.reduceLT, Int.reduceLE, Int.reduceEq, Int.reduceNe, Int.reduceToNat, Nat.reduceAdd, Nat.reduceMul, Nat.reduceSub, Nat.reduceLeDiff, Nat.reduceLT, Nat.reduceEqDiff, reduceIte, Nat.zero_le, Nat.le_refl, Nat.add_zero, Nat.zero_add, xwT hT, xwV hV]
      (repeat (refine And.intro (by (first | omega | assumption | trivial | (simp only [inI]; omega) | (simp only [inL]; omega) | (refine jb_01) | (exact jb_in))) ?_))
      rw [hg, e]
      refine k7 _ (hw.tr (jkz.up hw.2)) (fun x hx => by rw [upA_eq, up1_ne hx, h1]) (by rw [upA_eq, up1_eq]) _
    refine jW_step ?_
    simp (disch := (first | decide | omega)) only [bX0_laysChange, jxs, hps, jtsw, jlsw, List.length_cons, List.length_nil, true_and, and_true, true_implies, false_implies, implies_true, not_true_eq_false, not_false_eq_true, false_and, and_false, if_true, if_false, or_true, true_or, or_false, false_or, Classical.not_not, and_self, Int.reduceAdd, Int.reduceMul, Int.reduceSub, Int.reduceNeg, Int.reduceLT, Int.reduceLE, Int.reduceEq, Int.reduceNe, Int.reduceToNat, Nat.reduceAdd, Nat.reduceMul, Nat.reduceSub, Nat.reduceLeDiff, Nat.reduceLT, Nat.reduceEqDiff, reduceIte, Nat.zero_le, Nat.le_refl, Nat.add_zero, Nat.zero_add, xwT hT, xwV hV, hC.n0]
    (repeat (refine And.intro (by (first | omega | assumption | trivial | (simp only [inI]; omega) | (simp only [inL]; omega) | (refine jb_01) | (exact jb_in))) ?_))
    (first | refine ⟨fun h9 => (by exfalso; omega), fun _ => ?_⟩ | intro _)
    refine ⟨fun h => ?_, fun h => ?_⟩
    · refine ⟨0, 0, ⟨by omega, by omega⟩, xw_pushesNow hT hV hC ⟨ha, by omega, by omega⟩ ?_⟩
      intro w hw
      have p1 : 0 ≤ dpA A X a b 1 ∧ dpA A X a b 1 ≤ 1 := pbA_c01 hC
      have p2 : 0 ≤ dpA A X b a 0 ∧ dpA A X b a 0 ≤ 1 := pbA_c01 hC
      have hVw := hw.pv hV
      have hCw := hw.ci hC
      have dc : cgA A X a b = jb (needA A X ≤ (if dpA A X a b 1 = 0 then 0 else 1) + (if dpA A X b a 0 = 0 then 0 else 1)) := by unfold cgA; rw [if_neg h]; rfl
      have k5 : ∀ u z1 z2, jkq v u → z1 = (if dpA A X a b 1 = 0 then (0 : Int) else 1) → z2 = (if dpA A X b a 0 = 0 then (0 : Int) else 1) → jW bX0_laysChange (g, d + 112, 0, 0, Q) 5 [some (vR 400), some (vI (needA A X)), some (vI a), some (vI (b : Int)), none] [vI z2, vI z1] (u, T) 0 0 := by
        intro u z1 z2 hu h1 h2
        have b1 : 0 ≤ z1 ∧ z1 ≤ 1 := by rw [h1]; split <;> omega
        have b2 : 0 ≤ z2 ∧ z2 ≤ 1 := by rw [h2]; split <;> omega
        rw [← h1, ← h2] at dc
        have hVu := hu.pv hV
        have e3 : u 523 = v 523 := hu.1 523 (by omega)
        have hV := hVu
        refine jW_step ?_
        simp (disch := (first | decide | omega)) only [bX0_laysChange, jxs, hps, jtsw, jlsw, List.length_cons, List.length_nil, true_and, and_true, true_implies, false_implies, implies_true, not_true_eq_false, not_false_eq_true, false_and, and_false, if_true, if_false, or_true, true_or, or_false, false_or, Classical.not_not, and_self, Int.reduceAdd, Int.reduceMul, Int.reduceSub, Int.reduceNeg, Int.reduceLT, Int.reduceLE, Int.reduceEq, Int.reduceNe, Int.reduceToNat, Nat.reduceAdd, Nat.reduceMul, Nat.reduceSub, Nat.reduceLeDiff, Nat.reduceLT, Nat.reduceEqDiff, reduceIte, Nat.zero_le, Nat.le_refl, Nat.add_zero, Nat.zero_add, xwT hT, xwV hV, e3]
        (repeat (refine And.intro (by (first | omega | assumption | trivial | (simp only [inI]; omega) | (simp only [inL]; omega) | (refine jb_01) | (exact jb_in))) ?_))
        refine ⟨fun h5 => ?_, fun h5 => ?_⟩
        · rw [jb_f (by omega)] at dc
          refine k6 u 0 _ hu.z e3 ?_
          unfold gch
          rw [if_neg (by simp [dc])]
        · rw [jb_t (by omega)] at dc
          rw [jshl_1 (by omega) (by omega)]
          refine k6 u _ _ hu.z e3 ?_
          unfold gch
          rw [if_pos (by simp [dc]), show ((b : Int)).toNat = b by omega]
      have k4 : ∀ z1, z1 = (if dpA A X a b 1 = 0 then (0 : Int) else 1) → jW bX0_laysChange (g, d + 112, 0, 0, Q) 4 [some (vR 400), some (vI (needA A X)), some (vI a), some (vI (b : Int)), none] [vI z1] (w, T) 0 0 := by
        intro z1 h1
        have hV := hVw
        refine jW_step ?_
        simp (disch := (first | decide | omega)) only [bX0_laysChange, jxs, hps, jtsw, jlsw, List.length_cons, List.length_nil, true_and, and_true, true_implies, false_implies, implies_true, not_true_eq_false, not_false_eq_true, false_and, and_false, if_true, if_false, or_true, true_or, or_false, false_or, Classical.not_not, and_self, Int.reduceAdd, Int.reduceMul, Int.reduceSub, Int.reduceNeg, Int.reduceLT, Int.reduceLE, Int.reduceEq, Int.reduceNe, Int.reduceToNat, Nat.reduceAdd, Nat.reduceMul, Nat.reduceSub, Nat.reduceLeDiff, Nat.reduceLT, Nat.reduceEqDiff, reduceIte, Nat.zero_le, Nat.le_refl, Nat.add_zero, Nat.zero_add, xwT hT, xwV hV]
        refine ⟨0, 0, ⟨by omega, by omega⟩, xw_pushesNow hT hV hCw ⟨by omega, ha, by omega⟩ ?_⟩
        intro u hu
        have hVu := hu.pv hV
        have hV := hVu
        simp (disch := (first | decide | omega)) only [jxs, hps, jtsw, jlsw, List.length_cons, List.length_nil, true_and, and_true, true_implies, false_implies, implies_true, not_true_eq_false, not_false_eq_true, false_and, and_false, if_true, if_false, or_true, true_or, or_false, false_or, Classical.not_not, and_self, Int.reduceAdd, Int.reduceMul, Int.reduceSub, Int.reduceNeg, Int.reduceLT, Int.reduceLE, Int.reduceEq, Int.reduceNe, Int.reduceToNat, Nat.reduceAdd, Nat.reduceMul, Nat.reduceSub, Nat.reduceLeDiff, Nat.reduceLT, Nat.reduceEqDiff, reduceIte, Nat.zero_le, Nat.le_refl, Nat.add_zero, Nat.zero_add, xwT hT, xwV hV]
        refine ⟨fun h2 => ?_, fun h2 => ?_⟩
        · exact k5 u z1 0 (hw.tr hu) h1 (by rw [if_pos h2])
        · exact k5 u z1 1 (hw.tr hu) h1 (by rw [if_neg h2])
      have hV := hVw
      simp (disch := (first | decide | omega)) only [jxs, hps, jtsw, jlsw, List.length_cons, List.length_nil, true_and, and_true, true_implies, false_implies, implies_true, not_true_eq_false, not_false_eq_true, false_and, and_false, if_true, if_false, or_true, true_or, or_false, false_or, Classical.not_not, and_self, Int.reduceAdd, Int.reduceMul, Int.reduceSub, Int.reduceNeg, Int.reduceLT, Int.reduceLE, Int.reduceEq, Int.reduceNe, Int.reduceToNat, Nat.reduceAdd, Nat.reduceMul, Nat.reduceSub, Nat.reduceLeDiff, Nat.reduceLT, Nat.reduceEqDiff, reduceIte, Nat.zero_le, Nat.le_refl, Nat.add_zero, Nat.zero_add, xwT hT, xwV hV]
      refine ⟨fun h2 => ?_, fun h2 => ?_⟩
      · exact k4 0 (by rw [if_pos h2])
      · exact k4 1 (by rw [if_neg h2])
    · refine k7 v (jkz.rf hC.nm) (fun _ _ => rfl) ?_ _
      rw [hg]
      show _ = gat (gch A X a) b + _
      have : gch A X a b = false := by
        unfold gch cgA
        rw [if_pos (by omega)]
        rfl
      rw [this]
      simp
end XG
