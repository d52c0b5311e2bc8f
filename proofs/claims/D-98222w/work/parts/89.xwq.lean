/-! ===== the class: the fall, whole ===== -/
-- MODE X
set_option maxRecDepth 100000
section XG
variable {g : jjG} {d : Nat} {T : jjT} {Q : jjQ} {X : Int → Int}
theorem xw_fall_s {A : Int → Int} {s fl : Int} {v : Int → Int → Int} (hT : PT T) (hV : PV v) (hC : CI (v, T) A X) (hH : SH A) (hW : TW A) (hs : 0 ≤ s ∧ s < 3) (hfl : 0 ≤ fl ∧ fl ≤ 100)
    (hQ : ∀ w, CI (w, T) (ffA A X s).1 X → SH (ffA A X s).1 → TW (ffA A X s).1 → jkR v w → jW bX0_fall (g, d + 113, 0, 0, Q) 1 [some (vR 400), some (vI (fl + (ffA A X s).2)), some (vI (s + 1)), none, none, none] [] (w, T) 0 0) :
    jW bX0_fall (g, d + 113, 0, 0, Q) 1 [some (vR 400), some (vI fl), some (vI s), none, none, none] [] (v, T) 0 0 := by
  have hB := hC.tb
  have hm := hB.2.2.2.2.2.1 (13 + s) (by omega) (by omega)
  have o1 := ff1_ok (X := X) hB hs
  have oA := ffA_ok (X := X) hB hs
  have wm := ffW_m (X := X) hs ((ff1 A X s).1 (13 + s)).toNat (ff1 A X s).2 (ff1 A X s).1 o1.1 (by omega)
  have eA : ffW X s ((ff1 A X s).1 (13 + s)).toNat (ff1 A X s).2 (ff1 A X s).1 = ffA A X s := rfl
  rw [eA] at wm
  refine jW_step ?_
  simp (disch := (first | decide | omega)) only [bX0_fall, jxs, hps, jtsw, jlsw, List.length_cons, List.length_nil, true_and, and_true, true_implies, false_implies, implies_true, not_true_eq_false, not_false_eq_true, false_and, and_false, if_true, if_false, or_true, true_or, or_false, false_or, Classical.not_not, and_self, Int.reduceAdd, Int.reduceMul, Int.reduceSub, Int.reduceNeg, Int.reduceLT, Int.reduceLE, Int.reduceEq, Int.reduceNe, Int.reduceToNat, Nat.reduceAdd, Nat.reduceMul, Nat.reduceSub, Nat.reduceLeDiff, Nat.reduceLT, Nat.reduceEqDiff, reduceIte, Nat.zero_le, Nat.le_refl, Nat.add_zero, Nat.zero_add, xwT hT, xwV hV]
  (first | refine ⟨fun h9 => (by exfalso; omega), fun _ => ?_⟩ | intro _)
  refine ⟨0, 0, ⟨by omega, by omega⟩, xw_many hT hV hC hs ?_⟩
  simp (disch := (first | decide | omega)) only [jxs, hps, jtsw, jlsw, List.length_cons, List.length_nil, true_and, and_true, true_implies, false_implies, implies_true, not_true_eq_false, not_false_eq_true, false_and, and_false, if_true, if_false, or_true, true_or, or_false, false_or, Classical.not_not, and_self, Int.reduceAdd, Int.reduceMul, Int.reduceSub, Int.reduceNeg, Int.reduceLT, Int.reduceLE, Int.reduceEq, Int.reduceNe, Int.reduceToNat, Nat.reduceAdd, Nat.reduceMul, Nat.reduceSub, Nat.reduceLeDiff, Nat.reduceLT, Nat.reduceEqDiff, reduceIte, Nat.zero_le, Nat.le_refl, Nat.add_zero, Nat.zero_add, xwT hT, xwV hV]
  have l2 := xw_fall_2 (g := g) (d := d) (Q := Q) (X := X) (s := s) (m := A (13 + s)) (fl := fl) (c := clA A X 1 0) hT hs hm (A (13 + s)).toNat 0 0 A v hV hC hH rfl (by omega) (by omega) (by omega) (fun w w1 w2 w3 => by
    have e1 : (if clA A X 1 0 < 0 then A else (ffL X (clA A X 1 0) s (A (13 + s)) (A (13 + s)).toNat 0 0 A).1) = (ff1 A X s).1 := by
      unfold ff1
      split <;> rfl
    rw [e1] at w1 w2
    refine xw_fall_4 (X := X) (s := s) (m := A (13 + s)) hT hs hm (by omega) ((ff1 A X s).1 (13 + s)).toNat (ff1 A X s).2 (ff1 A X s).1 w (w3.pv hV) w1 w2 (o1.2.1.tw hW) (by omega) (by omega) ?_
    rw [eA]
    intro y y1 y2 y3
    have := hQ y y1 y2 (oA.2.1.tw hW) (w3.tr y3)
    rw [show fl + (A (13 + s) - (ffA A X s).1 (13 + s)) = fl + (ffA A X s).2 by omega]
    exact this)
  rw [show (0 : Int) - 0 = 0 by omega] at l2
  exact l2
theorem xw_fall {A : Int → Int} {v : Int → Int → Int} (hT : PT T) (hV : PV v) (hC : CI (v, T) A X) (hH : SH A) (hW : TW A) (hQ : ∀ w, CI (w, T) (fallA A X).1 X → SH (fallA A X).1 → jkR v w → Q (.inl (some (vI (fallA A X).2))) (w, T)) : jmet g (d + 114) 0 0 MX0_fall [vR 400] (v, T) Q := by
  have hB := hC.tb
  have o0 := ffA_ok (X := X) (s := 0) hB (by omega)
  have o1 := ffA_ok (X := X) (s := 1) o0.1 (by omega)
  have o2 := ffA_ok (X := X) (s := 2) o1.1 (by omega)
  refine jmet_of (ls := [some (vR 400), none, none, none, none, none]) sX0_fall rfl (by decide +kernel) (by decide) rfl (by simp [jent]) ?_
  refine jW_step ?_
  simp (disch := (first | decide | omega)) only [bX0_fall, jxs, hps, jtsw, jlsw, List.length_cons, List.length_nil, true_and, and_true, true_implies, false_implies, implies_true, not_true_eq_false, not_false_eq_true, false_and, and_false, if_true, if_false, or_true, true_or, or_false, false_or, Classical.not_not, and_self, Int.reduceAdd, Int.reduceMul, Int.reduceSub, Int.reduceNeg, Int.reduceLT, Int.reduceLE, Int.reduceEq, Int.reduceNe, Int.reduceToNat, Nat.reduceAdd, Nat.reduceMul, Nat.reduceSub, Nat.reduceLeDiff, Nat.reduceLT, Nat.reduceEqDiff, reduceIte, Nat.zero_le, Nat.le_refl, Nat.add_zero, Nat.zero_add, xwT hT, xwV hV]
  refine xw_fall_s (A := A) (X := X) (s := 0) (fl := 0) hT hV hC hH hW (by omega) (by omega) ?_
  intro w w1 w2 w3 w4
  have hVw := w4.pv hV
  refine xw_fall_s (A := (ffA A X 0).1) (X := X) (s := 1) (fl := 0 + (ffA A X 0).2) hT hVw w1 w2 w3 (by omega) (by omega) ?_
  intro u u1 u2 u3 u4
  have hVu := u4.pv hVw
  refine xw_fall_s (A := (ffA (ffA A X 0).1 X 1).1) (X := X) (s := 2) (fl := 0 + (ffA A X 0).2 + (ffA (ffA A X 0).1 X 1).2) hT hVu u1 u2 u3 (by omega) (by omega) ?_
  intro y y1 y2 y3 y4
  have hVy := y4.pv hVu
  have e : 0 + (ffA A X 0).2 + (ffA (ffA A X 0).1 X 1).2 + (ffA (ffA (ffA A X 0).1 X 1).1 X 2).2 = (fallA A X).2 := by
    show _ = (ffA A X 0).2 + (ffA (ffA A X 0).1 X 1).2 + (ffA (ffA (ffA A X 0).1 X 1).1 X 2).2
    omega
  rw [e]
  have fb := fallA_ok (X := X) hB
  have hV := hVy
  refine jW_step ?_
  simp (disch := (first | decide | omega)) only [bX0_fall, jxs, hps, jtsw, jlsw, List.length_cons, List.length_nil, true_and, and_true, true_implies, false_implies, implies_true, not_true_eq_false, not_false_eq_true, false_and, and_false, if_true, if_false, or_true, true_or, or_false, false_or, Classical.not_not, and_self, Int.reduceAdd, Int.reduceMul, Int.reduceSub, Int.reduceNeg, Int.reduceLT, Int.reduceLE, Int.reduceEq, Int.reduceNe, Int.reduceToNat, Nat.reduceAdd, Nat.reduceMul, Nat.reduceSub, Nat.reduceLeDiff, Nat.reduceLT, Nat.reduceEqDiff, reduceIte, Nat.zero_le, Nat.le_refl, Nat.add_zero, Nat.zero_add, xwT hT, xwV hV]
  (try refine ⟨fun _ => ?_, fun h9 => (by exfalso; omega)⟩)
  (repeat (refine And.intro (by (first | omega | assumption | trivial | (simp only [inI]; omega) | (simp only [inL]; omega) | (refine jb_01) | (exact jb_in))) ?_))
  exact hQ y y1 y2 ((w4.tr u4).tr y4)
end XG
