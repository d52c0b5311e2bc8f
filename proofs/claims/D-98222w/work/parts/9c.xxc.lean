/-! ===== the class: a year ===== -/
-- MODE X
set_option maxRecDepth 100000
def yc1 (B : Int → Int) (c : Int) : (Int → Int) × Int :=
  if B (46 + 6 * (B 4 % B 0) + 5) < 3 ∧ 1 < B (13 + B (46 + 6 * (B 4 % B 0) + 5)) then
    (setA (pullA (up1 (up1 B 4 (anw (B 4))) 4 (anw (anw (B 4)))) (B (46 + 6 * (B 4 % B 0) + 5)) (plA B (B 4 % B 0)) (B (46 + 6 * (B 4 % B 0) + 5))) (B 4 % B 0) (B (46 + 6 * (B 4 % B 0) + 5)) (anw (B 4) % B (13 + B (46 + 6 * (B 4 % B 0) + 5))), c + (if anw (B 4) % B (13 + B (46 + 6 * (B 4 % B 0) + 5)) = plA B (B 4 % B 0) then 0 else 1))
  else (up1 B 4 (anw (B 4)), c)
def yc2 (X B : Int → Int) : Int → Int :=
  if B 4 % 10 < 3 then (if 1 - B 2 = 1 then (fallA (up1 (up1 B 4 (anw (B 4))) 2 (1 - B 2)) X).1 else up1 (up1 B 4 (anw (B 4))) 2 (1 - B 2)) else up1 B 4 (anw (B 4))
def ycL (X : Int → Int) : Nat → (Int → Int) → Int → (Int → Int) × Int
  | 0, B, c => (B, c)
  | n + 1, B, c => ycL X n (yc2 X (yc1 B c).1) (yc1 B c).2
/-- what a year's walk leans on -/
def YS (B : Int → Int) : Prop := SH B ∧ TW B ∧ (0 ≤ B 4 ∧ B 4 < 50000)
theorem up1_sm {f : Int → Int} {k a b : Int} : up1 (up1 f k a) k b = up1 f k b := up1_same
theorem FR.set2 {A : Int → Int} (hB : TB A) {b s p : Int} (hs : 0 ≤ s ∧ s < 3) (hp : 0 ≤ p ∧ p ≤ A (13 + s)) (hb : 0 ≤ b ∧ b < 10) : FR A (setA A b s p) := by
  have hM := hB.2.2.2.2.2.1 (13 + s) (by omega) (by omega)
  intro i hi
  unfold setA shr
  rw [up1_ne (by omega), up1_ne (by omega), up1_ne (by omega), if_neg (by omega)]
section XG
variable {g : jjG} {d : Nat} {T : jjT} {Q : jjQ} {X : Int → Int}
theorem xw_drawn {B : Int → Int} {v : Int → Int → Int} (hT : PT T) (hV : PV v) (hC : CI (v, T) B X) (hS : YS B) (hQ : ∀ w, CI (w, T) (up1 B 4 (anw (B 4))) X → YS (up1 B 4 (anw (B 4))) → jkM v w → Q (.inl (some (vI (B 4)))) (w, T)) : jmet g (d + 1) 0 0 MX0_drawn [vR 400] (v, T) Q := by
  obtain ⟨hH, hW, h4⟩ := hS
  have ab := anw_bd (x := B 4)
  have ci := hC.num (i := 4) (k := 45) (z := anw (B 4)) (by omega) (fun h => by omega)
  refine jmet_of (ls := [some (vR 400), none]) sX0_drawn rfl (by decide +kernel) (by decide) rfl (by simp [jent]) ?_
  refine jW_step ?_
  simp (disch := (first | decide | omega)) only [bX0_drawn, jxs, hps, jtsw, jlsw, List.length_cons, List.length_nil, true_and, and_true, true_implies, false_implies, implies_true, not_true_eq_false, not_false_eq_true, false_and, and_false, if_true, if_false, or_true, true_or, or_false, false_or, Classical.not_not, and_self, Int.reduceAdd, Int.reduceMul, Int.reduceSub, Int.reduceNeg, Int.reduceLT, Int.reduceLE, Int.reduceEq, Int.reduceNe, Int.reduceToNat, Nat.reduceAdd, Nat.reduceMul, Nat.reduceSub, Nat.reduceLeDiff, Nat.reduceLT, Nat.reduceEqDiff, reduceIte, Nat.zero_le, Nat.le_refl, Nat.add_zero, Nat.zero_add, xwT hT, xwV hV, hC.dr]
  (repeat (refine And.intro (by (first | omega | assumption | trivial | (simp only [inI]; omega) | (simp only [inL]; omega) | (refine jb_01) | (exact jb_in))) ?_))
  have e : (B 4 * 179 + 101) % 30113 = anw (B 4) := rfl
  rw [e]
  (repeat (refine And.intro (by (first | omega | assumption | trivial | (simp only [inI]; omega) | (simp only [inL]; omega) | (refine jb_01) | (exact jb_in))) ?_))
  exact hQ _ ci ⟨hH.ext (up1_ne (by omega)) (fun j j0 j1 => up1_ne (by omega)) hC.tb, fun j j0 j1 => by rw [up1_ne (by omega)]; exact hW j j0 j1, by rw [up1_eq]; omega⟩ ((jkR.up).M hV)
theorem xw_yr_4 {B : Int → Int} {n k c se : Int} {l5 l6 l7 l8 : Option jjV} {v : Int → Int → Int} (hT : PT T) (hV : PV v) (hC : CI (v, T) B X) (hS : YS B) (hk : 0 ≤ k ∧ k ≤ 40)
    (hQ : ∀ w, CI (w, T) (yc2 X B) X → YS (yc2 X B) → (yc2 X B) 0 = B 0 → jkM v w → jW bX0_year (g, d + 115, 0, 0, Q) 2 [some (vR 400), some (vI se), some (vI n), some (vI c), some (vI (k + 1)), none, none, none, none] [] (w, T) 0 0) :
    jW bX0_year (g, d + 115, 0, 0, Q) 4 [some (vR 400), some (vI se), some (vI n), some (vI c), some (vI k), l5, l6, l7, l8] [] (v, T) 0 0 := by
  have k6 : ∀ u a5 a6 a7 a8, PV u → jW bX0_year (g, d + 115, 0, 0, Q) 2 [some (vR 400), some (vI se), some (vI n), some (vI c), some (vI (k + 1)), none, none, none, none] [] (u, T) 0 0 → jW bX0_year (g, d + 115, 0, 0, Q) 6 [some (vR 400), some (vI se), some (vI n), some (vI c), some (vI k), a5, a6, a7, a8] [] (u, T) 0 0 := by
    intro u a5 a6 a7 a8 hVu hq
    have hV := hVu
    refine jW_step ?_
    simp (disch := (first | decide | omega)) only [bX0_year, jxs, hps, jtsw, jlsw, List.length_cons, List.length_nil, true_and, and_true, true_implies, false_implies, implies_true, not_true_eq_false, not_false_eq_true, false_and, and_false, if_true, if_false, or_true, true_or, or_false, false_or, Classical.not_not, and_self, Int.reduceAdd, Int.reduceMul, Int.reduceSub, Int.reduceNeg, Int.reduceLT, Int.reduceLE, Int.reduceEq, Int.reduceNe, Int.reduceToNat, Nat.reduceAdd, Nat.reduceMul, Nat.reduceSub, Nat.reduceLeDiff, Nat.reduceLT, Nat.reduceEqDiff, reduceIte, Nat.zero_le, Nat.le_refl, Nat.add_zero, Nat.zero_add, xwT hT, xwV hV]
    (repeat (refine And.intro (by (first | omega | assumption | trivial | (simp only [inI]; omega) | (simp only [inL]; omega) | (refine jb_01) | (exact jb_in))) ?_))
    exact jW_sub (by simp [jsub]) hq
  have h4 := hS.2.2
  have hTB := hC.tb
  unfold yc2 at hQ
  refine jW_step ?_
  simp (disch := (first | decide | omega)) only [bX0_year, jxs, hps, jtsw, jlsw, List.length_cons, List.length_nil, true_and, and_true, true_implies, false_implies, implies_true, not_true_eq_false, not_false_eq_true, false_and, and_false, if_true, if_false, or_true, true_or, or_false, false_or, Classical.not_not, and_self, Int.reduceAdd, Int.reduceMul, Int.reduceSub, Int.reduceNeg, Int.reduceLT, Int.reduceLE, Int.reduceEq, Int.reduceNe, Int.reduceToNat, Nat.reduceAdd, Nat.reduceMul, Nat.reduceSub, Nat.reduceLeDiff, Nat.reduceLT, Nat.reduceEqDiff, reduceIte, Nat.zero_le, Nat.le_refl, Nat.add_zero, Nat.zero_add, xwT hT, xwV hV]
  refine ⟨0, 0, ⟨by omega, by omega⟩, xw_drawn hT hV hC hS ?_⟩
  intro w hCw hSw jw
  have hVw := jw.pv
  have e2 : (up1 B 4 (anw (B 4))) 2 = B 2 := up1_ne (by omega)
  have wwet := hCw.wet
  rw [e2] at wwet
  have b2 := hTB.2.1
  have hV0 := hV
  have hV := hVw
  simp (disch := (first | decide | omega)) only [jxs, hps, jtsw, jlsw, List.length_cons, List.length_nil, true_and, and_true, true_implies, false_implies, implies_true, not_true_eq_false, not_false_eq_true, false_and, and_false, if_true, if_false, or_true, true_or, or_false, false_or, Classical.not_not, and_self, Int.reduceAdd, Int.reduceMul, Int.reduceSub, Int.reduceNeg, Int.reduceLT, Int.reduceLE, Int.reduceEq, Int.reduceNe, Int.reduceToNat, Nat.reduceAdd, Nat.reduceMul, Nat.reduceSub, Nat.reduceLeDiff, Nat.reduceLT, Nat.reduceEqDiff, reduceIte, Nat.zero_le, Nat.le_refl, Nat.add_zero, Nat.zero_add, xwT hT, xwV hV, wwet]
  (repeat (refine And.intro (by (first | omega | assumption | trivial | (simp only [inI]; omega) | (simp only [inL]; omega) | (refine jb_01) | (exact jb_in))) ?_))
  by_cases h : B 4 % 10 < 3
  · rw [if_pos h] at hQ
    refine ⟨fun _ => ?_, fun h9 => by omega⟩
    have ci := hCw.num (i := 2) (k := 43) (z := 1 - B 2) (by omega) (fun _ => by omega)
    have ju := (jkR.up (v := w) (f := up1 (w 404) 43 (1 - B 2))).M hVw
    have hSu : YS (up1 (up1 B 4 (anw (B 4))) 2 (1 - B 2)) := ⟨hSw.1.ext (up1_ne (by omega)) (fun j j0 j1 => up1_ne (by omega)) hCw.tb, fun j j0 j1 => by rw [up1_ne (by omega)]; exact hSw.2.1 j j0 j1, by rw [up1_ne (by omega)]; exact hSw.2.2⟩
    have u0 : (up1 (up1 B 4 (anw (B 4))) 2 (1 - B 2)) 0 = B 0 := by rw [up1_ne (by omega), up1_ne (by omega)]
    (repeat (refine And.intro (by (first | omega | assumption | trivial | (simp only [inI]; omega) | (simp only [inL]; omega) | (refine jb_01) | (exact jb_in))) ?_))
    by_cases h2 : 1 - B 2 = 1
    · rw [if_pos h2] at hQ
      refine ⟨fun h9 => absurd h2 h9, fun _ => ?_⟩
      refine ⟨0, 0, ⟨by omega, by omega⟩, xw_fall hT ju.pv ci hSu.1 hSu.2.1 ?_⟩
      intro y y1 y2 y3
      have hVy := y3.pv ju.pv
      have fb := fallA_ok (X := X) ci.tb
      have hV := hVy
      simp (disch := (first | decide | omega)) only [jxs, hps, jtsw, jlsw, List.length_cons, List.length_nil, true_and, and_true, true_implies, false_implies, implies_true, not_true_eq_false, not_false_eq_true, false_and, and_false, if_true, if_false, or_true, true_or, or_false, false_or, Classical.not_not, and_self, Int.reduceAdd, Int.reduceMul, Int.reduceSub, Int.reduceNeg, Int.reduceLT, Int.reduceLE, Int.reduceEq, Int.reduceNe, Int.reduceToNat, Nat.reduceAdd, Nat.reduceMul, Nat.reduceSub, Nat.reduceLeDiff, Nat.reduceLT, Nat.reduceEqDiff, reduceIte, Nat.zero_le, Nat.le_refl, Nat.add_zero, Nat.zero_add, xwT hT, xwV hV]
      refine jW_step ?_
      simp (disch := (first | decide | omega)) only [bX0_year, jxs, hps, jtsw, jlsw, List.length_cons, List.length_nil, true_and, and_true, true_implies, false_implies, implies_true, not_true_eq_false, not_false_eq_true, false_and, and_false, if_true, if_false, or_true, true_or, or_false, false_or, Classical.not_not, and_self, Int.reduceAdd, Int.reduceMul, Int.reduceSub, Int.reduceNeg, Int.reduceLT, Int.reduceLE, Int.reduceEq, Int.reduceNe, Int.reduceToNat, Nat.reduceAdd, Nat.reduceMul, Nat.reduceSub, Nat.reduceLeDiff, Nat.reduceLT, Nat.reduceEqDiff, reduceIte, Nat.zero_le, Nat.le_refl, Nat.add_zero, Nat.zero_add, xwT hT, xwV hV]
      refine k6 y _ _ _ _ hVy (hQ y y1 ⟨y2, fb.2.1.tw hSu.2.1, by rw [fb.2.1 4 (by omega)]; exact hSu.2.2⟩ ?_ ((jw.tr ju).tr (y3.M ju.pv)))
      rw [fb.2.1 0 (by omega)]
      exact u0
    · rw [if_neg h2] at hQ
      refine ⟨fun _ => ?_, fun h9 => absurd h9 h2⟩
      have hV := ju.pv
      refine jW_step ?_
      simp (disch := (first | decide | omega)) only [bX0_year, jxs, hps, jtsw, jlsw, List.length_cons, List.length_nil, true_and, and_true, true_implies, false_implies, implies_true, not_true_eq_false, not_false_eq_true, false_and, and_false, if_true, if_false, or_true, true_or, or_false, false_or, Classical.not_not, and_self, Int.reduceAdd, Int.reduceMul, Int.reduceSub, Int.reduceNeg, Int.reduceLT, Int.reduceLE, Int.reduceEq, Int.reduceNe, Int.reduceToNat, Nat.reduceAdd, Nat.reduceMul, Nat.reduceSub, Nat.reduceLeDiff, Nat.reduceLT, Nat.reduceEqDiff, reduceIte, Nat.zero_le, Nat.le_refl, Nat.add_zero, Nat.zero_add, xwT hT, xwV hV]
      exact k6 _ _ _ _ _ ju.pv (hQ _ ci hSu u0 (jw.tr ju))
  · rw [if_neg h] at hQ
    refine ⟨fun h9 => absurd h9 h, fun _ => ?_⟩
    (repeat (refine And.intro (by (first | omega | assumption | trivial | (simp only [inI]; omega) | (simp only [inL]; omega) | (refine jb_01) | (exact jb_in))) ?_))
    exact k6 w _ _ _ _ hVw (hQ w hCw hSw (up1_ne (by omega)) jw)
theorem xw_yr_2 {n se : Int} (hT : PT T) (hn : n ≤ 40) : ∀ (r : Nat) (k c : Int) (B : Int → Int) (v : Int → Int → Int), PV v → CI (v, T) B X → YS B → 1 ≤ B 0 → 0 ≤ k → k + r = n → (0 ≤ c ∧ c ≤ k) →
    (∀ w, CI (w, T) (ycL X r B c).1 X → jkM v w → Q (.inl (some (vI (ycL X r B c).2))) (w, T)) →
    jW bX0_year (g, d + 115, 0, 0, Q) 2 [some (vR 400), some (vI se), some (vI n), some (vI c), some (vI k), none, none, none, none] [] (v, T) 0 0 := by
  intro r
  induction r with
  | zero =>
    intro k c B v hV hC hS hB0 hk hr hc hQ
    unfold ycL at hQ
    refine jW_step ?_
    simp (disch := (first | decide | omega)) only [bX0_year, jxs, hps, jtsw, jlsw, List.length_cons, List.length_nil, true_and, and_true, true_implies, false_implies, implies_true, not_true_eq_false, not_false_eq_true, false_and, and_false, if_true, if_false, or_true, true_or, or_false, false_or, Classical.not_not, and_self, Int.reduceAdd, Int.reduceMul, Int.reduceSub, Int.reduceNeg, Int.reduceLT, Int.reduceLE, Int.reduceEq, Int.reduceNe, Int.reduceToNat, Nat.reduceAdd, Nat.reduceMul, Nat.reduceSub, Nat.reduceLeDiff, Nat.reduceLT, Nat.reduceEqDiff, reduceIte, Nat.zero_le, Nat.le_refl, Nat.add_zero, Nat.zero_add, xwT hT, xwV hV]
    (try refine ⟨fun _ => ?_, fun h9 => (by exfalso; omega)⟩)
    (repeat (refine And.intro (by (first | omega | assumption | trivial | (simp only [inI]; omega) | (simp only [inL]; omega) | (refine jb_01) | (exact jb_in))) ?_))
    exact hQ v hC (jkM.rf hV)
  | succ r ih =>
    intro k c B v hV hC hS hB0 hk hr hc hQ
    have hTB := hC.tb
    have h0 := hTB.1
    have h4 := hS.2.2
    unfold ycL at hQ
    -- on from the second half
    have go : ∀ C c' u l5 l6 l7 l8, CI (u, T) C X → YS C → C 0 = B 0 → jkM v u → (0 ≤ c' ∧ c' ≤ k + 1) → (∀ w, CI (w, T) (ycL X r (yc2 X C) c').1 X → jkM v w → Q (.inl (some (vI (ycL X r (yc2 X C) c').2))) (w, T)) →
        jW bX0_year (g, d + 115, 0, 0, Q) 4 [some (vR 400), some (vI se), some (vI n), some (vI c'), some (vI k), l5, l6, l7, l8] [] (u, T) 0 0 := by
      intro C c' u l5 l6 l7 l8 hCu hSu e0 ju hc' hq
      refine xw_yr_4 (B := C) (X := X) hT ju.pv hCu hSu ⟨hk, by omega⟩ ?_
      intro w w1 w2 w3 w4
      exact ih (k + 1) c' (yc2 X C) w w4.pv w1 w2 (by omega) (by omega) (by omega) hc' (fun y y1 y2 => hq y y1 ((ju.tr w4).tr y2))
    have bb : 0 ≤ B 4 % B 0 ∧ B 4 % B 0 < B 0 := ⟨Int.emod_nonneg _ (by omega), Int.emod_lt_of_pos _ (by omega)⟩
    have wb := hTB.2.2.2.2.2.2 (46 + 6 * (B 4 % B 0) + 5) (by omega) (by omega)
    refine jW_step ?_
    simp (disch := (first | decide | omega)) only [bX0_year, jxs, hps, jtsw, jlsw, List.length_cons, List.length_nil, true_and, and_true, true_implies, false_implies, implies_true, not_true_eq_false, not_false_eq_true, false_and, and_false, if_true, if_false, or_true, true_or, or_false, false_or, Classical.not_not, and_self, Int.reduceAdd, Int.reduceMul, Int.reduceSub, Int.reduceNeg, Int.reduceLT, Int.reduceLE, Int.reduceEq, Int.reduceNe, Int.reduceToNat, Nat.reduceAdd, Nat.reduceMul, Nat.reduceSub, Nat.reduceLeDiff, Nat.reduceLT, Nat.reduceEqDiff, reduceIte, Nat.zero_le, Nat.le_refl, Nat.add_zero, Nat.zero_add, xwT hT, xwV hV]
    (first | refine ⟨fun h9 => (by exfalso; omega), fun _ => ?_⟩ | intro _)
    refine ⟨0, 0, ⟨by omega, by omega⟩, xw_drawn hT hV hC hS ?_⟩
    intro w hCw hSw jw
    have hVw := jw.pv
    have w0 : (up1 B 4 (anw (B 4))) 0 = B 0 := up1_ne (by omega)
    have wn := hCw.n0
    rw [w0] at wn
    have ww : (up1 B 4 (anw (B 4))) (46 + 6 * (B 4 % B 0) + 5) = B (46 + 6 * (B 4 % B 0) + 5) := up1_ne (by omega)
    have ab := anw_bd (x := B 4)
    unfold yc1 at hQ
    generalize hb : B 4 % B 0 = b at *
    have hV0 := hV
    have hV := hVw
    simp (disch := (first | decide | omega)) only [jxs, hps, jtsw, jlsw, List.length_cons, List.length_nil, true_and, and_true, true_implies, false_implies, implies_true, not_true_eq_false, not_false_eq_true, false_and, and_false, if_true, if_false, or_true, true_or, or_false, false_or, Classical.not_not, and_self, Int.reduceAdd, Int.reduceMul, Int.reduceSub, Int.reduceNeg, Int.reduceLT, Int.reduceLE, Int.reduceEq, Int.reduceNe, Int.reduceToNat, Nat.reduceAdd, Nat.reduceMul, Nat.reduceSub, Nat.reduceLeDiff, Nat.reduceLT, Nat.reduceEqDiff, reduceIte, Nat.zero_le, Nat.le_refl, Nat.add_zero, Nat.zero_add, xwT hT, xwV hV, wn]
    (repeat (refine And.intro (by (first | omega | assumption | trivial | (simp only [inI]; omega) | (simp only [inL]; omega) | (refine jb_01) | (exact jb_in))) ?_))
    rw [hb]
    refine ⟨0, 0, ⟨by omega, by omega⟩, xw_whereIs hT hVw hCw (by rw [w0]; exact bb) ?_⟩
    rw [ww]
    simp (disch := (first | decide | omega)) only [jxs, hps, jtsw, jlsw, List.length_cons, List.length_nil, true_and, and_true, true_implies, false_implies, implies_true, not_true_eq_false, not_false_eq_true, false_and, and_false, if_true, if_false, or_true, true_or, or_false, false_or, Classical.not_not, and_self, Int.reduceAdd, Int.reduceMul, Int.reduceSub, Int.reduceNeg, Int.reduceLT, Int.reduceLE, Int.reduceEq, Int.reduceNe, Int.reduceToNat, Nat.reduceAdd, Nat.reduceMul, Nat.reduceSub, Nat.reduceLeDiff, Nat.reduceLT, Nat.reduceEqDiff, reduceIte, Nat.zero_le, Nat.le_refl, Nat.add_zero, Nat.zero_add, xwT hT, xwV hV]
    by_cases hs3 : B (46 + 6 * b + 5) < 3
    · refine ⟨fun h9 => by omega, fun _ => ?_⟩
      have hs : 0 ≤ B (46 + 6 * b + 5) ∧ B (46 + 6 * b + 5) < 3 := ⟨wb.1, hs3⟩
      have wm : (up1 B 4 (anw (B 4))) (13 + B (46 + 6 * b + 5)) = B (13 + B (46 + 6 * b + 5)) := up1_ne (by omega)
      have mm := hTB.2.2.2.2.2.1 (13 + B (46 + 6 * b + 5)) (by omega) (by omega)
      refine ⟨0, 0, ⟨by omega, by omega⟩, xw_many hT hVw hCw hs ?_⟩
      rw [wm]
      simp (disch := (first | decide | omega)) only [jxs, hps, jtsw, jlsw, List.length_cons, List.length_nil, true_and, and_true, true_implies, false_implies, implies_true, not_true_eq_false, not_false_eq_true, false_and, and_false, if_true, if_false, or_true, true_or, or_false, false_or, Classical.not_not, and_self, Int.reduceAdd, Int.reduceMul, Int.reduceSub, Int.reduceNeg, Int.reduceLT, Int.reduceLE, Int.reduceEq, Int.reduceNe, Int.reduceToNat, Nat.reduceAdd, Nat.reduceMul, Nat.reduceSub, Nat.reduceLeDiff, Nat.reduceLT, Nat.reduceEqDiff, reduceIte, Nat.zero_le, Nat.le_refl, Nat.add_zero, Nat.zero_add, xwT hT, xwV hV]
      by_cases hm : 1 < B (13 + B (46 + 6 * b + 5))
      · rw [if_pos ⟨hs3, hm⟩] at hQ
        refine ⟨fun h9 => by omega, fun _ => ?_⟩
        refine ⟨0, 0, ⟨by omega, by omega⟩, xw_drawn hT hVw hCw hSw ?_⟩
        rw [up1_eq]
        intro u hCu hSu ju
        have hVu := ju.pv
        have u0 : (up1 (up1 B 4 (anw (B 4))) 4 (anw (anw (B 4)))) 0 = B 0 := by rw [up1_ne (by omega), up1_ne (by omega)]
        have um : (up1 (up1 B 4 (anw (B 4))) 4 (anw (anw (B 4)))) (13 + B (46 + 6 * b + 5)) = B (13 + B (46 + 6 * b + 5)) := by rw [up1_ne (by omega), up1_ne (by omega)]
        have uw : (up1 (up1 B 4 (anw (B 4))) 4 (anw (anw (B 4)))) (46 + 6 * b + 5) = B (46 + 6 * b + 5) := by rw [up1_ne (by omega), up1_ne (by omega)]
        have pl := plA_ok hTB hS.1 bb hs3
        have plu := plA_ok hCu.tb hSu.1 (b := b) (by rw [u0]; exact bb) (by rw [uw]; exact hs3)
        have ep : plA (up1 (up1 B 4 (anw (B 4))) 4 (anw (anw (B 4)))) b = plA B b := by
          rw [uw, um] at plu
          have e1 := plu.2.2.1
          rw [up1_ne (by omega), up1_ne (by omega)] at e1
          exact hS.1.2.1 _ _ _ pl.1.1 pl.1.2 plu.2.1.1 plu.2.1.2 pl.2.1.1 pl.2.1.2 (e1.trans pl.2.2.1.symm)
        rw [ep, uw, um] at plu
        have ci := hCu.pull plu.1 (by rw [um]; exact plu.2.1) (to := B (46 + 6 * b + 5)) (by rw [plu.2.2.1, u0]; exact bb.2) (by omega)
        have em := hCu.m plu.1
        have hmu := hCu.tb.2.2.2.2.2.1 (13 + B (46 + 6 * b + 5)) (by omega) (by omega)
        rw [um] at em hmu ci
        rw [plu.2.2.1] at ci
        -- the book's own place in the row says its shelf already
        have hrow : up1 (rmF (u 404) (B (46 + 6 * b + 5)) (plA B b) (B (13 + B (46 + 6 * b + 5)))) (33 + b) (B (46 + 6 * b + 5)) = rmF (u 404) (B (46 + 6 * b + 5)) (plA B b) (B (13 + B (46 + 6 * b + 5))) := by
          have e := hCu.h (b := b) (by rw [u0]; exact bb)
          rw [uw] at e
          have e2 : rmF (u 404) (B (46 + 6 * b + 5)) (plA B b) (B (13 + B (46 + 6 * b + 5))) (33 + b) = B (46 + 6 * b + 5) := by rw [rmF_hi hs pl.2.1.1 (by omega) (by omega)]; exact e
          rw [← e2]
          have : ∀ F : Int → Int, up1 F (33 + b) (F (33 + b)) = F := fun F => up1_id
          have t := this (rmF (u 404) (rmF (u 404) (B (46 + 6 * b + 5)) (plA B b) (B (13 + B (46 + 6 * b + 5))) (33 + b)) (plA B b) (B (13 + rmF (u 404) (B (46 + 6 * b + 5)) (plA B b) (B (13 + B (46 + 6 * b + 5))) (33 + b))))
          rw [e2] at t ⊢
          rw [e2] at t
          exact t
        rw [hrow] at ci
        have hVr : PV (upA u 404 (rmF (u 404) (B (46 + 6 * b + 5)) (plA B b) (B (13 + B (46 + 6 * b + 5))))) := hVu.A (by decide)
        have jr := (jkR.up (v := u) (f := rmF (u 404) (B (46 + 6 * b + 5)) (plA B b) (B (13 + B (46 + 6 * b + 5))))).M hVu
        have pm := pullA_m hCu.tb (s := B (46 + 6 * b + 5)) (p := plA B b) (to := B (46 + 6 * b + 5)) plu.1 (by rw [um]; exact plu.2.1)
        have pm3 := pullA_m hCu.tb (s := B (46 + 6 * b + 5)) (p := plA B b) (to := 3) plu.1 (by rw [um]; exact plu.2.1)
        have p0 : pullA (up1 (up1 B 4 (anw (B 4))) 4 (anw (anw (B 4)))) (B (46 + 6 * b + 5)) (plA B b) (B (46 + 6 * b + 5)) 0 = B 0 := by rw [pullA_0 plu.1 (by rw [um]; exact plu.2.1) (by rw [um]; omega) (by rw [plu.2.2.1]; omega)]; exact u0
        have p03 : pullA (up1 (up1 B 4 (anw (B 4))) 4 (anw (anw (B 4)))) (B (46 + 6 * b + 5)) (plA B b) 3 0 = B 0 := by rw [pullA_0 plu.1 (by rw [um]; exact plu.2.1) (by rw [um]; omega) (by rw [plu.2.2.1]; omega)]; exact u0
        have h3 := hSu.1.pull hCu.tb (s := B (46 + 6 * b + 5)) (p := plA B b) (to := 3) plu.1 (by rw [um]; exact plu.2.1) (by omega)
        have t3 := hCu.tb.pull (s := B (46 + 6 * b + 5)) (p := plA B b) (to := 3) plu.1 (by rw [um]; exact plu.2.1) (by omega)
        have w3 := pullA_w (A := up1 (up1 B 4 (anw (B 4))) 4 (anw (anw (B 4)))) (s := B (46 + 6 * b + 5)) (p := plA B b) (to := 3) (b := b) plu.1 (by rw [um]; exact plu.2.1) (by rw [um]; omega) bb.1
        rw [plu.2.2.1, if_pos rfl] at w3
        have frP := FR.pull hCu.tb (s := B (46 + 6 * b + 5)) (p := plA B b) (to := B (46 + 6 * b + 5)) plu.1 (by rw [um]; exact plu.2.1)
        have ht : 0 ≤ anw (B 4) % B (13 + B (46 + 6 * b + 5)) ∧ anw (B 4) % B (13 + B (46 + 6 * b + 5)) < B (13 + B (46 + 6 * b + 5)) := ⟨Int.emod_nonneg _ (by omega), Int.emod_lt_of_pos _ (by omega)⟩
        have sp := set_pull (A := up1 (up1 B 4 (anw (B 4))) 4 (anw (anw (B 4)))) (s := B (46 + 6 * b + 5)) (p := plA B b) (b := b) (t := anw (B 4) % B (13 + B (46 + 6 * b + 5))) (to := B (46 + 6 * b + 5)) (to' := 3) plu.1 (by rw [um]; exact plu.2.1) (by rw [um]; omega) bb.1 plu.2.2.1 (by rw [um]; omega)
        rw [um] at pm pm3
        have cis := ci.set (s := B (46 + 6 * b + 5)) (p := anw (B 4) % B (13 + B (46 + 6 * b + 5))) (b := b) plu.1 (by rw [pm]; omega) (by rw [pm]; omega) (by rw [p0]; exact bb)
        have frS := FR.set2 ci.tb (s := B (46 + 6 * b + 5)) (p := anw (B 4) % B (13 + B (46 + 6 * b + 5))) (b := b) plu.1 (by rw [pm]; omega) (by omega)
        have hS3 : SH (setA (pullA (up1 (up1 B 4 (anw (B 4))) 4 (anw (anw (B 4)))) (B (46 + 6 * b + 5)) (plA B b) (B (46 + 6 * b + 5))) b (B (46 + 6 * b + 5)) (anw (B 4) % B (13 + B (46 + 6 * b + 5)))) := by
          rw [sp]
          exact h3.set t3 plu.1 (by rw [pm3]; omega) (by rw [p03]; exact bb) (by rw [w3]; omega)
        have ys : YS (setA (pullA (up1 (up1 B 4 (anw (B 4))) 4 (anw (anw (B 4)))) (B (46 + 6 * b + 5)) (plA B b) (B (46 + 6 * b + 5))) b (B (46 + 6 * b + 5)) (anw (B 4) % B (13 + B (46 + 6 * b + 5)))) :=
          ⟨hS3, frS.tw (frP.tw hSu.2.1), by rw [frS 4 (by omega), frP 4 (by omega)]; exact hSu.2.2⟩
        have s0 : setA (pullA (up1 (up1 B 4 (anw (B 4))) 4 (anw (anw (B 4)))) (B (46 + 6 * b + 5)) (plA B b) (B (46 + 6 * b + 5))) b (B (46 + 6 * b + 5)) (anw (B 4) % B (13 + B (46 + 6 * b + 5))) 0 = B 0 := by rw [frS 0 (by omega)]; exact p0
        have emr := ci.m plu.1
        rw [pm] at emr cis
        generalize setA (pullA (up1 (up1 B 4 (anw (B 4))) 4 (anw (anw (B 4)))) (B (46 + 6 * b + 5)) (plA B b) (B (46 + 6 * b + 5))) b (B (46 + 6 * b + 5)) (anw (B 4) % B (13 + B (46 + 6 * b + 5))) = E at *
        have hV := hVu
        simp (disch := (first | decide | omega)) only [jxs, hps, jtsw, jlsw, List.length_cons, List.length_nil, true_and, and_true, true_implies, false_implies, implies_true, not_true_eq_false, not_false_eq_true, false_and, and_false, if_true, if_false, or_true, true_or, or_false, false_or, Classical.not_not, and_self, Int.reduceAdd, Int.reduceMul, Int.reduceSub, Int.reduceNeg, Int.reduceLT, Int.reduceLE, Int.reduceEq, Int.reduceNe, Int.reduceToNat, Nat.reduceAdd, Nat.reduceMul, Nat.reduceSub, Nat.reduceLeDiff, Nat.reduceLT, Nat.reduceEqDiff, reduceIte, Nat.zero_le, Nat.le_refl, Nat.add_zero, Nat.zero_add, xwT hT, xwV hV]
        refine ⟨0, 0, ⟨by omega, by omega⟩, xw_many hT hVu hCu plu.1 ?_⟩
        rw [um]
        simp (disch := (first | decide | omega)) only [jxs, hps, jtsw, jlsw, List.length_cons, List.length_nil, true_and, and_true, true_implies, false_implies, implies_true, not_true_eq_false, not_false_eq_true, false_and, and_false, if_true, if_false, or_true, true_or, or_false, false_or, Classical.not_not, and_self, Int.reduceAdd, Int.reduceMul, Int.reduceSub, Int.reduceNeg, Int.reduceLT, Int.reduceLE, Int.reduceEq, Int.reduceNe, Int.reduceToNat, Nat.reduceAdd, Nat.reduceMul, Nat.reduceSub, Nat.reduceLeDiff, Nat.reduceLT, Nat.reduceEqDiff, reduceIte, Nat.zero_le, Nat.le_refl, Nat.add_zero, Nat.zero_add, xwT hT, xwV hV]
        (repeat (refine And.intro (by (first | omega | assumption | trivial | (simp only [inI]; omega) | (simp only [inL]; omega) | (refine jb_01) | (exact jb_in))) ?_))
        refine ⟨0, 0, ⟨by omega, by omega⟩, xw_placeOf hT hVu hCu hSu.1 (by rw [u0]; exact bb) (by rw [uw]; exact hs3) ?_⟩
        rw [ep]
        simp (disch := (first | decide | omega)) only [jxs, hps, jtsw, jlsw, List.length_cons, List.length_nil, true_and, and_true, true_implies, false_implies, implies_true, not_true_eq_false, not_false_eq_true, false_and, and_false, if_true, if_false, or_true, true_or, or_false, false_or, Classical.not_not, and_self, Int.reduceAdd, Int.reduceMul, Int.reduceSub, Int.reduceNeg, Int.reduceLT, Int.reduceLE, Int.reduceEq, Int.reduceNe, Int.reduceToNat, Nat.reduceAdd, Nat.reduceMul, Nat.reduceSub, Nat.reduceLeDiff, Nat.reduceLT, Nat.reduceEqDiff, reduceIte, Nat.zero_le, Nat.le_refl, Nat.add_zero, Nat.zero_add, xwT hT, xwV hV]
        refine ⟨0, 0, ⟨by omega, by omega⟩, xw_removes hT hVu (by rw [em]; exact hmu) plu.1 (by rw [em]; exact plu.2.1) ?_⟩
        rw [em]
        generalize upA u 404 (rmF (u 404) (B (46 + 6 * b + 5)) (plA B b) (B (13 + B (46 + 6 * b + 5)))) = y at *
        have hV := hVr
        simp (disch := (first | decide | omega)) only [jxs, hps, jtsw, jlsw, List.length_cons, List.length_nil, true_and, and_true, true_implies, false_implies, implies_true, not_true_eq_false, not_false_eq_true, false_and, and_false, if_true, if_false, or_true, true_or, or_false, false_or, Classical.not_not, and_self, Int.reduceAdd, Int.reduceMul, Int.reduceSub, Int.reduceNeg, Int.reduceLT, Int.reduceLE, Int.reduceEq, Int.reduceNe, Int.reduceToNat, Nat.reduceAdd, Nat.reduceMul, Nat.reduceSub, Nat.reduceLeDiff, Nat.reduceLT, Nat.reduceEqDiff, reduceIte, Nat.zero_le, Nat.le_refl, Nat.add_zero, Nat.zero_add, xwT hT, xwV hV]
        refine ⟨0, 0, ⟨by omega, by omega⟩, xw_inserts hT hVr (by rw [emr]; omega) plu.1 (by rw [emr]; omega) (by omega) ?_⟩
        rw [emr]
        have hVz : PV (upA y 404 (inF2 (y 404) (B (46 + 6 * b + 5)) (anw (B 4) % B (13 + B (46 + 6 * b + 5))) b (B (13 + B (46 + 6 * b + 5)) - 1))) := hVr.A (by decide)
        have jz := (jkR.up (v := y) (f := inF2 (y 404) (B (46 + 6 * b + 5)) (anw (B 4) % B (13 + B (46 + 6 * b + 5))) b (B (13 + B (46 + 6 * b + 5)) - 1))).M hVr
        generalize upA y 404 (inF2 (y 404) (B (46 + 6 * b + 5)) (anw (B 4) % B (13 + B (46 + 6 * b + 5))) b (B (13 + B (46 + 6 * b + 5)) - 1)) = z at *
        have jall := ((jw.tr ju).tr jr).tr jz
        have k3 : ∀ q l5 l6 l7 l8, q = (if anw (B 4) % B (13 + B (46 + 6 * b + 5)) = plA B b then (0 : Int) else 1) → jW bX0_year (g, d + 115, 0, 0, Q) 3 [some (vR 400), some (vI se), some (vI n), some (vI c), some (vI k), l5, l6, l7, l8] [vI q, vI c] (z, T) 0 0 := by
          intro q l5 l6 l7 l8 hq
          have q1 : 0 ≤ q ∧ q ≤ 1 := by rw [hq]; split <;> omega
          rw [← hq] at hQ
          have hV := hVz
          refine jW_step ?_
          simp (disch := (first | decide | omega)) only [bX0_year, jxs, hps, jtsw, jlsw, List.length_cons, List.length_nil, true_and, and_true, true_implies, false_implies, implies_true, not_true_eq_false, not_false_eq_true, false_and, and_false, if_true, if_false, or_true, true_or, or_false, false_or, Classical.not_not, and_self, Int.reduceAdd, Int.reduceMul, Int.reduceSub, Int.reduceNeg, Int.reduceLT, Int.reduceLE, Int.reduceEq, Int.reduceNe, Int.reduceToNat, Nat.reduceAdd, Nat.reduceMul, Nat.reduceSub, Nat.reduceLeDiff, Nat.reduceLT, Nat.reduceEqDiff, reduceIte, Nat.zero_le, Nat.le_refl, Nat.add_zero, Nat.zero_add, xwT hT, xwV hV]
          (repeat (refine And.intro (by (first | omega | assumption | trivial | (simp only [inI]; omega) | (simp only [inL]; omega) | (refine jb_01) | (exact jb_in))) ?_))
          exact go E (c + q) z _ _ _ _ cis ys s0 jall (by omega) hQ
        have hV := hVz
        simp (disch := (first | decide | omega)) only [jxs, hps, jtsw, jlsw, List.length_cons, List.length_nil, true_and, and_true, true_implies, false_implies, implies_true, not_true_eq_false, not_false_eq_true, false_and, and_false, if_true, if_false, or_true, true_or, or_false, false_or, Classical.not_not, and_self, Int.reduceAdd, Int.reduceMul, Int.reduceSub, Int.reduceNeg, Int.reduceLT, Int.reduceLE, Int.reduceEq, Int.reduceNe, Int.reduceToNat, Nat.reduceAdd, Nat.reduceMul, Nat.reduceSub, Nat.reduceLeDiff, Nat.reduceLT, Nat.reduceEqDiff, reduceIte, Nat.zero_le, Nat.le_refl, Nat.add_zero, Nat.zero_add, xwT hT, xwV hV]
        refine ⟨fun h9 => ?_, fun h9 => ?_⟩
        · exact k3 1 _ _ _ _ (by rw [if_neg h9])
        · exact k3 0 _ _ _ _ (by rw [if_pos (by omega)])
      · rw [if_neg (fun x => hm x.2)] at hQ
        refine ⟨fun _ => ?_, fun h9 => by omega⟩
        exact go _ c w _ _ _ _ hCw hSw w0 jw (by omega) hQ
    · rw [if_neg (fun x => hs3 x.1)] at hQ
      refine ⟨fun _ => ?_, fun h9 => absurd h9 (by omega)⟩
      exact go _ c w _ _ _ _ hCw hSw w0 jw (by omega) hQ
end XG
