/-! ===== a year: the number drawn lies apart ===== -/
-- MODE X
set_option maxRecDepth 100000
section L4
variable {A X : Int → Int} {x : Int}
theorem L_pull {s p to : Int} (hB : TB A) (hs : 0 ≤ s ∧ s < 3) (hp : 0 ≤ p ∧ p < A (13 + s)) : pullA (up1 A 4 x) s p to = up1 (pullA A s p to) 4 x := by
  have hm := hB.2.2.2.2.2.1 (13 + s) (by omega) (by omega)
  have hb := hB.2.2.2.2.2.2 (16 + 10 * s + p) (by omega) (by omega)
  unfold pullA
  rw [up1_ne (show ¬ 16 + 10 * s + p = 4 by omega), up1_ne (show ¬ 13 + s = 4 by omega), up1_cm (i := 4) (by omega), up1_cm (i := 4) (by omega)]
  generalize up1 (up1 A (46 + 6 * A (16 + 10 * s + p) + 5) to) (13 + s) (A (13 + s) - 1) = F
  funext i
  unfold shl
  by_cases e : i = 4
  · rw [e, up1_eq, if_neg (by omega), up1_eq]
  · by_cases h : 16 + 10 * s + p ≤ i ∧ i < 16 + 10 * s + (A (13 + s) - 1)
    · rw [if_pos h, up1_ne (show ¬ i + 1 = 4 by omega), up1_ne e, if_pos h]
    · rw [if_neg h, up1_ne e, up1_ne e, if_neg h]
theorem L_set {b s p : Int} (hs : 0 ≤ s ∧ s < 3) (hp : 0 ≤ p) (hb : 0 ≤ b) : setA (up1 A 4 x) b s p = up1 (setA A b s p) 4 x := by
  unfold setA
  rw [up1_ne (show ¬ 13 + s = 4 by omega)]
  have e : shr (up1 A 4 x) (16 + 10 * s + p) (16 + 10 * s + A (13 + s)) = up1 (shr A (16 + 10 * s + p) (16 + 10 * s + A (13 + s))) 4 x := by
    funext i
    unfold shr
    by_cases e : i = 4
    · rw [e, up1_eq, if_neg (by omega), up1_eq]
    · by_cases h : 16 + 10 * s + p < i ∧ i ≤ 16 + 10 * s + A (13 + s)
      · rw [if_pos h, up1_ne (show ¬ i - 1 = 4 by omega), up1_ne e, if_pos h]
      · rw [if_neg h, up1_ne e, up1_ne e, if_neg h]
  rw [e, up1_cm (i := 4) (by omega), up1_cm (i := 4) (by omega), up1_cm (i := 4) (by omega)]
theorem L_nmO {N : Int → Int} {b : Int} (hb : 0 ≤ b) : nmO N (up1 A 4 x) b = nmO N A b := by
  unfold nmO
  rw [up1_ne (show ¬ 46 + 6 * b + 0 = 4 by omega), up1_ne (show ¬ 46 + 6 * b + 1 = 4 by omega), up1_ne (show ¬ 46 + 6 * b + 2 = 4 by omega), up1_ne (show ¬ 46 + 6 * b + 3 = 4 by omega), up1_ne (show ¬ (2 : Int) = 4 by omega)]
theorem L_clA {so la : Int} : clA (up1 A 4 x) X so la = clA A X so la := clA_6 (up1_ne (by omega))
theorem L_thA {b : Int} (hb : 0 ≤ b) : thA (up1 A 4 x) X b = thA A X b := by
  unfold thA
  rw [L_clA, L_nmO hb, up1_ne (show ¬ 46 + 6 * b + 2 = 4 by omega), up1_ne (show ¬ (2 : Int) = 4 by omega), up1_ne (show ¬ (6 : Int) = 4 by omega)]
theorem L_fuF {s : Int} (hB : TB A) (hs : 0 ≤ s ∧ s < 3) : ∀ n : Nat, n ≤ 10 → fuF (up1 A 4 x) X s n = fuF A X s n
  | 0, _ => rfl
  | n + 1, h => by
    unfold fuF
    have hb := hB.2.2.2.2.2.2 (16 + 10 * s + n) (by omega) (by omega)
    rw [L_fuF hB hs n (by omega), up1_ne (by omega), L_thA hb.1]
theorem L_fuA {s : Int} (hB : TB A) (hs : 0 ≤ s ∧ s < 3) : fuA (up1 A 4 x) X s = fuA A X s := by
  have hm := hB.2.2.2.2.2.1 (13 + s) (by omega) (by omega)
  unfold fuA
  rw [up1_ne (by omega)]
  exact L_fuF hB hs _ (by omega)
theorem L_flA {k s p m b : Int} (hb : 0 ≤ b) : flA (up1 A 4 x) X k s p m b = flA A X k s p m b := by
  unfold flA nmF
  rw [L_nmO hb, up1_ne (show ¬ (6 : Int) = 4 by omega)]
end L4
theorem TB.n4 {A : Int → Int} {x : Int} (h : TB A) : TB (up1 A 4 x) :=
  h.of (up1_ne (by omega)) (up1_ne (by omega)) (up1_ne (by omega)) (up1_ne (by omega)) (up1_ne (by omega)) (fun i h1 h2 => by rw [up1_ne (by omega)]; exact h.2.2.2.2.2.1 i h1 h2) (fun i h1 h2 => by rw [up1_ne (by omega)]; exact h.2.2.2.2.2.2 i h1 h2)
theorem L_ffL {X : Int → Int} {k s m x : Int} (hs : 0 ≤ s ∧ s < 3) (hm : 0 ≤ m ∧ m ≤ 10) : ∀ (n : Nat) (p gn : Int) (A : Int → Int), TB A → 0 ≤ gn → gn ≤ p → p + n = m → A (13 + s) = m - gn → ffL X k s m n p gn (up1 A 4 x) = (up1 (ffL X k s m n p gn A).1 4 x, (ffL X k s m n p gn A).2)
  | 0, p, gn, A, hB, h0, h1, h2, h3 => rfl
  | n + 1, p, gn, A, hB, h0, h1, h2, h3 => by
    unfold ffL
    have q : 0 ≤ p - gn ∧ p - gn < A (13 + s) := by omega
    have hb := hB.2.2.2.2.2.2 (16 + 10 * s + (p - gn)) (by omega) (by omega)
    rw [up1_ne (show ¬ 16 + 10 * s + (p - gn) = 4 by omega), L_flA hb.1]
    split
    · exact L_ffL hs hm n (p + 1) gn A hB h0 (by omega) (by omega) h3
    · rw [L_pull hB hs q]
      exact L_ffL hs hm n (p + 1) (gn + 1) (pullA A s (p - gn) 4) (hB.pull hs q (by omega)) (by omega) (by omega) (by omega) (by rw [pullA_m hB hs q]; omega)
theorem L_ffW {X : Int → Int} {s x : Int} (hs : 0 ≤ s ∧ s < 3) : ∀ (n : Nat) (gn : Int) (A : Int → Int), TB A → A (13 + s) = n → ffW X s n gn (up1 A 4 x) = (up1 (ffW X s n gn A).1 4 x, (ffW X s n gn A).2)
  | 0, gn, A, hB, h => rfl
  | n + 1, gn, A, hB, h => by
    have hm := hB.2.2.2.2.2.1 (13 + s) (by omega) (by omega)
    unfold ffW
    rw [L_fuA hB hs, up1_ne (show ¬ 10 + s = 4 by omega), up1_ne (show ¬ 13 + s = 4 by omega)]
    split
    · rfl
    · have q : 0 ≤ A (13 + s) - 1 ∧ A (13 + s) - 1 < A (13 + s) := by omega
      rw [L_pull hB hs q]
      exact L_ffW hs n (gn + 1) (pullA A s (A (13 + s) - 1) 4) (hB.pull hs q (by omega)) (by rw [pullA_m hB hs q]; omega)
theorem L_ffA {A X : Int → Int} {s x : Int} (hB : TB A) (hs : 0 ≤ s ∧ s < 3) : ffA (up1 A 4 x) X s = (up1 (ffA A X s).1 4 x, (ffA A X s).2) := by
  have hm := hB.2.2.2.2.2.1 (13 + s) (by omega) (by omega)
  have o := ff1_ok (X := X) hB hs
  have e1 : ff1 (up1 A 4 x) X s = (up1 (ff1 A X s).1 4 x, (ff1 A X s).2) := by
    unfold ff1
    rw [L_clA, up1_ne (show ¬ 13 + s = 4 by omega)]
    split
    · rfl
    · exact L_ffL hs hm _ 0 0 A hB (by omega) (by omega) (by omega) (by omega)
  unfold ffA
  rw [e1]
  dsimp only
  rw [up1_ne (show ¬ 13 + s = 4 by omega)]
  exact L_ffW hs _ _ _ o.1 (by omega)
theorem L_fall {A X : Int → Int} {x : Int} (hB : TB A) : (fallA (up1 A 4 x) X).1 = up1 (fallA A X).1 4 x := by
  have h0 := ffA_ok (X := X) (s := 0) hB (by omega)
  have h1 := ffA_ok (X := X) (s := 1) h0.1 (by omega)
  show (ffA (ffA (ffA (up1 A 4 x) X 0).1 X 1).1 X 2).1 = up1 (ffA (ffA (ffA A X 0).1 X 1).1 X 2).1 4 x
  rw [L_ffA hB (by omega)]
  dsimp only
  rw [L_ffA h0.1 (by omega)]
  dsimp only
  rw [L_ffA h1.1 (by omega)]
theorem L_plF {A : Int → Int} {s b x : Int} (hs : 0 ≤ s) : ∀ (n : Nat) (p : Int), 0 ≤ p → plF (up1 A 4 x) s b n p = plF A s b n p
  | 0, _, _ => rfl
  | n + 1, p, hp => by
    unfold plF
    rw [up1_ne (by omega), L_plF hs n (p + 1) (by omega)]
/-- the class's year against the reference's -/
theorem yc_L {X : Int → Int} : ∀ (n : Nat) (A : Int → Int) (f x c : Int), TI A → 0 < A 0 → (0 ≤ x ∧ x < 50000) → ycL X n (up1 A 4 x) c = (up1 (yrL X n A f x c).1 4 (yrL X n A f x c).2.2.1, (yrL X n A f x c).2.2.2)
  | 0, A, f, x, c, _, _, _ => rfl
  | n + 1, A, f, x, c, hI, h0, hx => by
    have hB := hI.1.1
    have a0 := hB.1
    have hb : 0 ≤ x % A 0 ∧ x % A 0 < A 0 := ⟨Int.emod_nonneg _ (by omega), Int.emod_lt_of_pos _ h0⟩
    have y1 := yrA_TI (x := x) (n := c) hI h0 hx.1
    have y2 := yr2_TI (X := X) (f := f) (x := (yrA A x c).2.1) y1.1
    have e1 : yc1 (up1 A 4 x) c = (up1 (yrA A x c).1 4 (yrA A x c).2.1, (yrA A x c).2.2) := by
      unfold yc1 yrA yr1
      rw [up1_eq, up1_ne (show ¬ (0 : Int) = 4 by omega), up1_ne (show ¬ 46 + 6 * (x % A 0) + 5 = 4 by omega)]
      have wb := hB.2.2.2.2.2.2 (46 + 6 * (x % A 0) + 5) (by omega) (by omega)
      rw [up1_ne (show ¬ 13 + A (46 + 6 * (x % A 0) + 5) = 4 by omega)]
      have ep : plA (up1 A 4 x) (x % A 0) = plA A (x % A 0) := by
        unfold plA
        rw [up1_ne (show ¬ 46 + 6 * (x % A 0) + 5 = 4 by omega)]
        exact L_plF wb.1 10 0 (by omega)
      rw [ep]
      by_cases h : A (46 + 6 * (x % A 0) + 5) < 3 ∧ 1 < A (13 + A (46 + 6 * (x % A 0) + 5))
      · rw [if_pos h, if_pos h]
        have pl := plA_ok hB hI.2.1 hb h.1
        have ht : 0 ≤ anw x % A (13 + A (46 + 6 * (x % A 0) + 5)) := Int.emod_nonneg _ (by omega)
        dsimp only
        rw [up1_same, up1_same, L_pull hB pl.1 pl.2.1, L_set pl.1 ht hb.1]
      · rw [if_neg h, if_neg h, up1_same]
    have e2 : ∀ (C : Int → Int) (z : Int), TB C → yc2 X (up1 C 4 z) = up1 (yr2 C X f z).1 4 (anw z) := by
      intro C z hC
      unfold yc2 yr2
      rw [up1_eq, up1_ne (show ¬ (2 : Int) = 4 by omega), up1_same]
      have b2 := hC.2.1
      by_cases h : z % 10 < 3
      · rw [if_pos h, if_pos h]
        have cm : up1 (up1 C 4 (anw z)) 2 (1 - C 2) = up1 (up1 C 2 (1 - C 2)) 4 (anw z) := up1_cm (by omega)
        have hT2 : TB (up1 C 2 (1 - C 2)) := by
          obtain ⟨b1, b2, b3, b4, b5, b6, b7⟩ := hC
          exact ⟨by rw [up1_ne (by omega)]; exact b1, by rw [up1_eq]; omega, by rw [up1_ne (by omega)]; exact b3, by rw [up1_ne (by omega)]; exact b4, by rw [up1_ne (by omega), up1_ne (by omega)]; exact b5, fun j j0 j1 => by rw [up1_ne (by omega)]; exact b6 j j0 j1, fun j j0 j1 => by rw [up1_ne (by omega)]; exact b7 j j0 j1⟩
        rw [cm]
        by_cases h2 : 1 - C 2 = 1
        · rw [if_pos h2, if_pos h2]
          exact L_fall hT2
        · rw [if_neg h2, if_neg h2]
      · rw [if_neg h, if_neg h]
    unfold ycL yrL
    rw [e1]
    dsimp only
    rw [e2 _ _ y1.1.1.1]
    have n0 : 0 < (yr2 (yrA A x c).1 X f (yrA A x c).2.1).1 0 := by
      rw [y2.2.1 0 (by omega) (by omega), y1.2.1 0 (by omega)]
      exact h0
    have ab := anw_bd (x := (yrA A x c).2.1)
    exact yc_L n _ _ _ _ y2.1 n0 ⟨ab.1, by omega⟩
section XG
variable {g : jjG} {d : Nat} {T : jjT} {Q : jjQ} {X : Int → Int}
theorem xw_year {A : Int → Int} {se n f : Int} {v : Int → Int → Int} (hT : PT T) (hV : PV v) (hC : CI (v, T) A X) (hK : TK A) (hQ : ∀ w, CI (w, T) (opYear A X f se n).1 X → jkM v w → Q (.inl (some (vI (opYear A X f se n).2.2))) (w, T)) : jmet g (d + 116) 0 0 MX0_year [vR 400, vI se, vI n] (v, T) Q := by
  obtain ⟨hI, hS, hW⟩ := hK
  have hTN := hI.1
  have h7 := hTN.2.2.1
  have hB := hTN.1
  have h0 := hB.1
  unfold opYear at hQ
  have no : ¬ ((0 ≤ se ∧ se ≤ 9999) ∧ (1 ≤ n ∧ n ≤ 40) ∧ ¬ A 0 = 0) → jW bX0_year (g, d + 115, 0, 0, Q) 1 [some (vR 400), some (vI se), some (vI n), none, none, none, none, none, none] [] (v, T) 0 0 := by
    intro hh
    rw [if_neg hh] at hQ
    refine jW_step ?_
    simp (disch := (first | decide | omega)) only [bX0_year, jxs, hps, jtsw, jlsw, List.length_cons, List.length_nil, true_and, and_true, true_implies, false_implies, implies_true, not_true_eq_false, not_false_eq_true, false_and, and_false, if_true, if_false, or_true, true_or, or_false, false_or, Classical.not_not, and_self, Int.reduceAdd, Int.reduceMul, Int.reduceSub, Int.reduceNeg, Int.reduceLT, Int.reduceLE, Int.reduceEq, Int.reduceNe, Int.reduceToNat, Nat.reduceAdd, Nat.reduceMul, Nat.reduceSub, Nat.reduceLeDiff, Nat.reduceLT, Nat.reduceEqDiff, reduceIte, Nat.zero_le, Nat.le_refl, Nat.add_zero, Nat.zero_add, xwT hT, xwV hV]
    (repeat (refine And.intro (by (first | omega | assumption | trivial | (simp only [inI]; omega) | (simp only [inL]; omega) | (refine jb_01) | (exact jb_in))) ?_))
    exact hQ v hC (jkM.rf hV)
  refine jmet_of (ls := [some (vR 400), some (vI se), some (vI n), none, none, none, none, none, none]) sX0_year rfl (by decide +kernel) (by decide) rfl (by simp [jent]) ?_
  refine jW_step ?_
  simp (disch := (first | decide | omega)) only [bX0_year, jxs, hps, jtsw, jlsw, List.length_cons, List.length_nil, true_and, and_true, true_implies, false_implies, implies_true, not_true_eq_false, not_false_eq_true, false_and, and_false, if_true, if_false, or_true, true_or, or_false, false_or, Classical.not_not, and_self, Int.reduceAdd, Int.reduceMul, Int.reduceSub, Int.reduceNeg, Int.reduceLT, Int.reduceLE, Int.reduceEq, Int.reduceNe, Int.reduceToNat, Nat.reduceAdd, Nat.reduceMul, Nat.reduceSub, Nat.reduceLeDiff, Nat.reduceLT, Nat.reduceEqDiff, reduceIte, Nat.zero_le, Nat.le_refl, Nat.add_zero, Nat.zero_add, xwT hT, xwV hV]
  refine ⟨0, 0, ⟨by omega, by omega⟩, xw_in ?_⟩
  simp (disch := (first | decide | omega)) only [jxs, hps, jtsw, jlsw, List.length_cons, List.length_nil, true_and, and_true, true_implies, false_implies, implies_true, not_true_eq_false, not_false_eq_true, false_and, and_false, if_true, if_false, or_true, true_or, or_false, false_or, Classical.not_not, and_self, Int.reduceAdd, Int.reduceMul, Int.reduceSub, Int.reduceNeg, Int.reduceLT, Int.reduceLE, Int.reduceEq, Int.reduceNe, Int.reduceToNat, Nat.reduceAdd, Nat.reduceMul, Nat.reduceSub, Nat.reduceLeDiff, Nat.reduceLT, Nat.reduceEqDiff, reduceIte, Nat.zero_le, Nat.le_refl, Nat.add_zero, Nat.zero_add, xwT hT, xwV hV]
  refine ⟨fun h => ?_, fun h => ?_⟩
  · exact no (fun x => h x.1)
  refine ⟨0, 0, ⟨by omega, by omega⟩, xw_in ?_⟩
  simp (disch := (first | decide | omega)) only [jxs, hps, jtsw, jlsw, List.length_cons, List.length_nil, true_and, and_true, true_implies, false_implies, implies_true, not_true_eq_false, not_false_eq_true, false_and, and_false, if_true, if_false, or_true, true_or, or_false, false_or, Classical.not_not, and_self, Int.reduceAdd, Int.reduceMul, Int.reduceSub, Int.reduceNeg, Int.reduceLT, Int.reduceLE, Int.reduceEq, Int.reduceNe, Int.reduceToNat, Nat.reduceAdd, Nat.reduceMul, Nat.reduceSub, Nat.reduceLeDiff, Nat.reduceLT, Nat.reduceEqDiff, reduceIte, Nat.zero_le, Nat.le_refl, Nat.add_zero, Nat.zero_add, xwT hT, xwV hV, hC.n0]
  refine ⟨fun h2 => ?_, fun h2 => ?_⟩
  · exact no (fun x => h2 x.2.1)
  (repeat (refine And.intro (by (first | omega | assumption | trivial | (simp only [inI]; omega) | (simp only [inL]; omega) | (refine jb_01) | (exact jb_in))) ?_))
  refine ⟨fun h3 => ?_, fun h3 => ?_⟩
  · rw [if_pos ⟨h, h2, h3⟩] at hQ
    refine ⟨0, 0, ⟨by omega, by omega⟩, xw_keeps hT hV hC hS ?_⟩
    intro w hCw jw w4
    have hVw := jw.pv hV
    have jM := jw.M hV
    have hKI := keepA_TI hI
    have k0 : keepA A 0 = A 0 := keepA_lo h7 (by omega) (by omega)
    have ci := hCw.num (i := 4) (k := 45) (z := se * 4 + 31) (by omega) (fun h => by omega)
    have ju := (jkR.up (v := w) (f := up1 (w 404) 45 (se * 4 + 31))).M hVw
    have ys : YS (up1 (keepA A) 4 (se * 4 + 31)) := ⟨hKI.2.1.ext (up1_ne (by omega)) (fun j j0 j1 => up1_ne (by omega)) hCw.tb, fun j j0 j1 => by rw [up1_ne (by omega)]; exact hKI.1.2.1 j j0 j1, by rw [up1_eq]; omega⟩
    have yl := yc_L (X := X) n.toNat (keepA A) f (se * 4 + 31) 0 hKI (by rw [k0]; omega) (by omega)
    have hV0 := hV
    have hV := hVw
    simp (disch := (first | decide | omega)) only [jxs, hps, jtsw, jlsw, List.length_cons, List.length_nil, true_and, and_true, true_implies, false_implies, implies_true, not_true_eq_false, not_false_eq_true, false_and, and_false, if_true, if_false, or_true, true_or, or_false, false_or, Classical.not_not, and_self, Int.reduceAdd, Int.reduceMul, Int.reduceSub, Int.reduceNeg, Int.reduceLT, Int.reduceLE, Int.reduceEq, Int.reduceNe, Int.reduceToNat, Nat.reduceAdd, Nat.reduceMul, Nat.reduceSub, Nat.reduceLeDiff, Nat.reduceLT, Nat.reduceEqDiff, reduceIte, Nat.zero_le, Nat.le_refl, Nat.add_zero, Nat.zero_add, xwT hT, xwV hV]
    (repeat (refine And.intro (by (first | omega | assumption | trivial | (simp only [inI]; omega) | (simp only [inL]; omega) | (refine jb_01) | (exact jb_in))) ?_))
    refine xw_yr_2 (X := X) hT h2.2 n.toNat 0 0 (up1 (keepA A) 4 (se * 4 + 31)) _ ju.pv ci ys (by rw [up1_ne (by omega), k0]; omega) (by omega) (by omega) (by omega) ?_
    rw [yl]
    intro y y1 y2
    exact hQ y y1 ((jM.tr ju).tr y2)
  · exact no (fun x => x.2.2 (by omega))
end XG
