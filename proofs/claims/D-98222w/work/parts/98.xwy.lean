/-! ===== the class: a shelf's night ===== -/
-- MODE X
set_option maxRecDepth 100000
theorem nitL_hi {c : Int → Int} {m : Int} : ∀ (n : Nat) (p : Int) (f : Int → Int) (q : Int), m ≤ q → nitL c m n p f q = f q
  | 0, _, _, _, _ => rfl
  | n + 1, p, f, q, h => by
    unfold nitL
    by_cases h2 : m ≤ p + 1
    · rw [if_pos h2]
    · rw [if_neg h2, nitL_hi n (p + 2) _ q h]
      split
      · rfl
      · unfold swp
        rw [up1_ne (by omega), up1_ne (by omega)]
theorem ncL_cg {N m : Int} {c c' : Int → Int} (hc : TAG N c c') : ∀ (n : Nat) (p : Int) (f f' : Int → Int), EQm m f f' → RN f m N → 0 ≤ p → ncL c m n p f = ncL c' m n p f'
  | 0, _, _, _, _, _, _ => rfl
  | n + 1, p, f, f', hf, hr, hp => by
    unfold ncL
    by_cases h : m ≤ p + 1
    · rw [if_pos h, if_pos h]
    · have a := hr p hp (by omega)
      have b := hr (p + 1) (by omega) (by omega)
      rw [if_neg h, if_neg h, ← hf p hp (by omega), ← hf (p + 1) (by omega) (by omega), hc _ _ a.1 a.2 b.1 b.2]
      rw [ncL_cg hc n (p + 2) f f' hf hr (by omega), ncL_cg hc n (p + 2) (swp f p) (swp f' p) (swp_cg hf ⟨hp, by omega⟩) (hr.sw ⟨hp, by omega⟩) (by omega)]
theorem tbl_ag {A B X : Int → Int} (h0 : A 0 ≤ 10) (h : AGR A B) : TAG (A 0) (tbl B X) (tbl A X) := by
  intro x y x0 x1 y0 y1
  rw [tbl_at (by omega), tbl_at (by omega)]
  unfold cgA
  rw [dcA_ag h (by omega) (by omega)]
section XG
variable {g : jjG} {d : Nat} {T : jjT} {Q : jjQ} {X : Int → Int}
theorem xw_nc_s {A : Int → Int} {s od cnt c : Int} {v : Int → Int → Int} (hT : PT T) (hV : PV v) (hC : CI (v, T) A X) (hs : 0 ≤ s ∧ s < 3) (ho : 0 ≤ od ∧ od ≤ 1) (hN : NS A c) (hc : c ≤ 400) (hB : CHB (v 523) A X) (hcn : 0 ≤ cnt ∧ cnt ≤ 100)
    (hQ : ∀ w, CI (w, T) (chL X s 6 od cnt A).1 X → NS (chL X s 6 od cnt A).1 (c + 12) → AGR A (chL X s 6 od cnt A).1 → (chL X s 6 od cnt A).1 0 = A 0 → jkM v w → w 523 = v 523 → jW bX0_nightComes (g, d + 113, 0, 0, Q) 1 [some (vR 400), some (vI od), some (vI (chL X s 6 od cnt A).2), some (vI (s + 1))] [] (w, T) 0 0) :
    jW bX0_nightComes (g, d + 113, 0, 0, Q) 1 [some (vR 400), some (vI od), some (vI cnt), some (vI s)] [] (v, T) 0 0 := by
  have hTB := hC.tb
  have h0 := hTB.1
  have h7 := hC.2.2.2.2.2.1
  have hm := hTB.2.2.2.2.2.1 (13 + s) (by omega) (by omega)
  have hH := hN.1
  have two := chL_two (X := X) hs 6 od cnt A hTB hH hN.2.2.1 ho.1 (by omega)
  have okL := chL_ok (X := X) hs 6 od cnt A hTB hN.2.2.1 ho.1
  have shL := chL_SH (X := X) hs 6 od cnt A hH hTB hN.2.2.1 ho.1
  generalize chL X s 6 od cnt A = C at *
  refine jW_step ?_
  simp (disch := (first | decide | omega)) only [bX0_nightComes, jxs, hps, jtsw, jlsw, List.length_cons, List.length_nil, true_and, and_true, true_implies, false_implies, implies_true, not_true_eq_false, not_false_eq_true, false_and, and_false, if_true, if_false, or_true, true_or, or_false, false_or, Classical.not_not, and_self, Int.reduceAdd, Int.reduceMul, Int.reduceSub, Int.reduceNeg, Int.reduceLT, Int.reduceLE, Int.reduceEq, Int.reduceNe, Int.reduceToNat, Nat.reduceAdd, Nat.reduceMul, Nat.reduceSub, Nat.reduceLeDiff, Nat.reduceLT, Nat.reduceEqDiff, reduceIte, Nat.zero_le, Nat.le_refl, Nat.add_zero, Nat.zero_add, xwT hT, xwV hV]
  (first | refine ⟨fun h9 => (by exfalso; omega), fun _ => ?_⟩ | intro _)
  refine ⟨0, 0, ⟨by omega, by omega⟩, xw_writesPushes hT hV hC hs ho hN hc hB ?_⟩
  intro w hCw hNw agw low jw ew
  generalize wpL X s 6 od A = W at *
  have hVw := jw.pv
  have hBw := hB.ag h0.2 agw (low 0 (by omega) (by omega))
  have wm : W (13 + s) = A (13 + s) := low _ (by omega) (by omega)
  have w0 : W 0 = A 0 := low 0 (by omega) (by omega)
  have hrow : EQm (A (13 + s)) (fun i => w 404 (11 * s + 1 + i)) (fun q => A (16 + 10 * s + q)) := by
    intro i i0 i1
    show w 404 (11 * s + 1 + i) = A (16 + 10 * s + i)
    rw [hCw.p hs (p := i) (by rw [wm]; exact ⟨i0, i1⟩)]
    exact low _ (by omega) (by omega)
  have hrn : RN (fun i => w 404 (11 * s + 1 + i)) (A (13 + s)) (A 0) := by
    intro i i0 i1
    rw [hrow i i0 i1]
    exact ⟨(hTB.2.2.2.2.2.2 (16 + 10 * s + i) (by omega) (by omega)).1, (hH.1 s i hs.1 hs.2 i0 i1).1⟩
  have tg := tbl_ag (X := X) h0.2 agw
  have nq := nitL_cg tg 6 od _ _ hrow hrn ho.1
  have ncq := ncL_cg tg 6 od _ _ hrow hrn ho.1
  have ncb := ncL_bd (ch := tbl W X) (m := A (13 + s)) 6 od (fun i => w 404 (11 * s + 1 + i))
  -- the row behind the night
  have hf : RW (fun j => nitR (tbl W X) (A (13 + s)) od (fun i => w 404 (11 * s + 1 + i)) (j - (11 * s + 1))) C.1 := by
    have r := hCw.r
    rw [RW_d] at r ⊢
    obtain ⟨q1, q2, q3, q4, q5, q6, q7, q8⟩ := r
    have co : ∀ i, ¬ (16 + 10 * s ≤ i ∧ i < 26 + 10 * s) → C.1 i = W i := two.2.1
    have out : ∀ j, (j < 11 * s + 1 ∨ 11 * s + 1 + A (13 + s) ≤ j) → nitR (tbl W X) (A (13 + s)) od (fun i => w 404 (11 * s + 1 + i)) (j - (11 * s + 1)) = w 404 j := by
      intro j hj
      unfold nitR
      rcases hj with hj | hj
      · rw [nitL_lo 6 od _ _ (by omega)]
        show w 404 (11 * s + 1 + (j - (11 * s + 1))) = w 404 j
        congr 1
        omega
      · rw [nitL_hi 6 od _ _ (by omega)]
        show w 404 (11 * s + 1 + (j - (11 * s + 1))) = w 404 j
        congr 1
        omega
    rw [co 0 (by omega), co 2 (by omega), co 1 (by omega), co 4 (by omega), co 9 (by omega)]
    refine ⟨fun t t0 t1 => ?_, fun t q t0 t1 r0 r1 => ?_, fun b b0 b1 => ?_, ?_, ?_, ?_, ?_, fun i x i0 i1 x0 x1 => ?_⟩
    · rw [out _ (by omega), co _ (by omega)]
      exact q1 t t0 t1
    · rw [co _ (by omega)] at r1
      by_cases e : t = s
      · subst e
        rw [wm] at r1
        rw [show 11 * t + 1 + q - (11 * t + 1) = q by omega, two.2.2 q r0 r1]
        exact nq.1 q r0 r1
      · have mt := hCw.tb.2.2.2.2.2.1 (13 + t) (by omega) (by omega)
        rw [out _ (by omega), co _ (by omega)]
        exact q2 t q t0 t1 r0 r1
    · rw [out _ (by omega), co _ (by omega)]
      exact q3 b b0 b1
    · rw [out _ (by omega)]; exact q4
    · rw [out _ (by omega)]; exact q5
    · rw [out _ (by omega)]; exact q6
    · rw [out _ (by omega)]; exact q7
    · have a := q8 i x i0 i1 x0 x1
      rw [out _ (by omega), co _ (by omega)]
      exact a
  have ci : CI (upA w 404 (fun j => nitR (tbl W X) (A (13 + s)) od (fun i => w 404 (11 * s + 1 + i)) (j - (11 * s + 1))), T) C.1 X :=
    hCw.rowG hf (fun i hi _ _ _ _ => two.2.1 i (by omega)) (fun k f k0 k1 q => q.fr k0 (fun i hi => two.2.1 i (by omega))) (fun b x b0 b1 x0 x1 => two.2.1 _ (by omega)) okL.1
  have ns : NS C.1 (c + 12) := by
    refine ⟨shL.1, fun k k0 k1 t t0 t1 => ?_, ?_, fun k k0 k1 => ?_⟩
    · rw [two.2.1 7 (by omega)] at k1
      rw [low 7 (by omega) (by omega)] at k1
      rw [two.2.1 _ (by omega)]
      have := hNw.2.1 k k0 (by rw [low 7 (by omega) (by omega)]; exact k1) t t0 t1
      exact this
    · rw [two.2.1 9 (by omega)]; exact hNw.2.2.1
    · rw [two.2.1 7 (by omega)] at k1
      rw [two.2.1 9 (by omega), two.2.1 _ (by omega)]
      exact hNw.2.2.2 k k0 k1
  have ag : AGR A C.1 := fun i hi => (two.2.1 i (by omega)).trans (agw i hi)
  have hV := hVw
  simp (disch := (first | decide | omega)) only [jxs, hps, jtsw, jlsw, List.length_cons, List.length_nil, true_and, and_true, true_implies, false_implies, implies_true, not_true_eq_false, not_false_eq_true, false_and, and_false, if_true, if_false, or_true, true_or, or_false, false_or, Classical.not_not, and_self, Int.reduceAdd, Int.reduceMul, Int.reduceSub, Int.reduceNeg, Int.reduceLT, Int.reduceLE, Int.reduceEq, Int.reduceNe, Int.reduceToNat, Nat.reduceAdd, Nat.reduceMul, Nat.reduceSub, Nat.reduceLeDiff, Nat.reduceLT, Nat.reduceEqDiff, reduceIte, Nat.zero_le, Nat.le_refl, Nat.add_zero, Nat.zero_add, xwT hT, xwV hV]
  (repeat (refine And.intro (by (first | omega | assumption | trivial | (simp only [inI]; omega) | (simp only [inL]; omega) | (refine jb_01) | (exact jb_in))) ?_))
  refine ⟨0, 0, ⟨by omega, by omega⟩, xw_many hT hVw hCw hs ?_⟩
  rw [wm]
  simp (disch := (first | decide | omega)) only [jxs, hps, jtsw, jlsw, List.length_cons, List.length_nil, true_and, and_true, true_implies, false_implies, implies_true, not_true_eq_false, not_false_eq_true, false_and, and_false, if_true, if_false, or_true, true_or, or_false, false_or, Classical.not_not, and_self, Int.reduceAdd, Int.reduceMul, Int.reduceSub, Int.reduceNeg, Int.reduceLT, Int.reduceLE, Int.reduceEq, Int.reduceNe, Int.reduceToNat, Nat.reduceAdd, Nat.reduceMul, Nat.reduceSub, Nat.reduceLeDiff, Nat.reduceLT, Nat.reduceEqDiff, reduceIte, Nat.zero_le, Nat.le_refl, Nat.add_zero, Nat.zero_add, xwT hT, xwV hV]
  refine ⟨0, 0, ⟨by omega, by omega⟩, xw_nightOn (A := W) (X := X) hT hVw (by rw [w0]; exact h0) ⟨pt_404 hT, by omega, by rw [pl_404 hT]; omega, by decide, by omega⟩ hm (by rw [ew]; exact hBw) (by rw [w0]; exact hrn) ho ?_⟩
  have hVu : PV (upA w 404 (fun j => nitR (tbl W X) (A (13 + s)) od (fun i => w 404 (11 * s + 1 + i)) (j - (11 * s + 1)))) := hVw.A (by decide)
  have ju : jkM w (upA w 404 (fun j => nitR (tbl W X) (A (13 + s)) od (fun i => w 404 (11 * s + 1 + i)) (j - (11 * s + 1)))) := (jkR.up).M hVw
  have eu : (upA w 404 (fun j => nitR (tbl W X) (A (13 + s)) od (fun i => w 404 (11 * s + 1 + i)) (j - (11 * s + 1)))) 523 = w 523 := upA_ne (by omega)
  generalize upA w 404 (fun j => nitR (tbl W X) (A (13 + s)) od (fun i => w 404 (11 * s + 1 + i)) (j - (11 * s + 1))) = u at *
  rw [ncq] at ncb ⊢
  have hV := hVu
  simp (disch := (first | decide | omega)) only [jxs, hps, jtsw, jlsw, List.length_cons, List.length_nil, true_and, and_true, true_implies, false_implies, implies_true, not_true_eq_false, not_false_eq_true, false_and, and_false, if_true, if_false, or_true, true_or, or_false, false_or, Classical.not_not, and_self, Int.reduceAdd, Int.reduceMul, Int.reduceSub, Int.reduceNeg, Int.reduceLT, Int.reduceLE, Int.reduceEq, Int.reduceNe, Int.reduceToNat, Nat.reduceAdd, Nat.reduceMul, Nat.reduceSub, Nat.reduceLeDiff, Nat.reduceLT, Nat.reduceEqDiff, reduceIte, Nat.zero_le, Nat.le_refl, Nat.add_zero, Nat.zero_add, xwT hT, xwV hV]
  (repeat (refine And.intro (by (first | omega | assumption | trivial | (simp only [inI]; omega) | (simp only [inL]; omega) | (refine jb_01) | (exact jb_in))) ?_))
  rw [← two.1]
  exact hQ u ci ns ag ((two.2.1 0 (by omega)).trans w0) (jw.tr ju) (eu.trans ew)
end XG
