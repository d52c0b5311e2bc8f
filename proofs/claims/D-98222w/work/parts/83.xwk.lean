/-! ===== the class: who would change; nights on rows ===== -/
-- MODE X
set_option maxRecDepth 100000
/-- how many twos change in a night -/
def ncL (ch : Int → Int) (m : Int) : Nat → Int → (Int → Int) → Int
  | 0, _, _ => 0
  | n + 1, p, f => if m ≤ p + 1 then 0 else if ch (10 * f p + f (p + 1)) = 0 then ncL ch m n (p + 2) f else 1 + ncL ch m n (p + 2) (swp f p)
theorem ncL_bd {ch : Int → Int} {m : Int} : ∀ (n : Nat) (p : Int) (f : Int → Int), 0 ≤ ncL ch m n p f ∧ ncL ch m n p f ≤ n
  | 0, _, _ => by unfold ncL; omega
  | n + 1, p, f => by
    have a := ncL_bd (ch := ch) (m := m) n (p + 2) f
    have b := ncL_bd (ch := ch) (m := m) n (p + 2) (swp f p)
    unfold ncL
    split
    · omega
    · split <;> omega
theorem tbl_at {A X : Int → Int} {x y : Int} (h : 0 ≤ y ∧ y < 10) : tbl A X (10 * x + y) = cgA A X x y := by
  unfold tbl
  rw [show (10 * x + y) / 10 = x by omega, show (10 * x + y) % 10 = y by omega]
section XG
variable {g : jjG} {d : Nat} {T : jjT} {Q : jjQ} {A X : Int → Int}
theorem xw_lc_2 (hT : PT T) : ∀ (r : Nat) (a : Int) (v : Int → Int → Int), PV v → CI (v, T) A X → 0 ≤ a → a + r = A 0 → (∀ x, 0 ≤ x → x < a → v 523 x = gat (gch A X x) (A 0).toNat) →
    (∀ w, jkz v w → CHB (w 523) A X → Q (.inl none) (w, T)) →
    jW bX0_laysChange (g, d + 112, 0, 0, Q) 2 [some (vR 400), some (vI (needA A X)), some (vI a), none, none] [] (v, T) 0 0 := by
  intro r
  induction r with
  | zero =>
    intro a v hV hC ha hr hg hQ
    have h0 := hC.tb.1
    refine jW_step ?_
    simp (disch := (first | decide | omega)) only [bX0_laysChange, jxs, hps, jtsw, jlsw, List.length_cons, List.length_nil, true_and, and_true, true_implies, false_implies, implies_true, not_true_eq_false, not_false_eq_true, false_and, and_false, if_true, if_false, or_true, true_or, or_false, false_or, Classical.not_not, and_self, Int.reduceAdd, Int.reduceMul, Int.reduceSub, Int.reduceNeg, Int.reduceLT, Int.reduceLE, Int.reduceEq, Int.reduceNe, Int.reduceToNat, Nat.reduceAdd, Nat.reduceMul, Nat.reduceSub, Nat.reduceLeDiff, Nat.reduceLT, Nat.reduceEqDiff, reduceIte, Nat.zero_le, Nat.le_refl, Nat.add_zero, Nat.zero_add, xwT hT, xwV hV, hC.n0]
    (repeat (refine And.intro (by (first | omega | assumption | trivial | (simp only [inI]; omega) | (simp only [inL]; omega) | (refine jb_01) | (exact jb_in))) ?_))
    (try refine ⟨fun _ => ?_, fun h9 => (by exfalso; omega)⟩)
    (repeat (refine And.intro (by (first | omega | assumption | trivial | (simp only [inI]; omega) | (simp only [inL]; omega) | (refine jb_01) | (exact jb_in))) ?_))
    exact hQ v (jkz.rf hC.nm) (CHB_of h0 (fun x x0 x1 => hg x x0 (by omega)))
  | succ r ih =>
    intro a v hV hC ha hr hg hQ
    have h0 := hC.tb.1
    refine jW_step ?_
    simp (disch := (first | decide | omega)) only [bX0_laysChange, jxs, hps, jtsw, jlsw, List.length_cons, List.length_nil, true_and, and_true, true_implies, false_implies, implies_true, not_true_eq_false, not_false_eq_true, false_and, and_false, if_true, if_false, or_true, true_or, or_false, false_or, Classical.not_not, and_self, Int.reduceAdd, Int.reduceMul, Int.reduceSub, Int.reduceNeg, Int.reduceLT, Int.reduceLE, Int.reduceEq, Int.reduceNe, Int.reduceToNat, Nat.reduceAdd, Nat.reduceMul, Nat.reduceSub, Nat.reduceLeDiff, Nat.reduceLT, Nat.reduceEqDiff, reduceIte, Nat.zero_le, Nat.le_refl, Nat.add_zero, Nat.zero_add, xwT hT, xwV hV, hC.n0]
    (repeat (refine And.intro (by (first | omega | assumption | trivial | (simp only [inI]; omega) | (simp only [inL]; omega) | (refine jb_01) | (exact jb_in))) ?_))
    (first | refine ⟨fun h9 => (by exfalso; omega), fun _ => ?_⟩ | intro _)
    (repeat (refine And.intro (by (first | omega | assumption | trivial | (simp only [inI]; omega) | (simp only [inL]; omega) | (refine jb_01) | (exact jb_in))) ?_))
    have j1 : jkz v (upA v 523 (up1 (v 523) a 0)) := jkz.up hC.nm
    have u23 : (upA v 523 (up1 (v 523) a 0)) 523 = up1 (v 523) a 0 := upA_eq
    generalize upA v 523 (up1 (v 523) a 0) = u at *
    refine xw_lc_3 (A := A) hT ⟨ha, by omega⟩ (A 0).toNat 0 u (j1.pv hV) (j1.ci hC) (by omega) (by rw [u23, up1_eq]; rfl) ?_
    intro w hw h1 h2
    refine ih (a + 1) w (hw.pv (j1.pv hV)) (hw.ci (j1.ci hC)) (by omega) (by omega) ?_ (fun y hy hc => hQ y ((j1.tr hw).tr hy) hc)
    intro x x0 x1
    by_cases e : x = a
    · rw [e]; exact h2
    · rw [h1 x e, u23, up1_ne e]
      exact hg x x0 (by omega)
theorem xw_laysChange {v : Int → Int → Int} (hT : PT T) (hV : PV v) (hC : CI (v, T) A X) (hQ : ∀ w, jkz v w → CHB (w 523) A X → Q (.inl none) (w, T)) : jmet g (d + 113) 0 0 MX0_laysChange [vR 400] (v, T) Q := by
  have h0 := hC.tb.1
  obtain ⟨⟨r1, r2, r3⟩, -, -, -, r5⟩ := hC.ru
  dsimp only at r1 r2 r3 r5
  have k1 : jW bX0_laysChange (g, d + 112, 0, 0, Q) 1 [some (vR 400), none, none, none, none] [vI (needA A X)] (v, T) 0 0 := by
    refine jW_step ?_
    simp (disch := (first | decide | omega)) only [bX0_laysChange, jxs, hps, jtsw, jlsw, List.length_cons, List.length_nil, true_and, and_true, true_implies, false_implies, implies_true, not_true_eq_false, not_false_eq_true, false_and, and_false, if_true, if_false, or_true, true_or, or_false, false_or, Classical.not_not, and_self, Int.reduceAdd, Int.reduceMul, Int.reduceSub, Int.reduceNeg, Int.reduceLT, Int.reduceLE, Int.reduceEq, Int.reduceNe, Int.reduceToNat, Nat.reduceAdd, Nat.reduceMul, Nat.reduceSub, Nat.reduceLeDiff, Nat.reduceLT, Nat.reduceEqDiff, reduceIte, Nat.zero_le, Nat.le_refl, Nat.add_zero, Nat.zero_add, xwT hT, xwV hV]
    exact xw_lc_2 hT (A 0).toNat 0 v hV hC (by omega) (by omega) (fun x x0 x1 => by omega) hQ
  unfold needA at k1
  refine jmet_of (ls := [some (vR 400), none, none, none, none]) sX0_laysChange rfl (by decide +kernel) (by decide) rfl (by simp [jent]) ?_
  refine jW_step ?_
  simp (disch := (first | decide | omega)) only [bX0_laysChange, jxs, hps, jtsw, jlsw, List.length_cons, List.length_nil, true_and, and_true, true_implies, false_implies, implies_true, not_true_eq_false, not_false_eq_true, false_and, and_false, if_true, if_false, or_true, true_or, or_false, false_or, Classical.not_not, and_self, Int.reduceAdd, Int.reduceMul, Int.reduceSub, Int.reduceNeg, Int.reduceLT, Int.reduceLE, Int.reduceEq, Int.reduceNe, Int.reduceToNat, Nat.reduceAdd, Nat.reduceMul, Nat.reduceSub, Nat.reduceLeDiff, Nat.reduceLT, Nat.reduceEqDiff, reduceIte, Nat.zero_le, Nat.le_refl, Nat.add_zero, Nat.zero_add, xwT hT, xwV hV]
  refine ⟨0, 0, ⟨by omega, by omega⟩, xw_rules hT hV hC ?_⟩
  generalize hra : rul v A = ra at *
  by_cases hc : clA A X 3 0 < 0
  · have e := r5.1 hc
    rw [if_pos hc] at k1
    simp (disch := (first | decide | omega)) only [jxs, hps, jtsw, jlsw, List.length_cons, List.length_nil, true_and, and_true, true_implies, false_implies, implies_true, not_true_eq_false, not_false_eq_true, false_and, and_false, if_true, if_false, or_true, true_or, or_false, false_or, Classical.not_not, and_self, Int.reduceAdd, Int.reduceMul, Int.reduceSub, Int.reduceNeg, Int.reduceLT, Int.reduceLE, Int.reduceEq, Int.reduceNe, Int.reduceToNat, Nat.reduceAdd, Nat.reduceMul, Nat.reduceSub, Nat.reduceLeDiff, Nat.reduceLT, Nat.reduceEqDiff, reduceIte, Nat.zero_le, Nat.le_refl, Nat.add_zero, Nat.zero_add, xwT hT, xwV hV, r1, e, hC.n1]
    (repeat (refine And.intro (by (first | omega | assumption | trivial | (simp only [inI]; omega) | (simp only [inL]; omega) | (refine jb_01) | (exact jb_in))) ?_))
    exact k1
  · have e := r5.2 (by omega)
    have cl := hC.cl (show 0 ≤ clA A X 3 0 by omega)
    have c3 := cl.1.2.2.2.2.2.1 cl.2
    rw [if_neg hc, show 705 * A 6 + 2 + 4 * clA A X 3 0 = 705 * A 6 + 1 + 4 * clA A X 3 0 + 1 by omega] at k1
    rw [← e] at k1 c3
    simp (disch := (first | decide | omega)) only [jxs, hps, jtsw, jlsw, List.length_cons, List.length_nil, true_and, and_true, true_implies, false_implies, implies_true, not_true_eq_false, not_false_eq_true, false_and, and_false, if_true, if_false, or_true, true_or, or_false, false_or, Classical.not_not, and_self, Int.reduceAdd, Int.reduceMul, Int.reduceSub, Int.reduceNeg, Int.reduceLT, Int.reduceLE, Int.reduceEq, Int.reduceNe, Int.reduceToNat, Nat.reduceAdd, Nat.reduceMul, Nat.reduceSub, Nat.reduceLeDiff, Nat.reduceLT, Nat.reduceEqDiff, reduceIte, Nat.zero_le, Nat.le_refl, Nat.add_zero, Nat.zero_add, xwT hT, xwV hV, r1]
    (first | refine ⟨fun h9 => (by exfalso; omega), fun _ => ?_⟩ | intro _)
    refine ⟨0, 0, ⟨by omega, by omega⟩, xw_rules hT hV hC ?_⟩
    rw [hra]
    simp (disch := (first | decide | omega)) only [jxs, hps, jtsw, jlsw, List.length_cons, List.length_nil, true_and, and_true, true_implies, false_implies, implies_true, not_true_eq_false, not_false_eq_true, false_and, and_false, if_true, if_false, or_true, true_or, or_false, false_or, Classical.not_not, and_self, Int.reduceAdd, Int.reduceMul, Int.reduceSub, Int.reduceNeg, Int.reduceLT, Int.reduceLE, Int.reduceEq, Int.reduceNe, Int.reduceToNat, Nat.reduceAdd, Nat.reduceMul, Nat.reduceSub, Nat.reduceLeDiff, Nat.reduceLT, Nat.reduceEqDiff, reduceIte, Nat.zero_le, Nat.le_refl, Nat.add_zero, Nat.zero_add, xwT hT, xwV hV, r1]
    exact k1
theorem xw_doChange {l r : Int} {v : Int → Int → Int} (hT : PT T) (hV : PV v) (h0 : 0 ≤ A 0 ∧ A 0 ≤ 10) (hB : CHB (v 523) A X) (hS : (0 ≤ l ∧ l < A 0) ∧ (0 ≤ r ∧ r < A 0)) (hQ : Q (.inl (some (vI (cgA A X l r)))) (v, T)) : jmet g (d + 1) 0 0 MX0_doChange [vR 400, vI l, vI r] (v, T) Q := by
  obtain ⟨hl, hr⟩ := hS
  have b := hB l hl.1 hl.2
  have b2 := b.2 r hr.1 hr.2
  have c := cgA_01 (A := A) (X := X) (x := l) (y := r)
  refine jmet_of (ls := [some (vR 400), some (vI l), some (vI r)]) sX0_doChange rfl (by decide +kernel) (by decide) rfl (by simp [jent]) ?_
  refine jW_step ?_
  simp (disch := (first | decide | omega)) only [bX0_doChange, jxs, hps, jtsw, jlsw, List.length_cons, List.length_nil, true_and, and_true, true_implies, false_implies, implies_true, not_true_eq_false, not_false_eq_true, false_and, and_false, if_true, if_false, or_true, true_or, or_false, false_or, Classical.not_not, and_self, Int.reduceAdd, Int.reduceMul, Int.reduceSub, Int.reduceNeg, Int.reduceLT, Int.reduceLE, Int.reduceEq, Int.reduceNe, Int.reduceToNat, Nat.reduceAdd, Nat.reduceMul, Nat.reduceSub, Nat.reduceLeDiff, Nat.reduceLT, Nat.reduceEqDiff, reduceIte, Nat.zero_le, Nat.le_refl, Nat.add_zero, Nat.zero_add, xwT hT, xwV hV]
  (repeat (refine And.intro (by (first | omega | assumption | trivial | (simp only [inI]; omega) | (simp only [inL]; omega) | (refine jb_01) | (exact jb_in))) ?_))
  rw [jbit ⟨by omega, by omega⟩ hr.1 (by omega), b2]
  refine ⟨fun h => ?_, fun h => ?_⟩
  · refine jW_step ?_
    simp (disch := (first | decide | omega)) only [bX0_doChange, jxs, hps, jtsw, jlsw, List.length_cons, List.length_nil, true_and, and_true, true_implies, false_implies, implies_true, not_true_eq_false, not_false_eq_true, false_and, and_false, if_true, if_false, or_true, true_or, or_false, false_or, Classical.not_not, and_self, Int.reduceAdd, Int.reduceMul, Int.reduceSub, Int.reduceNeg, Int.reduceLT, Int.reduceLE, Int.reduceEq, Int.reduceNe, Int.reduceToNat, Nat.reduceAdd, Nat.reduceMul, Nat.reduceSub, Nat.reduceLeDiff, Nat.reduceLT, Nat.reduceEqDiff, reduceIte, Nat.zero_le, Nat.le_refl, Nat.add_zero, Nat.zero_add, xwT hT, xwV hV]
    (repeat (refine And.intro (by (first | omega | assumption | trivial | (simp only [inI]; omega) | (simp only [inL]; omega) | (refine jb_01) | (exact jb_in))) ?_))
    rwa [show cgA A X l r = 0 by omega] at hQ
  · refine jW_step ?_
    simp (disch := (first | decide | omega)) only [bX0_doChange, jxs, hps, jtsw, jlsw, List.length_cons, List.length_nil, true_and, and_true, true_implies, false_implies, implies_true, not_true_eq_false, not_false_eq_true, false_and, and_false, if_true, if_false, or_true, true_or, or_false, false_or, Classical.not_not, and_self, Int.reduceAdd, Int.reduceMul, Int.reduceSub, Int.reduceNeg, Int.reduceLT, Int.reduceLE, Int.reduceEq, Int.reduceNe, Int.reduceToNat, Nat.reduceAdd, Nat.reduceMul, Nat.reduceSub, Nat.reduceLeDiff, Nat.reduceLT, Nat.reduceEqDiff, reduceIte, Nat.zero_le, Nat.le_refl, Nat.add_zero, Nat.zero_add, xwT hT, xwV hV]
    (repeat (refine And.intro (by (first | omega | assumption | trivial | (simp only [inI]; omega) | (simp only [inL]; omega) | (refine jb_01) | (exact jb_in))) ?_))
    rwa [show cgA A X l r = 1 by omega] at hQ
theorem xw_nightOn_1 {R fr m od : Int} (hT : PT T) (h0 : 0 ≤ A 0 ∧ A 0 ≤ 10) (hR : jok T R (-1) ∧ 400 ≤ R ∧ (0 ≤ fr ∧ fr + m ≤ jln T R ∧ fr ≤ 1000) ∧ R ∉ pvA ∧ R ≠ 523) (hm : 0 ≤ m ∧ m ≤ 10) : ∀ (n : Nat) (p cnt : Int) (v : Int → Int → Int), PV v → CHB (v 523) A X → RN (fun i => v R (fr + i)) m (A 0) → 0 ≤ p → m < p + 2 * n + 1 → p ≤ 20 → (0 ≤ cnt ∧ cnt + n ≤ 100) →
    Q (.inl (some (vI (cnt + ncL (tbl A X) m n p (fun i => v R (fr + i)))))) (upA v R (fun j => nitL (tbl A X) m n p (fun i => v R (fr + i)) (j - fr)), T) →
    jW bX0_nightOn (g, d + 1, 0, 0, Q) 1 [some (vR 400), some (vR R), some (vI fr), some (vI m), some (vI od), some (vI cnt), some (vI p), none, none] [] (v, T) 0 0 := by
  obtain ⟨r1, r2, r3, r4, r5⟩ := hR
  have ex : ∀ (p cnt : Int) (v : Int → Int → Int), PV v → 0 ≤ p → p ≤ 20 → (0 ≤ cnt ∧ cnt ≤ 100) → m ≤ p + 1 → Q (.inl (some (vI (cnt + 0)))) (upA v R (fun j => v R (fr + (j - fr))), T) →
      jW bX0_nightOn (g, d + 1, 0, 0, Q) 1 [some (vR 400), some (vR R), some (vI fr), some (vI m), some (vI od), some (vI cnt), some (vI p), none, none] [] (v, T) 0 0 := by
    intro p cnt v hV hp hp2 hc hmp hQ
    have e : (fun j => v R (fr + (j - fr))) = v R := by funext j; rw [show fr + (j - fr) = j by omega]
    rw [e, upA_id, Int.add_zero] at hQ
    refine jW_step ?_
    simp (disch := (first | decide | omega)) only [bX0_nightOn, jxs, hps, jtsw, jlsw, List.length_cons, List.length_nil, true_and, and_true, true_implies, false_implies, implies_true, not_true_eq_false, not_false_eq_true, false_and, and_false, if_true, if_false, or_true, true_or, or_false, false_or, Classical.not_not, and_self, Int.reduceAdd, Int.reduceMul, Int.reduceSub, Int.reduceNeg, Int.reduceLT, Int.reduceLE, Int.reduceEq, Int.reduceNe, Int.reduceToNat, Nat.reduceAdd, Nat.reduceMul, Nat.reduceSub, Nat.reduceLeDiff, Nat.reduceLT, Nat.reduceEqDiff, reduceIte, Nat.zero_le, Nat.le_refl, Nat.add_zero, Nat.zero_add, xwT hT, xwV hV]
    (repeat (refine And.intro (by (first | omega | assumption | trivial | (simp only [inI]; omega) | (simp only [inL]; omega) | (refine jb_01) | (exact jb_in))) ?_))
    (try refine ⟨fun _ => ?_, fun h9 => (by exfalso; omega)⟩)
    (repeat (refine And.intro (by (first | omega | assumption | trivial | (simp only [inI]; omega) | (simp only [inL]; omega) | (refine jb_01) | (exact jb_in))) ?_))
    exact hQ
  intro n
  induction n with
  | zero =>
    intro p cnt v hV hB hN hp hm2 hp2 hc hQ
    unfold ncL nitL at hQ
    exact ex p cnt v hV hp hp2 (by omega) (by omega) hQ
  | succ n ih =>
    intro p cnt v hV hB hN hp hm2 hp2 hc hQ
    unfold ncL nitL at hQ
    by_cases h : m ≤ p + 1
    · rw [if_pos h, if_pos h] at hQ
      exact ex p cnt v hV hp hp2 (by omega) h hQ
    · rw [if_neg h, if_neg h] at hQ
      have a := hN p hp (by omega)
      have b := hN (p + 1) (by omega) (by omega)
      dsimp only at a b hQ
      rw [tbl_at (by omega)] at hQ
      rw [show fr + (p + 1) = fr + p + 1 by omega] at b hQ
      refine jW_step ?_
      simp (disch := (first | decide | omega)) only [bX0_nightOn, jxs, hps, jtsw, jlsw, List.length_cons, List.length_nil, true_and, and_true, true_implies, false_implies, implies_true, not_true_eq_false, not_false_eq_true, false_and, and_false, if_true, if_false, or_true, true_or, or_false, false_or, Classical.not_not, and_self, Int.reduceAdd, Int.reduceMul, Int.reduceSub, Int.reduceNeg, Int.reduceLT, Int.reduceLE, Int.reduceEq, Int.reduceNe, Int.reduceToNat, Nat.reduceAdd, Nat.reduceMul, Nat.reduceSub, Nat.reduceLeDiff, Nat.reduceLT, Nat.reduceEqDiff, reduceIte, Nat.zero_le, Nat.le_refl, Nat.add_zero, Nat.zero_add, xwT hT, xwV hV, r1]
      (repeat (refine And.intro (by (first | omega | assumption | trivial | (simp only [inI]; omega) | (simp only [inL]; omega) | (refine jb_01) | (exact jb_in))) ?_))
      (first | refine ⟨fun h9 => (by exfalso; omega), fun _ => ?_⟩ | intro _)
      (repeat (refine And.intro (by (first | omega | assumption | trivial | (simp only [inI]; omega) | (simp only [inL]; omega) | (refine jb_01) | (exact jb_in))) ?_))
      have cg := cgA_01 (A := A) (X := X) (x := v R (fr + p)) (y := v R (fr + p + 1))
      refine ⟨0, 0, ⟨by omega, by omega⟩, xw_doChange hT hV h0 hB ⟨a, b⟩ ?_⟩
      simp (disch := (first | decide | omega)) only [jxs, hps, jtsw, jlsw, List.length_cons, List.length_nil, true_and, and_true, true_implies, false_implies, implies_true, not_true_eq_false, not_false_eq_true, false_and, and_false, if_true, if_false, or_true, true_or, or_false, false_or, Classical.not_not, and_self, Int.reduceAdd, Int.reduceMul, Int.reduceSub, Int.reduceNeg, Int.reduceLT, Int.reduceLE, Int.reduceEq, Int.reduceNe, Int.reduceToNat, Nat.reduceAdd, Nat.reduceMul, Nat.reduceSub, Nat.reduceLeDiff, Nat.reduceLT, Nat.reduceEqDiff, reduceIte, Nat.zero_le, Nat.le_refl, Nat.add_zero, Nat.zero_add, xwT hT, xwV hV, r1]
      refine ⟨fun h2 => ?_, fun h2 => ?_⟩
      · rw [if_neg h2, if_neg h2] at hQ
        (repeat (refine And.intro (by (first | omega | assumption | trivial | (simp only [inI]; omega) | (simp only [inL]; omega) | (refine jb_01) | (exact jb_in))) ?_))
        have es : (fun i => up1 (up1 (v R) (fr + p) (v R (fr + p + 1))) (fr + p + 1) (v R (fr + p)) (fr + i)) = swp (fun i => v R (fr + i)) p := by
          funext i
          unfold swp up1
          by_cases q : i = p + 1
          · rw [if_pos (by omega), if_pos q]
          · rw [if_neg (by omega), if_neg q]
            by_cases q2 : i = p
            · rw [if_pos (by omega), if_pos q2]
              dsimp only
              rw [show fr + (p + 1) = fr + p + 1 by omega]
            · rw [if_neg (by omega), if_neg q2]
        refine jW_step ?_
        simp (disch := (first | decide | omega)) only [bX0_nightOn, jxs, hps, jtsw, jlsw, List.length_cons, List.length_nil, true_and, and_true, true_implies, false_implies, implies_true, not_true_eq_false, not_false_eq_true, false_and, and_false, if_true, if_false, or_true, true_or, or_false, false_or, Classical.not_not, and_self, Int.reduceAdd, Int.reduceMul, Int.reduceSub, Int.reduceNeg, Int.reduceLT, Int.reduceLE, Int.reduceEq, Int.reduceNe, Int.reduceToNat, Nat.reduceAdd, Nat.reduceMul, Nat.reduceSub, Nat.reduceLeDiff, Nat.reduceLT, Nat.reduceEqDiff, reduceIte, Nat.zero_le, Nat.le_refl, Nat.add_zero, Nat.zero_add, xwT hT, xwV hV]
        (repeat (refine And.intro (by (first | omega | assumption | trivial | (simp only [inI]; omega) | (simp only [inL]; omega) | (refine jb_01) | (exact jb_in))) ?_))
        refine jW_sub (ls' := [some (vR 400), some (vR R), some (vI fr), some (vI m), some (vI od), some (vI (cnt + 1)), some (vI (p + 2)), none, none]) (by simp [jsub]) ?_
        refine ih (p + 2) (cnt + 1) _ (hV.A r4) (by rw [upA_ne (fun x => r5 x.symm)]; exact hB) (by rw [upA_eq, es]; exact hN.sw ⟨hp, by omega⟩) (by omega) (by omega) (by omega) (by omega) ?_
        rw [upA_eq, es, upA_same, show cnt + 1 + ncL (tbl A X) m n (p + 2) (swp (fun i => v R (fr + i)) p) = cnt + (1 + ncL (tbl A X) m n (p + 2) (swp (fun i => v R (fr + i)) p)) by omega]
        exact hQ
      · rw [if_pos (by omega), if_pos (by omega)] at hQ
        (repeat (refine And.intro (by (first | omega | assumption | trivial | (simp only [inI]; omega) | (simp only [inL]; omega) | (refine jb_01) | (exact jb_in))) ?_))
        refine jW_step ?_
        simp (disch := (first | decide | omega)) only [bX0_nightOn, jxs, hps, jtsw, jlsw, List.length_cons, List.length_nil, true_and, and_true, true_implies, false_implies, implies_true, not_true_eq_false, not_false_eq_true, false_and, and_false, if_true, if_false, or_true, true_or, or_false, false_or, Classical.not_not, and_self, Int.reduceAdd, Int.reduceMul, Int.reduceSub, Int.reduceNeg, Int.reduceLT, Int.reduceLE, Int.reduceEq, Int.reduceNe, Int.reduceToNat, Nat.reduceAdd, Nat.reduceMul, Nat.reduceSub, Nat.reduceLeDiff, Nat.reduceLT, Nat.reduceEqDiff, reduceIte, Nat.zero_le, Nat.le_refl, Nat.add_zero, Nat.zero_add, xwT hT, xwV hV]
        (repeat (refine And.intro (by (first | omega | assumption | trivial | (simp only [inI]; omega) | (simp only [inL]; omega) | (refine jb_01) | (exact jb_in))) ?_))
        refine jW_sub (ls' := [some (vR 400), some (vR R), some (vI fr), some (vI m), some (vI od), some (vI cnt), some (vI (p + 2)), none, none]) (by simp [jsub]) ?_
        exact ih (p + 2) cnt v hV hB hN (by omega) (by omega) (by omega) (by omega) hQ
theorem xw_nightOn {R fr m od : Int} {v : Int → Int → Int} (hT : PT T) (hV : PV v) (h0 : 0 ≤ A 0 ∧ A 0 ≤ 10) (hR : jok T R (-1) ∧ 400 ≤ R ∧ (0 ≤ fr ∧ fr + m ≤ jln T R ∧ fr ≤ 1000) ∧ R ∉ pvA ∧ R ≠ 523) (hm : 0 ≤ m ∧ m ≤ 10) (hB : CHB (v 523) A X) (hN : RN (fun i => v R (fr + i)) m (A 0)) (ho : 0 ≤ od ∧ od ≤ 1)
    (hQ : Q (.inl (some (vI (ncL (tbl A X) m 6 od (fun i => v R (fr + i)))))) (upA v R (fun j => nitR (tbl A X) m od (fun i => v R (fr + i)) (j - fr)), T)) : jmet g (d + 2) 0 0 MX0_nightOn [vR 400, vR R, vI fr, vI m, vI od] (v, T) Q := by
  refine jmet_of (ls := [some (vR 400), some (vR R), some (vI fr), some (vI m), some (vI od), none, none, none, none]) sX0_nightOn rfl (by decide +kernel) (by decide) rfl (by simp [jent]) ?_
  refine jW_step ?_
  simp (disch := (first | decide | omega)) only [bX0_nightOn, jxs, hps, jtsw, jlsw, List.length_cons, List.length_nil, true_and, and_true, true_implies, false_implies, implies_true, not_true_eq_false, not_false_eq_true, false_and, and_false, if_true, if_false, or_true, true_or, or_false, false_or, Classical.not_not, and_self, Int.reduceAdd, Int.reduceMul, Int.reduceSub, Int.reduceNeg, Int.reduceLT, Int.reduceLE, Int.reduceEq, Int.reduceNe, Int.reduceToNat, Nat.reduceAdd, Nat.reduceMul, Nat.reduceSub, Nat.reduceLeDiff, Nat.reduceLT, Nat.reduceEqDiff, reduceIte, Nat.zero_le, Nat.le_refl, Nat.add_zero, Nat.zero_add, xwT hT, xwV hV]
  refine xw_nightOn_1 (A := A) (X := X) hT h0 hR hm 6 od 0 v hV hB hN (by omega) (by omega) (by omega) (by omega) ?_
  rw [Int.zero_add]
  exact hQ
end XG
