/-! ===== the class: a set chosen, an order laid out, its number ===== -/
-- MODE X
set_option maxRecDepth 100000
theorem jkK.of {v w : Int → Int → Int} {k z b : Int} (hV : PV v) (h : okN (v 522)) (hk : k = 10 ∨ k = 13 ∨ k = 14) (hb : (523 ≤ b ∧ b ≤ 538) ∧ b ≠ 530) (h1 : w 400 = up1 (v 400) k z) (h2 : ∀ a, a ≠ 400 → a ≠ b → w a = v a) : jkK v w := by
  have e : w = upA (upA v 400 (up1 (v 400) k z)) b (w b) := by
    funext a
    by_cases c : a = b
    · rw [c, upA_eq]
    · rw [upA_ne c]
      by_cases c2 : a = 400
      · rw [c2, upA_eq, h1]
      · rw [upA_ne c2, h2 a c2 c]
  have q := (jkK.fd (z := z) hV h hk).tr (jkK.up (f := w b) (jkK.fd (z := z) hV h hk).pv (by rw [upA_ne (by omega)]; exact h) hb)
  rw [← e] at q
  exact q
theorem jkK.of1 {v w : Int → Int → Int} {b : Int} (hV : PV v) (h : okN (v 522)) (hb : (523 ≤ b ∧ b ≤ 538) ∧ b ≠ 530) (h2 : ∀ a, a ≠ b → w a = v a) : jkK v w := by
  have e : w = upA v b (w b) := by
    funext a
    by_cases c : a = b
    · rw [c, upA_eq]
    · rw [upA_ne c, h2 a c]
  have q := jkK.up (f := w b) hV h hb
  rw [← e] at q
  exact q
/-- a set is chosen -/
def CHO (v : Int → Int → Int) (m : Int) (el : Int → Int) : Prop := v 400 13 = m ∧ EQm m (v 526) el
theorem CHO.fr {v w : Int → Int → Int} {m : Int} {el : Int → Int} (h : CHO v m el) (h1 : w 400 13 = v 400 13) (h2 : w 526 = v 526) : CHO w m el := by
  unfold CHO
  rw [h1, h2]
  exact h
theorem elF_ge {s : Int} : ∀ (n : Nat) (b m : Int) (f : Int → Int), m ≤ (elF s n b m f).2
  | 0, _, m, _ => Int.le_refl m
  | n + 1, b, m, f => by
    unfold elF
    split
    · have := elF_ge (s := s) n (b + 1) (m + 1) (up1 f m b); omega
    · exact elF_ge n (b + 1) m f
section XG
variable {g : jjG} {d : Nat} {T : jjT} {Q : jjQ} {A X : Int → Int}
theorem xw_choose_2 {s N : Int} (hT : PT T) (hs : inI s) (hN : N ≤ 10) : ∀ (r : Nat) (b m : Int) (v : Int → Int → Int), PV v → v 402 0 = N → v 400 13 = m → 0 ≤ b → b + r = N → 0 ≤ m → (elF s r b m (v 526)).2 ≤ 6 →
    (∀ w, w 400 = up1 (v 400) 13 (elF s r b m (v 526)).2 → w 526 = (elF s r b m (v 526)).1 → (∀ a, a ≠ 400 → a ≠ 526 → w a = v a) → Q (.inl (some (vI 1))) (w, T)) →
    jW bX0_choose (g, d + 1, 0, 0, Q) 2 [some (vR 400), some (vI s), some (vI 6), some (vI b)] [] (v, T) 0 0 := by
  intro r
  induction r with
  | zero =>
    intro b m v hV h2 hv hb hr hm h6 hQ
    unfold elF at hQ
    refine jW_step ?_
    simp (disch := (first | decide | omega)) only [bX0_choose, jxs, hps, jtsw, jlsw, List.length_cons, List.length_nil, true_and, and_true, true_implies, false_implies, implies_true, not_true_eq_false, not_false_eq_true, false_and, and_false, if_true, if_false, or_true, true_or, or_false, false_or, Classical.not_not, and_self, Int.reduceAdd, Int.reduceMul, Int.reduceSub, Int.reduceNeg, Int.reduceLT, Int.reduceLE, Int.reduceEq, Int.reduceNe, Int.reduceToNat, Nat.reduceAdd, Nat.reduceMul, Nat.reduceSub, Nat.reduceLeDiff, Nat.reduceLT, Nat.reduceEqDiff, reduceIte, Nat.zero_le, Nat.le_refl, Nat.add_zero, Nat.zero_add, xwT hT, xwV hV, h2]
    (try refine ⟨fun _ => ?_, fun h9 => (by exfalso; omega)⟩)
    (repeat (refine And.intro (by (first | omega | assumption | trivial | (simp only [inI]; omega) | (simp only [inL]; omega) | (refine jb_01) | (exact jb_in))) ?_))
    exact hQ v (by dsimp only; rw [← hv, up1_id]) rfl (fun _ _ _ => rfl)
  | succ r ih =>
    intro b m v hV h2 hv hb hr hm h6 hQ
    unfold elF at hQ h6
    refine jW_step ?_
    simp (disch := (first | decide | omega)) only [bX0_choose, jxs, hps, jtsw, jlsw, List.length_cons, List.length_nil, true_and, and_true, true_implies, false_implies, implies_true, not_true_eq_false, not_false_eq_true, false_and, and_false, if_true, if_false, or_true, true_or, or_false, false_or, Classical.not_not, and_self, Int.reduceAdd, Int.reduceMul, Int.reduceSub, Int.reduceNeg, Int.reduceLT, Int.reduceLE, Int.reduceEq, Int.reduceNe, Int.reduceToNat, Nat.reduceAdd, Nat.reduceMul, Nat.reduceSub, Nat.reduceLeDiff, Nat.reduceLT, Nat.reduceEqDiff, reduceIte, Nat.zero_le, Nat.le_refl, Nat.add_zero, Nat.zero_add, xwT hT, xwV hV, h2]
    (first | refine ⟨fun h9 => (by exfalso; omega), fun _ => ?_⟩ | intro _)
    rw [jbit hs hb (by omega)]
    refine ⟨fun h => ?_, fun h => ?_⟩
    · rw [if_pos (by omega)] at hQ h6
      have ge := elF_ge (s := s) r (b + 1) (m + 1) (up1 (v 526) m b)
      simp (disch := (first | decide | omega)) only [jxs, hps, jtsw, jlsw, List.length_cons, List.length_nil, true_and, and_true, true_implies, false_implies, implies_true, not_true_eq_false, not_false_eq_true, false_and, and_false, if_true, if_false, or_true, true_or, or_false, false_or, Classical.not_not, and_self, Int.reduceAdd, Int.reduceMul, Int.reduceSub, Int.reduceNeg, Int.reduceLT, Int.reduceLE, Int.reduceEq, Int.reduceNe, Int.reduceToNat, Nat.reduceAdd, Nat.reduceMul, Nat.reduceSub, Nat.reduceLeDiff, Nat.reduceLT, Nat.reduceEqDiff, reduceIte, Nat.zero_le, Nat.le_refl, Nat.add_zero, Nat.zero_add, xwT hT, xwV hV, hv]
      (repeat (refine And.intro (by (first | omega | assumption | trivial | (simp only [inI]; omega) | (simp only [inL]; omega) | (refine jb_01) | (exact jb_in))) ?_))
      have hVu : PV (upA (upA v 400 (up1 (v 400) 13 (m + 1))) 526 (up1 (v 526) m b)) := by (first | assumption | (repeat (first | assumption | refine PV.A ?_ (by decide) | refine PV.F ?_ ?_ | refine twR.up ?_ (by decide) | refine PV.r ?_)))
      have u400 : (upA (upA v 400 (up1 (v 400) 13 (m + 1))) 526 (up1 (v 526) m b)) 400 = up1 (v 400) 13 (m + 1) := by rw [upA_ne (by omega), upA_eq]
      have u526 : (upA (upA v 400 (up1 (v 400) 13 (m + 1))) 526 (up1 (v 526) m b)) 526 = up1 (v 526) m b := upA_eq
      have uo : ∀ a, a ≠ 400 → a ≠ 526 → (upA (upA v 400 (up1 (v 400) 13 (m + 1))) 526 (up1 (v 526) m b)) a = v a := fun a a1 a2 => by rw [upA_ne a2, upA_ne a1]
      generalize upA (upA v 400 (up1 (v 400) 13 (m + 1))) 526 (up1 (v 526) m b) = u at *
      have hV := hVu
      refine jW_step ?_
      simp (disch := (first | decide | omega)) only [bX0_choose, jxs, hps, jtsw, jlsw, List.length_cons, List.length_nil, true_and, and_true, true_implies, false_implies, implies_true, not_true_eq_false, not_false_eq_true, false_and, and_false, if_true, if_false, or_true, true_or, or_false, false_or, Classical.not_not, and_self, Int.reduceAdd, Int.reduceMul, Int.reduceSub, Int.reduceNeg, Int.reduceLT, Int.reduceLE, Int.reduceEq, Int.reduceNe, Int.reduceToNat, Nat.reduceAdd, Nat.reduceMul, Nat.reduceSub, Nat.reduceLeDiff, Nat.reduceLT, Nat.reduceEqDiff, reduceIte, Nat.zero_le, Nat.le_refl, Nat.add_zero, Nat.zero_add, xwT hT, xwV hV]
      (repeat (refine And.intro (by (first | omega | assumption | trivial | (simp only [inI]; omega) | (simp only [inL]; omega) | (refine jb_01) | (exact jb_in))) ?_))
      refine ih (b + 1) (m + 1) u hVu (by rw [uo 402 (by omega) (by omega)]; exact h2) (by rw [u400, up1_eq]) (by omega) (by omega) (by omega) (by rw [u526]; exact h6) ?_
      rw [u400, u526, up1_same]
      intro w w1 w2 w3
      exact hQ w w1 w2 (fun a a1 a2 => (w3 a a1 a2).trans (uo a a1 a2))
    · rw [if_neg (by omega)] at hQ h6
      refine jW_step ?_
      simp (disch := (first | decide | omega)) only [bX0_choose, jxs, hps, jtsw, jlsw, List.length_cons, List.length_nil, true_and, and_true, true_implies, false_implies, implies_true, not_true_eq_false, not_false_eq_true, false_and, and_false, if_true, if_false, or_true, true_or, or_false, false_or, Classical.not_not, and_self, Int.reduceAdd, Int.reduceMul, Int.reduceSub, Int.reduceNeg, Int.reduceLT, Int.reduceLE, Int.reduceEq, Int.reduceNe, Int.reduceToNat, Nat.reduceAdd, Nat.reduceMul, Nat.reduceSub, Nat.reduceLeDiff, Nat.reduceLT, Nat.reduceEqDiff, reduceIte, Nat.zero_le, Nat.le_refl, Nat.add_zero, Nat.zero_add, xwT hT, xwV hV]
      (repeat (refine And.intro (by (first | omega | assumption | trivial | (simp only [inI]; omega) | (simp only [inL]; omega) | (refine jb_01) | (exact jb_in))) ?_))
      exact ih (b + 1) m v hV h2 hv (by omega) (by omega) hm h6 hQ
theorem xw_choose {s : Int} {v : Int → Int → Int} (hT : PT T) (hV : PV v) (hC : CI (v, T) A X) (hQ : (((1 ≤ s ∧ s ≤ 2 ^ (A 0).toNat - 1) ∧ bc s ≤ 6) → ∀ w, jkK v w → w 523 = v 523 → CHO w (elZ (A 0) s).2 (elZ (A 0) s).1 → Q (.inl (some (vI 1))) (w, T)) ∧ (¬ ((1 ≤ s ∧ s ≤ 2 ^ (A 0).toNat - 1) ∧ bc s ≤ 6) → ∀ w, jkK v w → w 523 = v 523 → Q (.inl (some (vI 0))) (w, T))) : jmet g (d + 2) 0 0 MX0_choose [vR 400, vI s, vI 6] (v, T) Q := by
  have h0 := hC.tb.1
  have hp := pow_bd h0
  refine jmet_of (ls := [some (vR 400), some (vI s), some (vI 6), none]) sX0_choose rfl (by decide +kernel) (by decide) rfl (by simp [jent]) ?_
  have j1 : jkK v (upA v 400 (up1 (v 400) 13 0)) := jkK.fd hV hC.nm (Or.inr (Or.inl rfl))
  have u400 : (upA v 400 (up1 (v 400) 13 0)) 400 = up1 (v 400) 13 0 := upA_eq
  have uo : ∀ a, a ≠ 400 → (upA v 400 (up1 (v 400) 13 0)) a = v a := fun a ha => upA_ne ha
  refine jW_step ?_
  simp (disch := (first | decide | omega)) only [bX0_choose, jxs, hps, jtsw, jlsw, List.length_cons, List.length_nil, true_and, and_true, true_implies, false_implies, implies_true, not_true_eq_false, not_false_eq_true, false_and, and_false, if_true, if_false, or_true, true_or, or_false, false_or, Classical.not_not, and_self, Int.reduceAdd, Int.reduceMul, Int.reduceSub, Int.reduceNeg, Int.reduceLT, Int.reduceLE, Int.reduceEq, Int.reduceNe, Int.reduceToNat, Nat.reduceAdd, Nat.reduceMul, Nat.reduceSub, Nat.reduceLeDiff, Nat.reduceLT, Nat.reduceEqDiff, reduceIte, Nat.zero_le, Nat.le_refl, Nat.add_zero, Nat.zero_add, xwT hT, xwV hV, hC.n0]
  generalize upA v 400 (up1 (v 400) 13 0) = u at *
  have hV0 := hV
  have hV := j1.pv
  have no : ¬ ((1 ≤ s ∧ s ≤ 2 ^ (A 0).toNat - 1) ∧ bc s ≤ 6) → jW bX0_choose (g, d + 1, 0, 0, Q) 1 [some (vR 400), some (vI s), some (vI 6), none] [] (u, T) 0 0 := by
    intro q
    refine jW_step ?_
    simp (disch := (first | decide | omega)) only [bX0_choose, jxs, hps, jtsw, jlsw, List.length_cons, List.length_nil, true_and, and_true, true_implies, false_implies, implies_true, not_true_eq_false, not_false_eq_true, false_and, and_false, if_true, if_false, or_true, true_or, or_false, false_or, Classical.not_not, and_self, Int.reduceAdd, Int.reduceMul, Int.reduceSub, Int.reduceNeg, Int.reduceLT, Int.reduceLE, Int.reduceEq, Int.reduceNe, Int.reduceToNat, Nat.reduceAdd, Nat.reduceMul, Nat.reduceSub, Nat.reduceLeDiff, Nat.reduceLT, Nat.reduceEqDiff, reduceIte, Nat.zero_le, Nat.le_refl, Nat.add_zero, Nat.zero_add, xwT hT, xwV hV]
    (repeat (refine And.intro (by (first | omega | assumption | trivial | (simp only [inI]; omega) | (simp only [inL]; omega) | (refine jb_01) | (exact jb_in))) ?_))
    exact hQ.2 q u j1 (uo 523 (by omega))
  (repeat (refine And.intro (by (first | omega | assumption | trivial | (simp only [inI]; omega) | (simp only [inL]; omega) | (refine jb_01) | (exact jb_in))) ?_))
  rw [jshl_1 h0.1 (by omega)]
  (repeat (refine And.intro (by (first | omega | assumption | trivial | (simp only [inI]; omega) | (simp only [inL]; omega) | (refine jb_01) | (exact jb_in))) ?_))
  refine ⟨0, 0, ⟨by omega, by omega⟩, xw_in ?_⟩
  simp (disch := (first | decide | omega)) only [jxs, hps, jtsw, jlsw, List.length_cons, List.length_nil, true_and, and_true, true_implies, false_implies, implies_true, not_true_eq_false, not_false_eq_true, false_and, and_false, if_true, if_false, or_true, true_or, or_false, false_or, Classical.not_not, and_self, Int.reduceAdd, Int.reduceMul, Int.reduceSub, Int.reduceNeg, Int.reduceLT, Int.reduceLE, Int.reduceEq, Int.reduceNe, Int.reduceToNat, Nat.reduceAdd, Nat.reduceMul, Nat.reduceSub, Nat.reduceLeDiff, Nat.reduceLT, Nat.reduceEqDiff, reduceIte, Nat.zero_le, Nat.le_refl, Nat.add_zero, Nat.zero_add, xwT hT, xwV hV]
  refine ⟨fun h => ?_, fun h => ?_⟩
  · exact no (fun q => h q.1)
  · refine ⟨0, 0, ⟨by omega, by omega⟩, xj_bitCount (by omega) ?_⟩
    simp (disch := (first | decide | omega)) only [jxs, hps, jtsw, jlsw, List.length_cons, List.length_nil, true_and, and_true, true_implies, false_implies, implies_true, not_true_eq_false, not_false_eq_true, false_and, and_false, if_true, if_false, or_true, true_or, or_false, false_or, Classical.not_not, and_self, Int.reduceAdd, Int.reduceMul, Int.reduceSub, Int.reduceNeg, Int.reduceLT, Int.reduceLE, Int.reduceEq, Int.reduceNe, Int.reduceToNat, Nat.reduceAdd, Nat.reduceMul, Nat.reduceSub, Nat.reduceLeDiff, Nat.reduceLT, Nat.reduceEqDiff, reduceIte, Nat.zero_le, Nat.le_refl, Nat.add_zero, Nat.zero_add, xwT hT, xwV hV]
    refine ⟨fun h2 => ?_, fun h2 => ?_⟩
    · have sm := setC_m h0 ⟨h, h2⟩
      have cg := elF_cg (s := s) (A 0).toNat 0 0 (u 526) (fun _ => 0) (fun i i0 i1 => by omega)
      have e6 : (elF s (A 0).toNat 0 0 (u 526)).2 = (elZ (A 0) s).2 := cg.1
      have e7 : EQm (elF s (A 0).toNat 0 0 (u 526)).2 (elF s (A 0).toNat 0 0 (u 526)).1 (elZ (A 0) s).1 := cg.2
      refine xw_choose_2 (N := A 0) hT sm.1 h0.2 (A 0).toNat 0 0 u hV (by rw [uo 402 (by omega)]; exact hC.n0) (by rw [u400, up1_eq]) (by omega) (by omega) (by omega) (by rw [e6]; exact sm.2.2.2) ?_
      intro w w1 w2 w3
      refine hQ.1 ⟨h, h2⟩ w (j1.tr (jkK.of hV (j1.ci hC).nm (Or.inr (Or.inl rfl)) (by omega) w1 w3)) ((w3 523 (by omega) (by omega)).trans (uo 523 (by omega))) ⟨by rw [w1, up1_eq, e6], ?_⟩
      rw [w2, ← e6]
      exact e7
    · exact no (fun q => h2 q.2)
theorem xw_rows_1 {v : Int → Int → Int} (hT : PT T) (hV : PV v) : ∀ (n d : Nat) (x : Int) (Q : jjQ), x = n → n ≤ 6 → Q (.inl (some (vI (facF n)))) (v, T) → jmet g (d + n + 1) 0 0 MX0_rows [vI x] (v, T) Q := by
  intro n
  induction n with
  | zero =>
    intro d x Q hx hn hQ
    refine jmet_of (ls := [some (vI x)]) sX0_rows rfl (by decide +kernel) (by decide) rfl (by simp [jent]) ?_
    refine jW_step ?_
    simp (disch := (first | decide | omega)) only [bX0_rows, jxs, hps, jtsw, jlsw, List.length_cons, List.length_nil, true_and, and_true, true_implies, false_implies, implies_true, not_true_eq_false, not_false_eq_true, false_and, and_false, if_true, if_false, or_true, true_or, or_false, false_or, Classical.not_not, and_self, Int.reduceAdd, Int.reduceMul, Int.reduceSub, Int.reduceNeg, Int.reduceLT, Int.reduceLE, Int.reduceEq, Int.reduceNe, Int.reduceToNat, Nat.reduceAdd, Nat.reduceMul, Nat.reduceSub, Nat.reduceLeDiff, Nat.reduceLT, Nat.reduceEqDiff, reduceIte, Nat.zero_le, Nat.le_refl, Nat.add_zero, Nat.zero_add, xwT hT, xwV hV]
    (first | refine ⟨fun h9 => (by exfalso; omega), fun _ => ?_⟩ | intro _)
    refine jW_step ?_
    simp (disch := (first | decide | omega)) only [bX0_rows, jxs, hps, jtsw, jlsw, List.length_cons, List.length_nil, true_and, and_true, true_implies, false_implies, implies_true, not_true_eq_false, not_false_eq_true, false_and, and_false, if_true, if_false, or_true, true_or, or_false, false_or, Classical.not_not, and_self, Int.reduceAdd, Int.reduceMul, Int.reduceSub, Int.reduceNeg, Int.reduceLT, Int.reduceLE, Int.reduceEq, Int.reduceNe, Int.reduceToNat, Nat.reduceAdd, Nat.reduceMul, Nat.reduceSub, Nat.reduceLeDiff, Nat.reduceLT, Nat.reduceEqDiff, reduceIte, Nat.zero_le, Nat.le_refl, Nat.add_zero, Nat.zero_add, xwT hT, xwV hV]
    (repeat (refine And.intro (by (first | omega | assumption | trivial | (simp only [inI]; omega) | (simp only [inL]; omega) | (refine jb_01) | (exact jb_in))) ?_))
    exact hQ
  | succ n ih =>
    intro d x Q hx hn hQ
    by_cases h : n = 0
    · subst h
      refine jmet_of (ls := [some (vI x)]) sX0_rows rfl (by decide +kernel) (by decide) rfl (by simp [jent]) ?_
      refine jW_step ?_
      simp (disch := (first | decide | omega)) only [bX0_rows, jxs, hps, jtsw, jlsw, List.length_cons, List.length_nil, true_and, and_true, true_implies, false_implies, implies_true, not_true_eq_false, not_false_eq_true, false_and, and_false, if_true, if_false, or_true, true_or, or_false, false_or, Classical.not_not, and_self, Int.reduceAdd, Int.reduceMul, Int.reduceSub, Int.reduceNeg, Int.reduceLT, Int.reduceLE, Int.reduceEq, Int.reduceNe, Int.reduceToNat, Nat.reduceAdd, Nat.reduceMul, Nat.reduceSub, Nat.reduceLeDiff, Nat.reduceLT, Nat.reduceEqDiff, reduceIte, Nat.zero_le, Nat.le_refl, Nat.add_zero, Nat.zero_add, xwT hT, xwV hV]
      (first | refine ⟨fun h9 => (by exfalso; omega), fun _ => ?_⟩ | intro _)
      refine jW_step ?_
      simp (disch := (first | decide | omega)) only [bX0_rows, jxs, hps, jtsw, jlsw, List.length_cons, List.length_nil, true_and, and_true, true_implies, false_implies, implies_true, not_true_eq_false, not_false_eq_true, false_and, and_false, if_true, if_false, or_true, true_or, or_false, false_or, Classical.not_not, and_self, Int.reduceAdd, Int.reduceMul, Int.reduceSub, Int.reduceNeg, Int.reduceLT, Int.reduceLE, Int.reduceEq, Int.reduceNe, Int.reduceToNat, Nat.reduceAdd, Nat.reduceMul, Nat.reduceSub, Nat.reduceLeDiff, Nat.reduceLT, Nat.reduceEqDiff, reduceIte, Nat.zero_le, Nat.le_refl, Nat.add_zero, Nat.zero_add, xwT hT, xwV hV]
      (repeat (refine And.intro (by (first | omega | assumption | trivial | (simp only [inI]; omega) | (simp only [inL]; omega) | (refine jb_01) | (exact jb_in))) ?_))
      exact hQ
    · have b := facF_bd (n + 1) hn
      have e : x * facF n = facF (n + 1) := by
        rw [hx, Int.mul_comm]
        show _ = facF n * ((n : Int) + 1)
        rw [show ((n + 1 : Nat) : Int) = (n : Int) + 1 by omega]
      refine jmet_of (ls := [some (vI x)]) sX0_rows rfl (by decide +kernel) (by decide) rfl (by simp [jent]) ?_
      refine jW_step ?_
      simp (disch := (first | decide | omega)) only [bX0_rows, jxs, hps, jtsw, jlsw, List.length_cons, List.length_nil, true_and, and_true, true_implies, false_implies, implies_true, not_true_eq_false, not_false_eq_true, false_and, and_false, if_true, if_false, or_true, true_or, or_false, false_or, Classical.not_not, and_self, Int.reduceAdd, Int.reduceMul, Int.reduceSub, Int.reduceNeg, Int.reduceLT, Int.reduceLE, Int.reduceEq, Int.reduceNe, Int.reduceToNat, Nat.reduceAdd, Nat.reduceMul, Nat.reduceSub, Nat.reduceLeDiff, Nat.reduceLT, Nat.reduceEqDiff, reduceIte, Nat.zero_le, Nat.le_refl, Nat.add_zero, Nat.zero_add, xwT hT, xwV hV]
      (try refine ⟨fun _ => ?_, fun h9 => (by exfalso; omega)⟩)
      (repeat (refine And.intro (by (first | omega | assumption | trivial | (simp only [inI]; omega) | (simp only [inL]; omega) | (refine jb_01) | (exact jb_in))) ?_))
      refine ⟨0, 0, ⟨by omega, by omega⟩, ih d (x - 1) _ (by omega) (by omega) ?_⟩
      simp (disch := (first | decide | omega)) only [jxs, hps, jtsw, jlsw, List.length_cons, List.length_nil, true_and, and_true, true_implies, false_implies, implies_true, not_true_eq_false, not_false_eq_true, false_and, and_false, if_true, if_false, or_true, true_or, or_false, false_or, Classical.not_not, and_self, Int.reduceAdd, Int.reduceMul, Int.reduceSub, Int.reduceNeg, Int.reduceLT, Int.reduceLE, Int.reduceEq, Int.reduceNe, Int.reduceToNat, Nat.reduceAdd, Nat.reduceMul, Nat.reduceSub, Nat.reduceLeDiff, Nat.reduceLT, Nat.reduceEqDiff, reduceIte, Nat.zero_le, Nat.le_refl, Nat.add_zero, Nat.zero_add, xwT hT, xwV hV]
      rw [e]
      (repeat (refine And.intro (by (first | omega | assumption | trivial | (simp only [inI]; omega) | (simp only [inL]; omega) | (refine jb_01) | (exact jb_in))) ?_))
      refine jW_step ?_
      simp (disch := (first | decide | omega)) only [bX0_rows, jxs, hps, jtsw, jlsw, List.length_cons, List.length_nil, true_and, and_true, true_implies, false_implies, implies_true, not_true_eq_false, not_false_eq_true, false_and, and_false, if_true, if_false, or_true, true_or, or_false, false_or, Classical.not_not, and_self, Int.reduceAdd, Int.reduceMul, Int.reduceSub, Int.reduceNeg, Int.reduceLT, Int.reduceLE, Int.reduceEq, Int.reduceNe, Int.reduceToNat, Nat.reduceAdd, Nat.reduceMul, Nat.reduceSub, Nat.reduceLeDiff, Nat.reduceLT, Nat.reduceEqDiff, reduceIte, Nat.zero_le, Nat.le_refl, Nat.add_zero, Nat.zero_add, xwT hT, xwV hV]
      (repeat (refine And.intro (by (first | omega | assumption | trivial | (simp only [inI]; omega) | (simp only [inL]; omega) | (refine jb_01) | (exact jb_in))) ?_))
      exact hQ
theorem xw_rows {m : Int} {v : Int → Int → Int} (hT : PT T) (hV : PV v) (hm : 0 ≤ m ∧ m ≤ 6) (hQ : Q (.inl (some (vI (fac m)))) (v, T)) : jmet g (d + 7) 0 0 MX0_rows [vI m] (v, T) Q := by
  have e : d + 7 = d + (6 - m.toNat) + m.toNat + 1 := by omega
  rw [e]
  exact xw_rows_1 hT hV m.toNat (d + (6 - m.toNat)) m Q (by omega) (by omega) hQ
theorem xw_lo_2 {n l u p E : Int} {el : Int → Int} {v : Int → Int → Int} (hT : PT T) (hV : PV v) (hu : 0 ≤ u ∧ u < 64) (hE : (0 ≤ E ∧ E < 6) ∧ u / 2 ^ E.toNat % 2 = 0) (hp : 0 ≤ p ∧ p < 6) (he : v 526 E = el E)
    (hQ : jW bX0_laysOrder (g, d + 7, 0, 0, Q) 1 [some (vR 400), some (vI n), some (vI l), some (vI (u + 2 ^ E.toNat)), some (vI (p + 1)), none, none] [] (upA v 527 (up1 (v 527) p (el E)), T) 0 0) :
    ∀ (f : Nat) (k e : Int), skO f u k e = true → skF f u k e = E → 0 ≤ e → e + f ≤ 31 → (0 ≤ k ∧ k ≤ 1000) →
    jW bX0_laysOrder (g, d + 7, 0, 0, Q) 2 [some (vR 400), some (vI n), some (vI l), some (vI u), some (vI p), some (vI k), some (vI e)] [] (v, T) 0 0 := by
  intro f
  induction f with
  | zero =>
    intro k e h1
    unfold skO at h1
    cases h1
  | succ f ih =>
    intro k e h1 h2 he2 hf hk
    unfold skO at h1
    unfold skF at h2
    have iu : inI u := ⟨by omega, by omega⟩
    by_cases hb : u / 2 ^ e.toNat % 2 = 1
    · rw [if_pos hb] at h1 h2
      refine jW_step ?_
      simp (disch := (first | decide | omega)) only [bX0_laysOrder, jxs, hps, jtsw, jlsw, List.length_cons, List.length_nil, true_and, and_true, true_implies, false_implies, implies_true, not_true_eq_false, not_false_eq_true, false_and, and_false, if_true, if_false, or_true, true_or, or_false, false_or, Classical.not_not, and_self, Int.reduceAdd, Int.reduceMul, Int.reduceSub, Int.reduceNeg, Int.reduceLT, Int.reduceLE, Int.reduceEq, Int.reduceNe, Int.reduceToNat, Nat.reduceAdd, Nat.reduceMul, Nat.reduceSub, Nat.reduceLeDiff, Nat.reduceLT, Nat.reduceEqDiff, reduceIte, Nat.zero_le, Nat.le_refl, Nat.add_zero, Nat.zero_add, xwT hT, xwV hV]
      rw [jbit iu he2 (by omega)]
      (try refine ⟨fun _ => ?_, fun h9 => (by exfalso; omega)⟩)
      refine jW_step ?_
      simp (disch := (first | decide | omega)) only [bX0_laysOrder, jxs, hps, jtsw, jlsw, List.length_cons, List.length_nil, true_and, and_true, true_implies, false_implies, implies_true, not_true_eq_false, not_false_eq_true, false_and, and_false, if_true, if_false, or_true, true_or, or_false, false_or, Classical.not_not, and_self, Int.reduceAdd, Int.reduceMul, Int.reduceSub, Int.reduceNeg, Int.reduceLT, Int.reduceLE, Int.reduceEq, Int.reduceNe, Int.reduceToNat, Nat.reduceAdd, Nat.reduceMul, Nat.reduceSub, Nat.reduceLeDiff, Nat.reduceLT, Nat.reduceEqDiff, reduceIte, Nat.zero_le, Nat.le_refl, Nat.add_zero, Nat.zero_add, xwT hT, xwV hV]
      rw [jbit iu he2 (by omega), hb]
      (repeat (refine And.intro (by (first | omega | assumption | trivial | (simp only [inI]; omega) | (simp only [inL]; omega) | (refine jb_01) | (exact jb_in))) ?_))
      have := ih k (e + 1) h1 h2 (by omega) (by omega) hk
      first | exact this | (rw [show k - (1 - 1) = k by omega]; exact this)
    · rw [if_neg hb] at h1 h2
      have hb0 : u / 2 ^ e.toNat % 2 = 0 := by omega
      refine jW_step ?_
      simp (disch := (first | decide | omega)) only [bX0_laysOrder, jxs, hps, jtsw, jlsw, List.length_cons, List.length_nil, true_and, and_true, true_implies, false_implies, implies_true, not_true_eq_false, not_false_eq_true, false_and, and_false, if_true, if_false, or_true, true_or, or_false, false_or, Classical.not_not, and_self, Int.reduceAdd, Int.reduceMul, Int.reduceSub, Int.reduceNeg, Int.reduceLT, Int.reduceLE, Int.reduceEq, Int.reduceNe, Int.reduceToNat, Nat.reduceAdd, Nat.reduceMul, Nat.reduceSub, Nat.reduceLeDiff, Nat.reduceLT, Nat.reduceEqDiff, reduceIte, Nat.zero_le, Nat.le_refl, Nat.add_zero, Nat.zero_add, xwT hT, xwV hV]
      rw [jbit iu he2 (by omega)]
      (first | refine ⟨fun h9 => (by exfalso; omega), fun _ => ?_⟩ | intro _)
      refine ⟨fun h => ?_, fun h => ?_⟩
      · rw [if_neg (by omega)] at h2
        subst h2
        rw [jshl_1 (by omega) (by omega), jor_b hu hE.1 hE.2, he]
        (repeat (refine And.intro (by (first | omega | assumption | trivial | (simp only [inI]; omega) | (simp only [inL]; omega) | (refine jb_01) | (exact jb_in))) ?_))
        exact jW_sub (by simp [jsub]) hQ
      · rw [if_pos (by omega)] at h1 h2
        refine jW_step ?_
        simp (disch := (first | decide | omega)) only [bX0_laysOrder, jxs, hps, jtsw, jlsw, List.length_cons, List.length_nil, true_and, and_true, true_implies, false_implies, implies_true, not_true_eq_false, not_false_eq_true, false_and, and_false, if_true, if_false, or_true, true_or, or_false, false_or, Classical.not_not, and_self, Int.reduceAdd, Int.reduceMul, Int.reduceSub, Int.reduceNeg, Int.reduceLT, Int.reduceLE, Int.reduceEq, Int.reduceNe, Int.reduceToNat, Nat.reduceAdd, Nat.reduceMul, Nat.reduceSub, Nat.reduceLeDiff, Nat.reduceLT, Nat.reduceEqDiff, reduceIte, Nat.zero_le, Nat.le_refl, Nat.add_zero, Nat.zero_add, xwT hT, xwV hV]
        rw [jbit iu he2 (by omega), hb0]
        (repeat (refine And.intro (by (first | omega | assumption | trivial | (simp only [inI]; omega) | (simp only [inL]; omega) | (refine jb_01) | (exact jb_in))) ?_))
        have := ih (k - 1) (e + 1) h1 h2 (by omega) (by omega) (by omega)
        first | exact this | (rw [show k - (1 - 0) = k - 1 by omega]; exact this)
theorem xw_lo_1 {n m : Int} {el : Int → Int} (hT : PT T) (hm : 0 ≤ m ∧ m ≤ 6) (hn : 0 ≤ n ∧ n < fac m) : ∀ (r : Nat) (p : Int) (v : Int → Int → Int), PV v → CHO v m el → 0 ≤ p → m = p + r → EQm p (v 527) (fun q => el (dec m n q)) →
    (∀ w, EQm m (w 527) (fun q => el (dec m n q)) → (∀ a, a ≠ 527 → w a = v a) → Q (.inl none) (w, T)) →
    jW bX0_laysOrder (g, d + 7, 0, 0, Q) 1 [some (vR 400), some (vI n), some (vI (dsF m n p.toNat).1), some (vI (dsF m n p.toNat).2), some (vI p), none, none] [] (v, T) 0 0 := by
  have hf := fac_bd hm.2
  intro r
  induction r with
  | zero =>
    intro p v hV hO hp hr hE hQ
    refine jW_step ?_
    simp (disch := (first | decide | omega)) only [bX0_laysOrder, jxs, hps, jtsw, jlsw, List.length_cons, List.length_nil, true_and, and_true, true_implies, false_implies, implies_true, not_true_eq_false, not_false_eq_true, false_and, and_false, if_true, if_false, or_true, true_or, or_false, false_or, Classical.not_not, and_self, Int.reduceAdd, Int.reduceMul, Int.reduceSub, Int.reduceNeg, Int.reduceLT, Int.reduceLE, Int.reduceEq, Int.reduceNe, Int.reduceToNat, Nat.reduceAdd, Nat.reduceMul, Nat.reduceSub, Nat.reduceLeDiff, Nat.reduceLT, Nat.reduceEqDiff, reduceIte, Nat.zero_le, Nat.le_refl, Nat.add_zero, Nat.zero_add, xwT hT, xwV hV, hO.1]
    (try refine ⟨fun _ => ?_, fun h9 => (by exfalso; omega)⟩)
    (repeat (refine And.intro (by (first | omega | assumption | trivial | (simp only [inI]; omega) | (simp only [inL]; omega) | (refine jb_01) | (exact jb_in))) ?_))
    exact hQ v (by rw [show m = p by omega] at hE ⊢; exact hE) (fun _ _ => rfl)
  | succ r ih =>
    intro p v hV hO hp hr hE hQ
    have st := dec_st hm hn ⟨hp, (by omega : p < m)⟩
    have fb := fac_bd (n := m - 1 - p) (by omega)
    obtain ⟨s1, s2, s3, s4, s5, s6, s7, s8⟩ := st
    have goal2 : jW bX0_laysOrder (g, d + 7, 0, 0, Q) 1 [some (vR 400), some (vI n), some (vI ((dsF m n p.toNat).1 % fac (m - 1 - p))), some (vI ((dsF m n p.toNat).2 + 2 ^ (dec m n p).toNat)), some (vI (p + 1)), none, none] [] (upA v 527 (up1 (v 527) p (el (dec m n p))), T) 0 0 := by
      rw [← s7, ← s8]
      refine ih (p + 1) _ (by (first | assumption | (repeat (first | assumption | refine PV.A ?_ (by decide) | refine PV.F ?_ ?_ | refine twR.up ?_ (by decide) | refine PV.r ?_)))) (hO.fr (by rw [upA_ne (by omega)]) (upA_ne (by omega))) (by omega) (by omega) ?_ ?_
      · rw [upA_eq]
        intro x x0 x1
        by_cases h : x = p
        · rw [h, up1_eq]
        · rw [up1_ne h]
          exact hE x x0 (by omega)
      · intro w h1 h2
        exact hQ w h1 (fun a ha => (h2 a ha).trans (upA_ne ha))
    have he := hO.2 (dec m n p) s3.1 s3.2
    generalize (dsF m n p.toNat).1 = L at *
    generalize (dsF m n p.toNat).2 = U at *
    have hq : 0 ≤ L / fac (m - 1 - p) ∧ L / fac (m - 1 - p) ≤ 1000 := ⟨Int.ediv_nonneg s5.1 (by omega), by have := Int.ediv_le_self (b := fac (m - 1 - p)) (show 0 ≤ L by omega); omega⟩
    refine jW_step ?_
    simp (disch := (first | decide | omega)) only [bX0_laysOrder, jxs, hps, jtsw, jlsw, List.length_cons, List.length_nil, true_and, and_true, true_implies, false_implies, implies_true, not_true_eq_false, not_false_eq_true, false_and, and_false, if_true, if_false, or_true, true_or, or_false, false_or, Classical.not_not, and_self, Int.reduceAdd, Int.reduceMul, Int.reduceSub, Int.reduceNeg, Int.reduceLT, Int.reduceLE, Int.reduceEq, Int.reduceNe, Int.reduceToNat, Nat.reduceAdd, Nat.reduceMul, Nat.reduceSub, Nat.reduceLeDiff, Nat.reduceLT, Nat.reduceEqDiff, reduceIte, Nat.zero_le, Nat.le_refl, Nat.add_zero, Nat.zero_add, xwT hT, xwV hV, hO.1]
    (first | refine ⟨fun h9 => (by exfalso; omega), fun _ => ?_⟩ | intro _)
    (repeat (refine And.intro (by (first | omega | assumption | trivial | (simp only [inI]; omega) | (simp only [inL]; omega) | (refine jb_01) | (exact jb_in))) ?_))
    refine ⟨0, 0, ⟨by omega, by omega⟩, xw_rows hT hV (by omega) ?_⟩
    simp (disch := (first | decide | omega)) only [jxs, hps, jtsw, jlsw, List.length_cons, List.length_nil, true_and, and_true, true_implies, false_implies, implies_true, not_true_eq_false, not_false_eq_true, false_and, and_false, if_true, if_false, or_true, true_or, or_false, false_or, Classical.not_not, and_self, Int.reduceAdd, Int.reduceMul, Int.reduceSub, Int.reduceNeg, Int.reduceLT, Int.reduceLE, Int.reduceEq, Int.reduceNe, Int.reduceToNat, Nat.reduceAdd, Nat.reduceMul, Nat.reduceSub, Nat.reduceLeDiff, Nat.reduceLT, Nat.reduceEqDiff, reduceIte, Nat.zero_le, Nat.le_refl, Nat.add_zero, Nat.zero_add, xwT hT, xwV hV, hO.1]
    (repeat (refine And.intro (by (first | omega | assumption | trivial | (simp only [inI]; omega) | (simp only [inL]; omega) | (refine jb_01) | (exact jb_in))) ?_))
    refine ⟨0, 0, ⟨by omega, by omega⟩, xw_rows hT hV (by omega) ?_⟩
    simp (disch := (first | decide | omega)) only [jxs, hps, jtsw, jlsw, List.length_cons, List.length_nil, true_and, and_true, true_implies, false_implies, implies_true, not_true_eq_false, not_false_eq_true, false_and, and_false, if_true, if_false, or_true, true_or, or_false, false_or, Classical.not_not, and_self, Int.reduceAdd, Int.reduceMul, Int.reduceSub, Int.reduceNeg, Int.reduceLT, Int.reduceLE, Int.reduceEq, Int.reduceNe, Int.reduceToNat, Nat.reduceAdd, Nat.reduceMul, Nat.reduceSub, Nat.reduceLeDiff, Nat.reduceLT, Nat.reduceEqDiff, reduceIte, Nat.zero_le, Nat.le_refl, Nat.add_zero, Nat.zero_add, xwT hT, xwV hV]
    (repeat (refine And.intro (by (first | omega | assumption | trivial | (simp only [inI]; omega) | (simp only [inL]; omega) | (refine jb_01) | (exact jb_in))) ?_))
    exact xw_lo_2 (el := el) hT hV s4 ⟨⟨s3.1, by omega⟩, s6⟩ (by omega) he goal2 8 _ 0 s1 s2 (by omega) (by omega) hq
theorem xw_laysOrder {n m : Int} {el : Int → Int} {v : Int → Int → Int} (hT : PT T) (hV : PV v) (hO : CHO v m el) (hS : (0 ≤ m ∧ m ≤ 6) ∧ (0 ≤ n ∧ n < fac m)) (hQ : ∀ w, EQm m (w 527) (fun q => el (dec m n q)) → (∀ a, a ≠ 527 → w a = v a) → Q (.inl none) (w, T)) : jmet g (d + 8) 0 0 MX0_laysOrder [vR 400, vI n] (v, T) Q := by
  refine jmet_of (ls := [some (vR 400), some (vI n), none, none, none, none, none]) sX0_laysOrder rfl (by decide +kernel) (by decide) rfl (by simp [jent]) ?_
  refine jW_step ?_
  simp (disch := (first | decide | omega)) only [bX0_laysOrder, jxs, hps, jtsw, jlsw, List.length_cons, List.length_nil, true_and, and_true, true_implies, false_implies, implies_true, not_true_eq_false, not_false_eq_true, false_and, and_false, if_true, if_false, or_true, true_or, or_false, false_or, Classical.not_not, and_self, Int.reduceAdd, Int.reduceMul, Int.reduceSub, Int.reduceNeg, Int.reduceLT, Int.reduceLE, Int.reduceEq, Int.reduceNe, Int.reduceToNat, Nat.reduceAdd, Nat.reduceMul, Nat.reduceSub, Nat.reduceLeDiff, Nat.reduceLT, Nat.reduceEqDiff, reduceIte, Nat.zero_le, Nat.le_refl, Nat.add_zero, Nat.zero_add, xwT hT, xwV hV]
  exact xw_lo_1 (el := el) hT hS.1 hS.2 m.toNat 0 v hV hO (by omega) (by omega) (fun i i0 i1 => by omega) hQ
theorem xw_no_2 {x p m : Int} {v : Int → Int → Int} (hT : PT T) (hV : PV v) (hv : v 400 13 = m) (hp : 0 ≤ p ∧ p < m ∧ m ≤ 6) : ∀ (n : Nat) (q lo : Int), p < q → m = q + n → (0 ≤ lo ∧ lo + n ≤ 10) →
    (jW bX0_numberOf (g, d, 0, 0, Q) 2 [some (vR 400), some (vI x), some (vI p), some (vI (lo + lwF (v 527) p n q)), some (vI m)] [] (v, T) 0 0) →
    jW bX0_numberOf (g, d, 0, 0, Q) 2 [some (vR 400), some (vI x), some (vI p), some (vI lo), some (vI q)] [] (v, T) 0 0 := by
  intro n
  induction n with
  | zero =>
    intro q lo hq hn hl hQ
    unfold lwF at hQ
    rw [Int.add_zero, show m = q by omega] at hQ
    exact hQ
  | succ n ih =>
    intro q lo hq hn hl hQ
    unfold lwF at hQ
    have k3 : ∀ z, z = (if v 527 q < v 527 p then (1 : Int) else 0) → jW bX0_numberOf (g, d, 0, 0, Q) 3 [some (vR 400), some (vI x), some (vI p), some (vI lo), some (vI q)] [vI z, vI lo] (v, T) 0 0 := by
      intro z hz
      have z1 : 0 ≤ z ∧ z ≤ 1 := by rw [hz]; split <;> omega
      rw [← hz] at hQ
      refine jW_step ?_
      simp (disch := (first | decide | omega)) only [bX0_numberOf, jxs, hps, jtsw, jlsw, List.length_cons, List.length_nil, true_and, and_true, true_implies, false_implies, implies_true, not_true_eq_false, not_false_eq_true, false_and, and_false, if_true, if_false, or_true, true_or, or_false, false_or, Classical.not_not, and_self, Int.reduceAdd, Int.reduceMul, Int.reduceSub, Int.reduceNeg, Int.reduceLT, Int.reduceLE, Int.reduceEq, Int.reduceNe, Int.reduceToNat, Nat.reduceAdd, Nat.reduceMul, Nat.reduceSub, Nat.reduceLeDiff, Nat.reduceLT, Nat.reduceEqDiff, reduceIte, Nat.zero_le, Nat.le_refl, Nat.add_zero, Nat.zero_add, xwT hT, xwV hV]
      (repeat (refine And.intro (by (first | omega | assumption | trivial | (simp only [inI]; omega) | (simp only [inL]; omega) | (refine jb_01) | (exact jb_in))) ?_))
      refine ih (q + 1) (lo + z) (by omega) (by omega) (by omega) ?_
      rw [show lo + z + lwF (v 527) p n (q + 1) = lo + (z + lwF (v 527) p n (q + 1)) by omega]
      exact hQ
    refine jW_step ?_
    simp (disch := (first | decide | omega)) only [bX0_numberOf, jxs, hps, jtsw, jlsw, List.length_cons, List.length_nil, true_and, and_true, true_implies, false_implies, implies_true, not_true_eq_false, not_false_eq_true, false_and, and_false, if_true, if_false, or_true, true_or, or_false, false_or, Classical.not_not, and_self, Int.reduceAdd, Int.reduceMul, Int.reduceSub, Int.reduceNeg, Int.reduceLT, Int.reduceLE, Int.reduceEq, Int.reduceNe, Int.reduceToNat, Nat.reduceAdd, Nat.reduceMul, Nat.reduceSub, Nat.reduceLeDiff, Nat.reduceLT, Nat.reduceEqDiff, reduceIte, Nat.zero_le, Nat.le_refl, Nat.add_zero, Nat.zero_add, xwT hT, xwV hV, hv]
    (first | refine ⟨fun h9 => (by exfalso; omega), fun _ => ?_⟩ | intro _)
    (repeat (refine And.intro (by (first | omega | assumption | trivial | (simp only [inI]; omega) | (simp only [inL]; omega) | (refine jb_01) | (exact jb_in))) ?_))
    refine ⟨fun h => ?_, fun h => ?_⟩
    · exact k3 0 (by rw [if_neg (by omega)])
    · exact k3 1 (by rw [if_pos (by omega)])
theorem xw_no_1 {m : Int} {v : Int → Int → Int} (hT : PT T) (hV : PV v) (hv : v 400 13 = m) (hm : 0 ≤ m ∧ m ≤ 6) : ∀ (n : Nat) (p x : Int), 0 ≤ p → m = p + n → (0 ≤ x ∧ x < 10 ^ p.toNat) →
    Q (.inl (some (vI (ooF (v 527) m n p x)))) (v, T) → jW bX0_numberOf (g, d, 0, 0, Q) 1 [some (vR 400), some (vI x), some (vI p), none, none] [] (v, T) 0 0 := by
  intro n
  induction n with
  | zero =>
    intro p x hp hn hx hQ
    refine jW_step ?_
    simp (disch := (first | decide | omega)) only [bX0_numberOf, jxs, hps, jtsw, jlsw, List.length_cons, List.length_nil, true_and, and_true, true_implies, false_implies, implies_true, not_true_eq_false, not_false_eq_true, false_and, and_false, if_true, if_false, or_true, true_or, or_false, false_or, Classical.not_not, and_self, Int.reduceAdd, Int.reduceMul, Int.reduceSub, Int.reduceNeg, Int.reduceLT, Int.reduceLE, Int.reduceEq, Int.reduceNe, Int.reduceToNat, Nat.reduceAdd, Nat.reduceMul, Nat.reduceSub, Nat.reduceLeDiff, Nat.reduceLT, Nat.reduceEqDiff, reduceIte, Nat.zero_le, Nat.le_refl, Nat.add_zero, Nat.zero_add, xwT hT, xwV hV, hv]
    (try refine ⟨fun _ => ?_, fun h9 => (by exfalso; omega)⟩)
    (repeat (refine And.intro (by (first | omega | assumption | trivial | (simp only [inI]; omega) | (simp only [inL]; omega) | (refine jb_01) | (exact jb_in))) ?_))
    exact hQ
  | succ n ih =>
    intro p x hp hn hx hQ
    unfold ooF at hQ
    have b := lwF_bd (w := v 527) (p := p) (m - p - 1).toNat (p + 1)
    have hpow : (10 : Int) ^ (p + 1).toNat = 10 ^ p.toNat * 10 := by
      rw [show (p + 1).toNat = p.toNat + 1 by omega, Int.pow_succ]
    have hp10 : (10 : Int) ^ p.toNat ≤ 100000 := by
      have key : ∀ k : Fin 6, (10 : Int) ^ k.val ≤ 100000 := by decide +kernel
      exact key ⟨p.toNat, by omega⟩
    have hprod : 0 ≤ x * (m - p) ∧ x * (m - p) ≤ x * 6 := ⟨Int.mul_nonneg hx.1 (by omega), Int.mul_le_mul_of_nonneg_left (by omega) hx.1⟩
    refine jW_step ?_
    simp (disch := (first | decide | omega)) only [bX0_numberOf, jxs, hps, jtsw, jlsw, List.length_cons, List.length_nil, true_and, and_true, true_implies, false_implies, implies_true, not_true_eq_false, not_false_eq_true, false_and, and_false, if_true, if_false, or_true, true_or, or_false, false_or, Classical.not_not, and_self, Int.reduceAdd, Int.reduceMul, Int.reduceSub, Int.reduceNeg, Int.reduceLT, Int.reduceLE, Int.reduceEq, Int.reduceNe, Int.reduceToNat, Nat.reduceAdd, Nat.reduceMul, Nat.reduceSub, Nat.reduceLeDiff, Nat.reduceLT, Nat.reduceEqDiff, reduceIte, Nat.zero_le, Nat.le_refl, Nat.add_zero, Nat.zero_add, xwT hT, xwV hV, hv]
    (first | refine ⟨fun h9 => (by exfalso; omega), fun _ => ?_⟩ | intro _)
    (repeat (refine And.intro (by (first | omega | assumption | trivial | (simp only [inI]; omega) | (simp only [inL]; omega) | (refine jb_01) | (exact jb_in))) ?_))
    refine xw_no_2 hT hV hv (by omega) (m - p - 1).toNat (p + 1) 0 (by omega) (by omega) (by omega) ?_
    rw [Int.zero_add]
    generalize lwF (v 527) p (m - p - 1).toNat (p + 1) = lo at *
    refine jW_step ?_
    simp (disch := (first | decide | omega)) only [bX0_numberOf, jxs, hps, jtsw, jlsw, List.length_cons, List.length_nil, true_and, and_true, true_implies, false_implies, implies_true, not_true_eq_false, not_false_eq_true, false_and, and_false, if_true, if_false, or_true, true_or, or_false, false_or, Classical.not_not, and_self, Int.reduceAdd, Int.reduceMul, Int.reduceSub, Int.reduceNeg, Int.reduceLT, Int.reduceLE, Int.reduceEq, Int.reduceNe, Int.reduceToNat, Nat.reduceAdd, Nat.reduceMul, Nat.reduceSub, Nat.reduceLeDiff, Nat.reduceLT, Nat.reduceEqDiff, reduceIte, Nat.zero_le, Nat.le_refl, Nat.add_zero, Nat.zero_add, xwT hT, xwV hV, hv]
    (try refine ⟨fun _ => ?_, fun h9 => (by exfalso; omega)⟩)
    (repeat (refine And.intro (by (first | omega | assumption | trivial | (simp only [inI]; omega) | (simp only [inL]; omega) | (refine jb_01) | (exact jb_in))) ?_))
    generalize x * (m - p) = y at *
    refine jW_sub (ls' := [some (vR 400), some (vI (y + lo)), some (vI (p + 1)), none, none]) (by simp [jsub]) ?_
    exact ih (p + 1) (y + lo) (by omega) (by omega) (by rw [hpow]; omega) hQ
theorem xw_numberOf {m : Int} {v : Int → Int → Int} (hT : PT T) (hV : PV v) (hv : v 400 13 = m) (hm : 0 ≤ m ∧ m ≤ 6) (hQ : Q (.inl (some (vI (ooA (v 527) m)))) (v, T)) : jmet g (d + 1) 0 0 MX0_numberOf [vR 400] (v, T) Q := by
  refine jmet_of (ls := [some (vR 400), none, none, none, none]) sX0_numberOf rfl (by decide +kernel) (by decide) rfl (by simp [jent]) ?_
  refine jW_step ?_
  simp (disch := (first | decide | omega)) only [bX0_numberOf, jxs, hps, jtsw, jlsw, List.length_cons, List.length_nil, true_and, and_true, true_implies, false_implies, implies_true, not_true_eq_false, not_false_eq_true, false_and, and_false, if_true, if_false, or_true, true_or, or_false, false_or, Classical.not_not, and_self, Int.reduceAdd, Int.reduceMul, Int.reduceSub, Int.reduceNeg, Int.reduceLT, Int.reduceLE, Int.reduceEq, Int.reduceNe, Int.reduceToNat, Nat.reduceAdd, Nat.reduceMul, Nat.reduceSub, Nat.reduceLeDiff, Nat.reduceLT, Nat.reduceEqDiff, reduceIte, Nat.zero_le, Nat.le_refl, Nat.add_zero, Nat.zero_add, xwT hT, xwV hV]
  exact xw_no_1 hT hV hv hm m.toNat 0 0 (by omega) (by omega) (by decide) hQ
end XG
