/-! ===== the reference: catalogue, whole ===== -/
set_option maxRecDepth 100000
theorem ctF_cg {f f' : Int → Int} {b m : Int} (hf : EQm m f f') (hm : m ≤ 10) : ∀ (n : Nat) (p : Int) (th th' : Int → Int), 0 ≤ p → p + n = m → EQm 10 th th' → EQm 10 (ctF f b n p th) (ctF f' b n p th')
  | 0, _, _, _, _, _, h => h
  | n + 1, p, th, th', hp, hn, h => by
    unfold ctF
    rw [← hf p hp (by omega), ← h p hp (by omega)]
    refine ctF_cg hf hm n (p + 1) _ _ (by omega) (by omega) ?_
    intro i i0 i1
    by_cases e : i = p
    · subst e; rw [up1_eq, up1_eq]
    · rw [up1_ne e, up1_ne e]; exact h i i0 i1
theorem ctL_cg {N m ni b : Int} {c c' : Int → Int} (hc : TAG N c c') (hm : 0 ≤ m ∧ m ≤ 10) : ∀ (n : Nat) (k : Int) (f f' th th' : Int → Int), EQm m f f' → RN f m N → EQm 10 th th' → EQm 10 (ctL c m ni b n k f th) (ctL c' m ni b n k f' th')
  | 0, _, _, _, _, _, _, _, h => h
  | n + 1, k, f, f', th, th', hf, hr, h => by
    unfold ctL
    have q := nitR_cg (kind := (ni + k) % 2) (by omega) hc hf hr
    exact ctL_cg hc hm n (k + 1) _ _ _ _ q.1 q.2 (ctF_cg hf hm.2 m.toNat 0 _ _ (by omega) (by omega) h)
theorem amF_cg {th th' : Int → Int} (h : EQm 10 th th') : ∀ (n : Nat) (p x : Int), 1 ≤ p → p + n ≤ 10 → (0 ≤ x ∧ x < 10) → amF th n p x = amF th' n p x
  | 0, _, _, _, _, _ => rfl
  | n + 1, p, x, hp, hn, hx => by
    unfold amF
    rw [← h p (by omega) (by omega), ← h x hx.1 hx.2]
    exact amF_cg h n (p + 1) _ (by omega) (by omega) (by split <;> omega)
theorem lkF_cg {m : Int} (hm : 0 ≤ m ∧ m ≤ 10) : ∀ (n : Nat) (th th' : Int → Int) (x : Int), EQm 10 th th' → (0 ≤ x ∧ x < 10) → lkF m n th x = lkF m n th' x
  | 0, th, th', x, h, hx => by unfold lkF; rw [h x hx.1 hx.2]
  | n + 1, th, th', x, h, hx => by
    unfold lkF
    have h2 : EQm 10 (up1 th x 0) (up1 th' x 0) := by
      intro i i0 i1
      by_cases e : i = x
      · subst e; rw [up1_eq, up1_eq]
      · rw [up1_ne e, up1_ne e]; exact h i i0 i1
    have e : amA (up1 th x 0) m = amA (up1 th' x 0) m := amF_cg h2 (m - 1).toNat 1 0 (by omega) (by omega) (by omega)
    rw [e]
    exact lkF_cg hm n _ _ _ h2 (amF_bd (m - 1).toNat 1 0 (by omega) (by omega) (by omega))
section TG
variable {g : jjG} {d : Nat} {T : jjT} {Q : jjQ}
theorem tw_catalogue {v : Int → Int → Int} {b n i lk : Int} (hT : PT T) (hV : PV v) (hS : TE v ∧ SH (v 540) ∧ (0 ≤ v 540 1 ∧ v 540 1 < 100000)) (hQ : ∀ u, jky v u → Q (.inl (some (vI (catA (v 540) (v 542) b n i lk)))) (u, T)) : jmet g (d + 9) 0 0 MX2_catalogue [vR 539, vI b, vI n, vI i, vI lk] (v, T) Q := by
  obtain ⟨hE, hH, h1⟩ := hS
  have h0 := hE.1.1
  unfold catA at hQ
  refine jmet_of (ls := [some (vR 539), some (vI b), some (vI n), some (vI i), some (vI lk), none, none, none, none]) sX2_catalogue rfl (by decide +kernel) (by decide) rfl (by simp [jent]) ?_
  refine jW_step ?_
  simp (disch := (first | decide | omega)) only [bX2_catalogue, jxs, hps, jtsw, jlsw, List.length_cons, List.length_nil, true_and, and_true, true_implies, false_implies, implies_true, not_true_eq_false, not_false_eq_true, false_and, and_false, if_true, if_false, or_true, true_or, or_false, false_or, Classical.not_not, and_self, Int.reduceAdd, Int.reduceMul, Int.reduceSub, Int.reduceNeg, Int.reduceLT, Int.reduceLE, Int.reduceEq, Int.reduceNe, Int.reduceToNat, Nat.reduceAdd, Nat.reduceMul, Nat.reduceSub, Nat.reduceLeDiff, Nat.reduceLT, Nat.reduceEqDiff, reduceIte, Nat.zero_le, Nat.le_refl, Nat.add_zero, Nat.zero_add, twT hT, twV hV]
  (repeat (refine And.intro (by (first | omega | assumption | trivial | (simp only [inI]; omega) | (simp only [inL]; omega) | (refine jb_01) | (exact jb_in))) ?_))
  refine ⟨0, 0, ⟨by omega, by omega⟩, tw_isOnShelf hT (by (first | assumption | (repeat (first | assumption | refine PV.A ?_ (by decide) | refine PV.F ?_ ?_ | refine twR.up ?_ (by decide) | refine PV.r ?_)))) (by (first | omega | assumption | trivial | (simp only [inI]; omega) | (simp only [inL]; omega) | (refine jb_01) | (exact jb_in))) ?_⟩
  simp (disch := (first | decide | omega)) only [jxs, hps, jtsw, jlsw, List.length_cons, List.length_nil, true_and, and_true, true_implies, false_implies, implies_true, not_true_eq_false, not_false_eq_true, false_and, and_false, if_true, if_false, or_true, true_or, or_false, false_or, Classical.not_not, and_self, Int.reduceAdd, Int.reduceMul, Int.reduceSub, Int.reduceNeg, Int.reduceLT, Int.reduceLE, Int.reduceEq, Int.reduceNe, Int.reduceToNat, Nat.reduceAdd, Nat.reduceMul, Nat.reduceSub, Nat.reduceLeDiff, Nat.reduceLT, Nat.reduceEqDiff, reduceIte, Nat.zero_le, Nat.le_refl, Nat.add_zero, Nat.zero_add, twT hT, twV hV]
  refine ⟨fun h => ?_, fun h => ?_⟩
  · rw [if_neg h] at hQ
    refine jW_step ?_
    simp (disch := (first | decide | omega)) only [bX2_catalogue, jxs, hps, jtsw, jlsw, List.length_cons, List.length_nil, true_and, and_true, true_implies, false_implies, implies_true, not_true_eq_false, not_false_eq_true, false_and, and_false, if_true, if_false, or_true, true_or, or_false, false_or, Classical.not_not, and_self, Int.reduceAdd, Int.reduceMul, Int.reduceSub, Int.reduceNeg, Int.reduceLT, Int.reduceLE, Int.reduceEq, Int.reduceNe, Int.reduceToNat, Nat.reduceAdd, Nat.reduceMul, Nat.reduceSub, Nat.reduceLeDiff, Nat.reduceLT, Nat.reduceEqDiff, reduceIte, Nat.zero_le, Nat.le_refl, Nat.add_zero, Nat.zero_add, twT hT, twV hV]
    (repeat (refine And.intro (by (first | omega | assumption | trivial | (simp only [inI]; omega) | (simp only [inL]; omega) | (refine jb_01) | (exact jb_in))) ?_))
    exact hQ v jky.rf
  rw [if_pos h] at hQ
  have w0 := (hE.1.2.2.2.2.2.2 (46 + 6 * b + 5) (by omega) (by omega)).1
  (repeat (refine And.intro (by (first | omega | assumption | trivial | (simp only [inI]; omega) | (simp only [inL]; omega) | (refine jb_01) | (exact jb_in))) ?_))
  refine ⟨0, 0, ⟨by omega, by omega⟩, tw_isIn hT (by (first | assumption | (repeat (first | assumption | refine PV.A ?_ (by decide) | refine PV.F ?_ ?_ | refine twR.up ?_ (by decide) | refine PV.r ?_)))) (by (first | omega | assumption | trivial | (simp only [inI]; omega) | (simp only [inL]; omega) | (refine jb_01) | (exact jb_in))) ?_⟩
  simp (disch := (first | decide | omega)) only [jxs, hps, jtsw, jlsw, List.length_cons, List.length_nil, true_and, and_true, true_implies, false_implies, implies_true, not_true_eq_false, not_false_eq_true, false_and, and_false, if_true, if_false, or_true, true_or, or_false, false_or, Classical.not_not, and_self, Int.reduceAdd, Int.reduceMul, Int.reduceSub, Int.reduceNeg, Int.reduceLT, Int.reduceLE, Int.reduceEq, Int.reduceNe, Int.reduceToNat, Nat.reduceAdd, Nat.reduceMul, Nat.reduceSub, Nat.reduceLeDiff, Nat.reduceLT, Nat.reduceEqDiff, reduceIte, Nat.zero_le, Nat.le_refl, Nat.add_zero, Nat.zero_add, twT hT, twV hV]
  refine ⟨fun h2 => ?_, fun h2 => ?_⟩
  · rw [if_pos h2] at hQ
    (repeat (refine And.intro (by (first | omega | assumption | trivial | (simp only [inI]; omega) | (simp only [inL]; omega) | (refine jb_01) | (exact jb_in))) ?_))
    refine ⟨0, 0, ⟨by omega, by omega⟩, tw_get hT (by (first | assumption | (repeat (first | assumption | refine PV.A ?_ (by decide) | refine PV.F ?_ ?_ | refine twR.up ?_ (by decide) | refine PV.r ?_)))) (by (first | omega | assumption | trivial | (simp only [inI]; omega) | (simp only [inL]; omega) | (refine jb_01) | (exact jb_in))) ?_⟩
    simp (disch := (first | decide | omega)) only [jxs, hps, jtsw, jlsw, List.length_cons, List.length_nil, true_and, and_true, true_implies, false_implies, implies_true, not_true_eq_false, not_false_eq_true, false_and, and_false, if_true, if_false, or_true, true_or, or_false, false_or, Classical.not_not, and_self, Int.reduceAdd, Int.reduceMul, Int.reduceSub, Int.reduceNeg, Int.reduceLT, Int.reduceLE, Int.reduceEq, Int.reduceNe, Int.reduceToNat, Nat.reduceAdd, Nat.reduceMul, Nat.reduceSub, Nat.reduceLeDiff, Nat.reduceLT, Nat.reduceEqDiff, reduceIte, Nat.zero_le, Nat.le_refl, Nat.add_zero, Nat.zero_add, twT hT, twV hV]
    (repeat (refine And.intro (by (first | omega | assumption | trivial | (simp only [inI]; omega) | (simp only [inL]; omega) | (refine jb_01) | (exact jb_in))) ?_))
    have hm := hE.1.2.2.2.2.2.1 (13 + v 540 (46 + 6 * b + 5)) (by omega) (by omega)
    have hs := h.2
    generalize v 540 (46 + 6 * b + 5) = s at *
    (repeat (refine And.intro (by (first | omega | assumption | trivial | (simp only [inI]; omega) | (simp only [inL]; omega) | (refine jb_01) | (exact jb_in))) ?_))
    refine ⟨0, 0, ⟨by omega, by omega⟩, tw_isIn hT (by (first | assumption | (repeat (first | assumption | refine PV.A ?_ (by decide) | refine PV.F ?_ ?_ | refine twR.up ?_ (by decide) | refine PV.r ?_)))) (by (first | omega | assumption | trivial | (simp only [inI]; omega) | (simp only [inL]; omega) | (refine jb_01) | (exact jb_in))) ?_⟩
    simp (disch := (first | decide | omega)) only [jxs, hps, jtsw, jlsw, List.length_cons, List.length_nil, true_and, and_true, true_implies, false_implies, implies_true, not_true_eq_false, not_false_eq_true, false_and, and_false, if_true, if_false, or_true, true_or, or_false, false_or, Classical.not_not, and_self, Int.reduceAdd, Int.reduceMul, Int.reduceSub, Int.reduceNeg, Int.reduceLT, Int.reduceLE, Int.reduceEq, Int.reduceNe, Int.reduceToNat, Nat.reduceAdd, Nat.reduceMul, Nat.reduceSub, Nat.reduceLeDiff, Nat.reduceLT, Nat.reduceEqDiff, reduceIte, Nat.zero_le, Nat.le_refl, Nat.add_zero, Nat.zero_add, twT hT, twV hV]
    refine ⟨fun h3 => ?_, fun h3 => ?_⟩
    · rw [if_pos h3] at hQ
      unfold catR ctA at hQ
      (repeat (refine And.intro (by (first | omega | assumption | trivial | (simp only [inI]; omega) | (simp only [inL]; omega) | (refine jb_01) | (exact jb_in))) ?_))
      refine ⟨0, 0, ⟨by omega, by omega⟩, tw_layRow2 hT hV ⟨hE, hH, w0, hs⟩ ?_⟩
      intro w hw
      have hVw := hw.pv hV
      have j1 : jky v w := ⟨⟨_, hw.2.2.2.1⟩, fun a a1 a2 a3 => hw.2.2.2.2.2 a a1 (by omega) (by omega) (by omega) (by omega) (by omega)⟩
      have w28 : w 539 28 = (lrZ (v 540) s (-1)).2 := by rw [hw.2.2.2.1, up1_eq]
      have tg : TAG (v 540 0) (w 548) (tbl (v 540) (v 542)) := hw.2.2.2.2.1.tag (by omega)
      have hml := hw.2.2.1
      have hr := hw.2.1
      have he := hw.1
      have ea := j1.a
      generalize (lrZ (v 540) s (-1)).2 = m at *
      generalize (lrZ (v 540) s (-1)).1 = f0 at *
      have hRO : RO (w 549) m := ⟨hml, fun x x0 x1 => ⟨(hr x x0 x1).1, by have := (hr x x0 x1).2; omega⟩⟩
      simp (disch := (first | decide | omega)) only [jxs, hps, jtsw, jlsw, List.length_cons, List.length_nil, true_and, and_true, true_implies, false_implies, implies_true, not_true_eq_false, not_false_eq_true, false_and, and_false, if_true, if_false, or_true, true_or, or_false, false_or, Classical.not_not, and_self, Int.reduceAdd, Int.reduceMul, Int.reduceSub, Int.reduceNeg, Int.reduceLT, Int.reduceLE, Int.reduceEq, Int.reduceNe, Int.reduceToNat, Nat.reduceAdd, Nat.reduceMul, Nat.reduceSub, Nat.reduceLeDiff, Nat.reduceLT, Nat.reduceEqDiff, reduceIte, Nat.zero_le, Nat.le_refl, Nat.add_zero, Nat.zero_add, twT hT, twV hV]
      refine tw_cat_2 hT 10 0 w hVw (by omega) (by omega) ?_
      refine tw_cat_3 (m := m) hT h2 (n + 1).toNat 0 _ (hVw.A (by decide)) (by rw [upA_ne (by omega)]; exact w28) (by rw [upA_ne (by omega)]; exact hRO) (by omega) (by omega) (by rw [upA_ne (by omega), ea]; exact h1) ?_ ?_
      · intro x x0 x1
        rw [upA_eq, if_pos ⟨x0, x1⟩]
        omega
      rw [upA_eq, upA_ne (by omega), upA_ne (by omega), upA_ne (by omega), ea]
      intro u hu hu28 hu60
      have ju : jky v u := (j1.tr (jky.up (by omega))).tr hu
      have hVu := ju.pv hV
      have cg : EQm 10 (u 560) (ctL (tbl (v 540) (v 542)) m (v 540 1) b (n + 1).toNat 0 f0 (fun _ => 0)) := by
        rw [hu60]
        exact ctL_cg tg hml (n + 1).toNat 0 _ _ _ _ he hr (fun x x0 x1 => if_pos ⟨x0, x1⟩)
      have hV := hVu
      refine jW_step ?_
      simp (disch := (first | decide | omega)) only [bX2_catalogue, jxs, hps, jtsw, jlsw, List.length_cons, List.length_nil, true_and, and_true, true_implies, false_implies, implies_true, not_true_eq_false, not_false_eq_true, false_and, and_false, if_true, if_false, or_true, true_or, or_false, false_or, Classical.not_not, and_self, Int.reduceAdd, Int.reduceMul, Int.reduceSub, Int.reduceNeg, Int.reduceLT, Int.reduceLE, Int.reduceEq, Int.reduceNe, Int.reduceToNat, Nat.reduceAdd, Nat.reduceMul, Nat.reduceSub, Nat.reduceLeDiff, Nat.reduceLT, Nat.reduceEqDiff, reduceIte, Nat.zero_le, Nat.le_refl, Nat.add_zero, Nat.zero_add, twT hT, twV hV]
      (try refine ⟨fun _ => ?_, fun h9 => (by exfalso; omega)⟩)
      refine ⟨fun h4 => ?_, fun h4 => ?_⟩
      · rw [if_neg (by omega)] at hQ
        refine jW_step ?_
        simp (disch := (first | decide | omega)) only [bX2_catalogue, jxs, hps, jtsw, jlsw, List.length_cons, List.length_nil, true_and, and_true, true_implies, false_implies, implies_true, not_true_eq_false, not_false_eq_true, false_and, and_false, if_true, if_false, or_true, true_or, or_false, false_or, Classical.not_not, and_self, Int.reduceAdd, Int.reduceMul, Int.reduceSub, Int.reduceNeg, Int.reduceLT, Int.reduceLE, Int.reduceEq, Int.reduceNe, Int.reduceToNat, Nat.reduceAdd, Nat.reduceMul, Nat.reduceSub, Nat.reduceLeDiff, Nat.reduceLT, Nat.reduceEqDiff, reduceIte, Nat.zero_le, Nat.le_refl, Nat.add_zero, Nat.zero_add, twT hT, twV hV]
        (first | refine ⟨fun h9 => (by exfalso; omega), fun _ => ?_⟩ | intro _)
        refine jW_step ?_
        simp (disch := (first | decide | omega)) only [bX2_catalogue, jxs, hps, jtsw, jlsw, List.length_cons, List.length_nil, true_and, and_true, true_implies, false_implies, implies_true, not_true_eq_false, not_false_eq_true, false_and, and_false, if_true, if_false, or_true, true_or, or_false, false_or, Classical.not_not, and_self, Int.reduceAdd, Int.reduceMul, Int.reduceSub, Int.reduceNeg, Int.reduceLT, Int.reduceLE, Int.reduceEq, Int.reduceNe, Int.reduceToNat, Nat.reduceAdd, Nat.reduceMul, Nat.reduceSub, Nat.reduceLeDiff, Nat.reduceLT, Nat.reduceEqDiff, reduceIte, Nat.zero_le, Nat.le_refl, Nat.add_zero, Nat.zero_add, twT hT, twV hV]
        refine tw_cat_8 (k := 0) hT hVu hu28 hml (by omega) (m - 1).toNat 1 0 (by omega) (by omega) (by omega) (by omega) ?_
        have bb := amF_bd (th := u 560) (m - 1).toNat 1 0 (by omega) (by omega) (by omega)
        refine tw_cat_6 (m := m) hT hml (by omega) i.toNat 1 _ u hVu hu28 (by omega) (by omega) bb ?_
        intro y hy
        have e1 : lkF m i.toNat (u 560) (amF (u 560) (m - 1).toNat 1 0) = lkA (ctL (tbl (v 540) (v 542)) m (v 540 1) b (n + 1).toNat 0 f0 (fun _ => 0)) m i := by
          unfold lkA amA
          rw [← amF_cg cg (m - 1).toNat 1 0 (by omega) (by omega) (by omega)]
          exact lkF_cg hml i.toNat _ _ _ cg bb
        rw [e1]
        exact hQ y (ju.tr hy)
      · rw [if_pos (by omega), ← cg i (by omega) (by omega)] at hQ
        (repeat (refine And.intro (by (first | omega | assumption | trivial | (simp only [inI]; omega) | (simp only [inL]; omega) | (refine jb_01) | (exact jb_in))) ?_))
        exact hQ u ju
    · rw [if_neg h3] at hQ
      (repeat (refine And.intro (by (first | omega | assumption | trivial | (simp only [inI]; omega) | (simp only [inL]; omega) | (refine jb_01) | (exact jb_in))) ?_))
      exact hQ v jky.rf
  · rw [if_neg h2] at hQ
    refine jW_step ?_
    simp (disch := (first | decide | omega)) only [bX2_catalogue, jxs, hps, jtsw, jlsw, List.length_cons, List.length_nil, true_and, and_true, true_implies, false_implies, implies_true, not_true_eq_false, not_false_eq_true, false_and, and_false, if_true, if_false, or_true, true_or, or_false, false_or, Classical.not_not, and_self, Int.reduceAdd, Int.reduceMul, Int.reduceSub, Int.reduceNeg, Int.reduceLT, Int.reduceLE, Int.reduceEq, Int.reduceNe, Int.reduceToNat, Nat.reduceAdd, Nat.reduceMul, Nat.reduceSub, Nat.reduceLeDiff, Nat.reduceLT, Nat.reduceEqDiff, reduceIte, Nat.zero_le, Nat.le_refl, Nat.add_zero, Nat.zero_add, twT hT, twV hV]
    (repeat (refine And.intro (by (first | omega | assumption | trivial | (simp only [inI]; omega) | (simp only [inL]; omega) | (refine jb_01) | (exact jb_in))) ?_))
    exact hQ v jky.rf
end TG
