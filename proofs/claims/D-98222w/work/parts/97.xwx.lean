/-! ===== the class: a shelf's pushes ===== -/
-- MODE X
set_option maxRecDepth 100000
theorem CHB.ag {f A A' X : Int → Int} (h : CHB f A X) (h0 : A 0 ≤ 10) (g : AGR A A') (e : A' 0 = A 0) : CHB f A' X := by
  intro a a0 a1
  rw [e] at a1
  refine ⟨(h a a0 a1).1, fun b b0 b1 => ?_⟩
  rw [e] at b1
  rw [(h a a0 a1).2 b b0 b1]
  unfold cgA
  rw [dcA_ag g (by omega) (by omega)]
/-- what a night's walk leans on -/
def NS (A : Int → Int) (c : Int) : Prop := SH A ∧ SI A ∧ 0 ≤ A 9 ∧ WB A c
theorem NS.wri {A : Int → Int} {b o s c : Int} (h : NS A c) (hB : TB A) (h7 : A 7 ≤ 30) : NS (wriA A b o s) (c + 1) := by
  obtain ⟨hH, hI, h9, hW⟩ := h
  have lo := fun i (h1 : i < 1594) (h2 : ¬ i = 9) => wriA_lo (A := A) (b := b) (o := o) (s := s) h9 h1 h2
  have e9 : wriA A b o s 9 = A 9 + 1 := by unfold wriA; rw [up1_eq]
  refine ⟨hH.ext (lo 0 (by omega) (by omega)) (fun i h1 h2 => lo i (by omega) (by omega)) hB, fun k k0 k1 t t0 t1 => ?_, by omega, fun k k0 k1 => ?_⟩
  · rw [lo 7 (by omega) (by omega)] at k1
    rw [lo _ (by omega) (by omega)]
    exact hI k k0 k1 t t0 t1
  · rw [lo 7 (by omega) (by omega)] at k1
    have := hW k k0 k1
    rw [e9, lo _ (by omega) (by omega)]
    omega
theorem NS.le {A : Int → Int} {c c' : Int} (h : NS A c) (hc : c ≤ c') : NS A c' := ⟨h.1, h.2.1, h.2.2.1, fun k k0 k1 => by have := h.2.2.2 k k0 k1; omega⟩
theorem jkM.w23 {v w : Int → Int → Int} {f : Int → Int} (h : w = upA v 404 f) : w 523 = v 523 := by rw [h, upA_ne (by omega)]
section XG
variable {g : jjG} {d : Nat} {T : jjT} {Q : jjQ} {X : Int → Int}
theorem xw_wri {A : Int → Int} {b o s : Int} {v : Int → Int → Int} (hT : PT T) (hV : PV v) (hC : CI (v, T) A X) {c : Int} (hN : NS A c) (hc : c ≤ 440) (hQ : ∀ w, CI (w, T) (wriA A b o s) X → NS (wriA A b o s) (c + 1) → jkM v w → w 523 = v 523 → Q (.inl none) (w, T)) : jmet g (d + 1) 0 0 MX1_writes [vR 401, vI b, vI o, vI s] (v, T) Q := by
  have m := mn6_bd hN.2.2.1
  refine xw_writes hT hV (by rw [hC.pu]; omega) ?_
  exact hQ _ (hC.wri hN.2.2.1 (hN.le hc).2.2.2 hN.2.1) (hN.wri hC.tb hC.2.2.2.2.2.1.2) ((jkR.up).M hV) (upA_ne (by omega))
theorem xw_wp_1 {s od : Int} (hT : PT T) (hs : 0 ≤ s ∧ s < 3) : ∀ (n : Nat) (p c : Int) (A : Int → Int) (v : Int → Int → Int), PV v → CI (v, T) A X → NS A c → c + 2 * n ≤ 440 → CHB (v 523) A X → 0 ≤ p → p ≤ 20 → A (13 + s) < p + 2 * n + 1 →
    (∀ w, CI (w, T) (wpL X s n p A) X → NS (wpL X s n p A) (c + 2 * n) → AGR A (wpL X s n p A) → (∀ i, i < 106 → i ≠ 9 → wpL X s n p A i = A i) → jkM v w → w 523 = v 523 → Q (.inl none) (w, T)) →
    jW bX0_writesPushes (g, d + 112, 0, 0, Q) 1 [some (vR 400), some (vI s), some (vI od), some (vI p), none, none] [] (v, T) 0 0 := by
  have ex : ∀ (p : Int) (A : Int → Int) (v : Int → Int → Int), PV v → CI (v, T) A X → 0 ≤ p → p ≤ 20 → A (13 + s) ≤ p + 1 → Q (.inl none) (v, T) → jW bX0_writesPushes (g, d + 112, 0, 0, Q) 1 [some (vR 400), some (vI s), some (vI od), some (vI p), none, none] [] (v, T) 0 0 := by
    intro p A v hV hC hp hp2 hm hq
    refine jW_step ?_
    simp (disch := (first | decide | omega)) only [bX0_writesPushes, jxs, hps, jtsw, jlsw, List.length_cons, List.length_nil, true_and, and_true, true_implies, false_implies, implies_true, not_true_eq_false, not_false_eq_true, false_and, and_false, if_true, if_false, or_true, true_or, or_false, false_or, Classical.not_not, and_self, Int.reduceAdd, Int.reduceMul, Int.reduceSub, Int.reduceNeg, Int.reduceLT, Int.reduceLE, Int.reduceEq, Int.reduceNe, Int.reduceToNat, Nat.reduceAdd, Nat.reduceMul, Nat.reduceSub, Nat.reduceLeDiff, Nat.reduceLT, Nat.reduceEqDiff, reduceIte, Nat.zero_le, Nat.le_refl, Nat.add_zero, Nat.zero_add, xwT hT, xwV hV]
    (repeat (refine And.intro (by (first | omega | assumption | trivial | (simp only [inI]; omega) | (simp only [inL]; omega) | (refine jb_01) | (exact jb_in))) ?_))
    refine ⟨0, 0, ⟨by omega, by omega⟩, xw_many hT hV hC hs ?_⟩
    simp (disch := (first | decide | omega)) only [jxs, hps, jtsw, jlsw, List.length_cons, List.length_nil, true_and, and_true, true_implies, false_implies, implies_true, not_true_eq_false, not_false_eq_true, false_and, and_false, if_true, if_false, or_true, true_or, or_false, false_or, Classical.not_not, and_self, Int.reduceAdd, Int.reduceMul, Int.reduceSub, Int.reduceNeg, Int.reduceLT, Int.reduceLE, Int.reduceEq, Int.reduceNe, Int.reduceToNat, Nat.reduceAdd, Nat.reduceMul, Nat.reduceSub, Nat.reduceLeDiff, Nat.reduceLT, Nat.reduceEqDiff, reduceIte, Nat.zero_le, Nat.le_refl, Nat.add_zero, Nat.zero_add, xwT hT, xwV hV]
    (try refine ⟨fun _ => ?_, fun h9 => (by exfalso; omega)⟩)
    (repeat (refine And.intro (by (first | omega | assumption | trivial | (simp only [inI]; omega) | (simp only [inL]; omega) | (refine jb_01) | (exact jb_in))) ?_))
    exact hq
  intro n
  induction n with
  | zero =>
    intro p c A v hV hC hN hc hB hp hp2 hm hQ
    unfold wpL at hQ
    exact ex p A v hV hC hp hp2 (by omega) (hQ v hC (hN.le (by omega)) AGR.rf (fun _ _ _ => rfl) (jkM.rf hV) rfl)
  | succ n ih =>
    intro p c A v hV hC hN hc hB hp hp2 hm hQ
    have hTB := hC.tb
    have h0 := hTB.1
    have hm10 := hTB.2.2.2.2.2.1 (13 + s) (by omega) (by omega)
    unfold wpL at hQ
    by_cases h : A (13 + s) ≤ p + 1
    · rw [if_pos h] at hQ
      exact ex p A v hV hC hp hp2 h (hQ v hC (hN.le (by omega)) AGR.rf (fun _ _ _ => rfl) (jkM.rf hV) rfl)
    · rw [if_neg h] at hQ
      have hH := hN.1
      have b1 := hTB.2.2.2.2.2.2 (16 + 10 * s + p) (by omega) (by omega)
      have b2 := hTB.2.2.2.2.2.2 (16 + 10 * s + (p + 1)) (by omega) (by omega)
      have l1 := (hH.1 s p hs.1 hs.2 hp (by omega)).1
      have l2 := (hH.1 s (p + 1) hs.1 hs.2 (by omega) (by omega)).1
      have ne : A (16 + 10 * s + p) ≠ A (16 + 10 * s + (p + 1)) := by
        intro e
        have := hH.2.1 s p (p + 1) hs.1 hs.2 hp (by omega) (by omega) (by omega) e
        omega
      have et : cgA A X (A (16 + 10 * s + p)) (A (16 + 10 * s + (p + 1))) = dcA A X (A (16 + 10 * s + p)) (A (16 + 10 * s + (p + 1))) := by
        unfold cgA
        rw [if_neg ne]
      -- on to the next two
      have k3 : ∀ A' u l4 l5, CI (u, T) A' X → NS A' (c + 2) → AGR A A' → (∀ i, i < 106 → i ≠ 9 → A' i = A i) → jkM v u → u 523 = v 523 →
          (∀ w, CI (w, T) (wpL X s n (p + 2) A') X → NS (wpL X s n (p + 2) A') (c + 2 + 2 * n) → AGR A' (wpL X s n (p + 2) A') → (∀ i, i < 106 → i ≠ 9 → wpL X s n (p + 2) A' i = A' i) → jkM u w → w 523 = u 523 → Q (.inl none) (w, T)) →
          jW bX0_writesPushes (g, d + 112, 0, 0, Q) 3 [some (vR 400), some (vI s), some (vI od), some (vI p), some (vI l4), some (vI l5)] [] (u, T) 0 0 := by
        intro A' u l4 l5 hCu hNu ag lo ju e23 hq
        have hV := ju.pv
        refine jW_step ?_
        simp (disch := (first | decide | omega)) only [bX0_writesPushes, jxs, hps, jtsw, jlsw, List.length_cons, List.length_nil, true_and, and_true, true_implies, false_implies, implies_true, not_true_eq_false, not_false_eq_true, false_and, and_false, if_true, if_false, or_true, true_or, or_false, false_or, Classical.not_not, and_self, Int.reduceAdd, Int.reduceMul, Int.reduceSub, Int.reduceNeg, Int.reduceLT, Int.reduceLE, Int.reduceEq, Int.reduceNe, Int.reduceToNat, Nat.reduceAdd, Nat.reduceMul, Nat.reduceSub, Nat.reduceLeDiff, Nat.reduceLT, Nat.reduceEqDiff, reduceIte, Nat.zero_le, Nat.le_refl, Nat.add_zero, Nat.zero_add, xwT hT, xwV hV]
        (repeat (refine And.intro (by (first | omega | assumption | trivial | (simp only [inI]; omega) | (simp only [inL]; omega) | (refine jb_01) | (exact jb_in))) ?_))
        refine jW_sub (ls' := [some (vR 400), some (vI s), some (vI od), some (vI (p + 2)), none, none]) (by simp [jsub]) ?_
        refine ih (p + 2) (c + 2) A' u hV hCu hNu (by omega) (by rw [e23]; exact hB.ag h0.2 ag (lo 0 (by omega) (by omega))) (by omega) (by omega) (by rw [lo _ (by omega) (by omega)]; omega) hq
      refine jW_step ?_
      simp (disch := (first | decide | omega)) only [bX0_writesPushes, jxs, hps, jtsw, jlsw, List.length_cons, List.length_nil, true_and, and_true, true_implies, false_implies, implies_true, not_true_eq_false, not_false_eq_true, false_and, and_false, if_true, if_false, or_true, true_or, or_false, false_or, Classical.not_not, and_self, Int.reduceAdd, Int.reduceMul, Int.reduceSub, Int.reduceNeg, Int.reduceLT, Int.reduceLE, Int.reduceEq, Int.reduceNe, Int.reduceToNat, Nat.reduceAdd, Nat.reduceMul, Nat.reduceSub, Nat.reduceLeDiff, Nat.reduceLT, Nat.reduceEqDiff, reduceIte, Nat.zero_le, Nat.le_refl, Nat.add_zero, Nat.zero_add, xwT hT, xwV hV]
      (repeat (refine And.intro (by (first | omega | assumption | trivial | (simp only [inI]; omega) | (simp only [inL]; omega) | (refine jb_01) | (exact jb_in))) ?_))
      refine ⟨0, 0, ⟨by omega, by omega⟩, xw_many hT hV hC hs ?_⟩
      simp (disch := (first | decide | omega)) only [jxs, hps, jtsw, jlsw, List.length_cons, List.length_nil, true_and, and_true, true_implies, false_implies, implies_true, not_true_eq_false, not_false_eq_true, false_and, and_false, if_true, if_false, or_true, true_or, or_false, false_or, Classical.not_not, and_self, Int.reduceAdd, Int.reduceMul, Int.reduceSub, Int.reduceNeg, Int.reduceLT, Int.reduceLE, Int.reduceEq, Int.reduceNe, Int.reduceToNat, Nat.reduceAdd, Nat.reduceMul, Nat.reduceSub, Nat.reduceLeDiff, Nat.reduceLT, Nat.reduceEqDiff, reduceIte, Nat.zero_le, Nat.le_refl, Nat.add_zero, Nat.zero_add, xwT hT, xwV hV]
      (first | refine ⟨fun h9 => (by exfalso; omega), fun _ => ?_⟩ | intro _)
      refine ⟨0, 0, ⟨by omega, by omega⟩, xw_bookAt hT hV hC hs ⟨hp, by omega⟩ ?_⟩
      simp (disch := (first | decide | omega)) only [jxs, hps, jtsw, jlsw, List.length_cons, List.length_nil, true_and, and_true, true_implies, false_implies, implies_true, not_true_eq_false, not_false_eq_true, false_and, and_false, if_true, if_false, or_true, true_or, or_false, false_or, Classical.not_not, and_self, Int.reduceAdd, Int.reduceMul, Int.reduceSub, Int.reduceNeg, Int.reduceLT, Int.reduceLE, Int.reduceEq, Int.reduceNe, Int.reduceToNat, Nat.reduceAdd, Nat.reduceMul, Nat.reduceSub, Nat.reduceLeDiff, Nat.reduceLT, Nat.reduceEqDiff, reduceIte, Nat.zero_le, Nat.le_refl, Nat.add_zero, Nat.zero_add, xwT hT, xwV hV]
      (repeat (refine And.intro (by (first | omega | assumption | trivial | (simp only [inI]; omega) | (simp only [inL]; omega) | (refine jb_01) | (exact jb_in))) ?_))
      refine ⟨0, 0, ⟨by omega, by omega⟩, xw_bookAt hT hV hC hs ⟨by omega, by omega⟩ ?_⟩
      simp (disch := (first | decide | omega)) only [jxs, hps, jtsw, jlsw, List.length_cons, List.length_nil, true_and, and_true, true_implies, false_implies, implies_true, not_true_eq_false, not_false_eq_true, false_and, and_false, if_true, if_false, or_true, true_or, or_false, false_or, Classical.not_not, and_self, Int.reduceAdd, Int.reduceMul, Int.reduceSub, Int.reduceNeg, Int.reduceLT, Int.reduceLE, Int.reduceEq, Int.reduceNe, Int.reduceToNat, Nat.reduceAdd, Nat.reduceMul, Nat.reduceSub, Nat.reduceLeDiff, Nat.reduceLT, Nat.reduceEqDiff, reduceIte, Nat.zero_le, Nat.le_refl, Nat.add_zero, Nat.zero_add, xwT hT, xwV hV]
      refine ⟨0, 0, ⟨by omega, by omega⟩, xw_doChange hT hV h0 hB ⟨⟨b1.1, l1⟩, ⟨b2.1, l2⟩⟩ ?_⟩
      rw [et]
      unfold chW at hQ
      generalize hz : dcA A X (A (16 + 10 * s + p)) (A (16 + 10 * s + (p + 1))) = z at *
      generalize hl : A (16 + 10 * s + p) = l at *
      generalize hr : A (16 + 10 * s + (p + 1)) = r at *
      simp (disch := (first | decide | omega)) only [jxs, hps, jtsw, jlsw, List.length_cons, List.length_nil, true_and, and_true, true_implies, false_implies, implies_true, not_true_eq_false, not_false_eq_true, false_and, and_false, if_true, if_false, or_true, true_or, or_false, false_or, Classical.not_not, and_self, Int.reduceAdd, Int.reduceMul, Int.reduceSub, Int.reduceNeg, Int.reduceLT, Int.reduceLE, Int.reduceEq, Int.reduceNe, Int.reduceToNat, Nat.reduceAdd, Nat.reduceMul, Nat.reduceSub, Nat.reduceLeDiff, Nat.reduceLT, Nat.reduceEqDiff, reduceIte, Nat.zero_le, Nat.le_refl, Nat.add_zero, Nat.zero_add, xwT hT, xwV hV]
      by_cases hz0 : z = 0
      · rw [if_pos hz0] at hQ
        refine ⟨fun h9 => absurd hz0 h9, fun _ => ?_⟩
        exact k3 A v _ _ hC (hN.le (by omega)) AGR.rf (fun _ _ _ => rfl) (jkM.rf hV) rfl (fun w w1 w2 w3 w4 w5 w6 => hQ w w1 (w2.le (by omega)) w3 w4 w5 w6)
      · rw [if_neg hz0] at hQ
        refine ⟨fun _ => ?_, fun h9 => absurd h9 hz0⟩
        -- the second push
        have k2 : ∀ u, CI (u, T) (chW1 A X s l r) X → NS (chW1 A X s l r) (c + 1) → AGR A (chW1 A X s l r) → (∀ i, i < 106 → i ≠ 9 → chW1 A X s l r i = A i) → jkM v u → u 523 = v 523 → jW bX0_writesPushes (g, d + 112, 0, 0, Q) 2 [some (vR 400), some (vI s), some (vI od), some (vI p), some (vI l), some (vI r)] [] (u, T) 0 0 := by
          intro u hCu hNu ag lo ju e23
          generalize chW1 A X s l r = B at *
          have hVu := ju.pv
          have hV := hVu
          refine jW_step ?_
          simp (disch := (first | decide | omega)) only [bX0_writesPushes, jxs, hps, jtsw, jlsw, List.length_cons, List.length_nil, true_and, and_true, true_implies, false_implies, implies_true, not_true_eq_false, not_false_eq_true, false_and, and_false, if_true, if_false, or_true, true_or, or_false, false_or, Classical.not_not, and_self, Int.reduceAdd, Int.reduceMul, Int.reduceSub, Int.reduceNeg, Int.reduceLT, Int.reduceLE, Int.reduceEq, Int.reduceNe, Int.reduceToNat, Nat.reduceAdd, Nat.reduceMul, Nat.reduceSub, Nat.reduceLeDiff, Nat.reduceLT, Nat.reduceEqDiff, reduceIte, Nat.zero_le, Nat.le_refl, Nat.add_zero, Nat.zero_add, xwT hT, xwV hV]
          refine ⟨0, 0, ⟨by omega, by omega⟩, xw_pushesNow hT hVu hCu ⟨by rw [lo 0 (by omega) (by omega)]; exact ⟨b2.1, l2⟩, by rw [lo 0 (by omega) (by omega)]; exact ⟨b1.1, l1⟩, by omega⟩ ?_⟩
          intro y hy
          have hVy := hy.pv hVu
          have hCy := hy.ci hCu
          have jy := ju.tr (hy.M hVu)
          have ey : y 523 = v 523 := (hy.1 523 (by omega)).trans e23
          have hV := hVy
          by_cases hd : dpA B X r l 0 = 0
          · rw [if_pos hd] at hQ
            rw [hd]
            simp (disch := (first | decide | omega)) only [jxs, hps, jtsw, jlsw, List.length_cons, List.length_nil, true_and, and_true, true_implies, false_implies, implies_true, not_true_eq_false, not_false_eq_true, false_and, and_false, if_true, if_false, or_true, true_or, or_false, false_or, Classical.not_not, and_self, Int.reduceAdd, Int.reduceMul, Int.reduceSub, Int.reduceNeg, Int.reduceLT, Int.reduceLE, Int.reduceEq, Int.reduceNe, Int.reduceToNat, Nat.reduceAdd, Nat.reduceMul, Nat.reduceSub, Nat.reduceLeDiff, Nat.reduceLT, Nat.reduceEqDiff, reduceIte, Nat.zero_le, Nat.le_refl, Nat.add_zero, Nat.zero_add, xwT hT, xwV hV]
            refine k3 B y _ _ hCy (hNu.le (by omega)) ag lo jy ey (fun w w1 w2 w3 w4 w5 w6 => hQ w w1 (w2.le (by omega)) (ag.tr w3) (fun i i0 i1 => (w4 i i0 i1).trans (lo i i0 i1)) (jy.tr w5) (w6.trans ey))
          · rw [if_neg hd] at hQ
            simp (disch := (first | decide | omega)) only [jxs, hps, jtsw, jlsw, List.length_cons, List.length_nil, true_and, and_true, true_implies, false_implies, implies_true, not_true_eq_false, not_false_eq_true, false_and, and_false, if_true, if_false, or_true, true_or, or_false, false_or, Classical.not_not, and_self, Int.reduceAdd, Int.reduceMul, Int.reduceSub, Int.reduceNeg, Int.reduceLT, Int.reduceLE, Int.reduceEq, Int.reduceNe, Int.reduceToNat, Nat.reduceAdd, Nat.reduceMul, Nat.reduceSub, Nat.reduceLeDiff, Nat.reduceLT, Nat.reduceEqDiff, reduceIte, Nat.zero_le, Nat.le_refl, Nat.add_zero, Nat.zero_add, xwT hT, xwV hV]
            refine ⟨fun h9 => absurd h9 hd, fun _ => ?_⟩
            refine ⟨0, 0, ⟨by omega, by omega⟩, xw_wri hT hVy hCy hNu (by omega) ?_⟩
            intro x x1 x2 x3 x4
            have hV := x3.pv
            simp (disch := (first | decide | omega)) only [jxs, hps, jtsw, jlsw, List.length_cons, List.length_nil, true_and, and_true, true_implies, false_implies, implies_true, not_true_eq_false, not_false_eq_true, false_and, and_false, if_true, if_false, or_true, true_or, or_false, false_or, Classical.not_not, and_self, Int.reduceAdd, Int.reduceMul, Int.reduceSub, Int.reduceNeg, Int.reduceLT, Int.reduceLE, Int.reduceEq, Int.reduceNe, Int.reduceToNat, Nat.reduceAdd, Nat.reduceMul, Nat.reduceSub, Nat.reduceLeDiff, Nat.reduceLT, Nat.reduceEqDiff, reduceIte, Nat.zero_le, Nat.le_refl, Nat.add_zero, Nat.zero_add, xwT hT, xwV hV]
            have ag2 : AGR A (wriA B r l s) := ag.tr (wriA_AG hNu.2.2.1)
            have lo2 : ∀ i, i < 106 → i ≠ 9 → wriA B r l s i = A i := fun i i0 i1 => (wriA_lo hNu.2.2.1 (by omega) i1).trans (lo i i0 i1)
            exact k3 _ x _ _ x1 (x2.le (by omega)) ag2 lo2 (jy.tr x3) (x4.trans ey) (fun w w1 w2 w3 w4 w5 w6 => hQ w w1 (w2.le (by omega)) (ag2.tr w3) (fun i i0 i1 => (w4 i i0 i1).trans (lo2 i i0 i1)) ((jy.tr x3).tr w5) (w6.trans (x4.trans ey)))
        refine ⟨0, 0, ⟨by omega, by omega⟩, xw_pushesNow hT hV hC ⟨⟨b1.1, l1⟩, ⟨b2.1, l2⟩, by omega⟩ ?_⟩
        intro y hy
        have hVy := hy.pv hV
        have hCy := hy.ci hC
        have jy := hy.M hV
        have ey : y 523 = v 523 := hy.1 523 (by omega)
        unfold chW1 at k2
        have hV0 := hV
        have hV := hVy
        by_cases hd : dpA A X l r 1 = 0
        · rw [if_pos hd] at k2
          rw [hd]
          simp (disch := (first | decide | omega)) only [jxs, hps, jtsw, jlsw, List.length_cons, List.length_nil, true_and, and_true, true_implies, false_implies, implies_true, not_true_eq_false, not_false_eq_true, false_and, and_false, if_true, if_false, or_true, true_or, or_false, false_or, Classical.not_not, and_self, Int.reduceAdd, Int.reduceMul, Int.reduceSub, Int.reduceNeg, Int.reduceLT, Int.reduceLE, Int.reduceEq, Int.reduceNe, Int.reduceToNat, Nat.reduceAdd, Nat.reduceMul, Nat.reduceSub, Nat.reduceLeDiff, Nat.reduceLT, Nat.reduceEqDiff, reduceIte, Nat.zero_le, Nat.le_refl, Nat.add_zero, Nat.zero_add, xwT hT, xwV hV]
          exact k2 y hCy (hN.le (by omega)) AGR.rf (fun _ _ _ => rfl) jy ey
        · rw [if_neg hd] at k2
          simp (disch := (first | decide | omega)) only [jxs, hps, jtsw, jlsw, List.length_cons, List.length_nil, true_and, and_true, true_implies, false_implies, implies_true, not_true_eq_false, not_false_eq_true, false_and, and_false, if_true, if_false, or_true, true_or, or_false, false_or, Classical.not_not, and_self, Int.reduceAdd, Int.reduceMul, Int.reduceSub, Int.reduceNeg, Int.reduceLT, Int.reduceLE, Int.reduceEq, Int.reduceNe, Int.reduceToNat, Nat.reduceAdd, Nat.reduceMul, Nat.reduceSub, Nat.reduceLeDiff, Nat.reduceLT, Nat.reduceEqDiff, reduceIte, Nat.zero_le, Nat.le_refl, Nat.add_zero, Nat.zero_add, xwT hT, xwV hV]
          refine ⟨fun h9 => absurd h9 hd, fun _ => ?_⟩
          refine ⟨0, 0, ⟨by omega, by omega⟩, xw_wri hT hVy hCy hN (by omega) ?_⟩
          intro x x1 x2 x3 x4
          have hV := x3.pv
          simp (disch := (first | decide | omega)) only [jxs, hps, jtsw, jlsw, List.length_cons, List.length_nil, true_and, and_true, true_implies, false_implies, implies_true, not_true_eq_false, not_false_eq_true, false_and, and_false, if_true, if_false, or_true, true_or, or_false, false_or, Classical.not_not, and_self, Int.reduceAdd, Int.reduceMul, Int.reduceSub, Int.reduceNeg, Int.reduceLT, Int.reduceLE, Int.reduceEq, Int.reduceNe, Int.reduceToNat, Nat.reduceAdd, Nat.reduceMul, Nat.reduceSub, Nat.reduceLeDiff, Nat.reduceLT, Nat.reduceEqDiff, reduceIte, Nat.zero_le, Nat.le_refl, Nat.add_zero, Nat.zero_add, xwT hT, xwV hV]
          exact k2 x x1 x2 (wriA_AG hN.2.2.1) (fun i i0 i1 => wriA_lo hN.2.2.1 (by omega) i1) (jy.tr x3) (x4.trans ey)
theorem xw_writesPushes {A : Int → Int} {s od c : Int} {v : Int → Int → Int} (hT : PT T) (hV : PV v) (hC : CI (v, T) A X) (hs : 0 ≤ s ∧ s < 3) (ho : 0 ≤ od ∧ od ≤ 1) (hN : NS A c) (hc : c ≤ 400) (hB : CHB (v 523) A X) (hQ : ∀ w, CI (w, T) (wpL X s 6 od A) X → NS (wpL X s 6 od A) (c + 12) → AGR A (wpL X s 6 od A) → (∀ i, i < 106 → i ≠ 9 → wpL X s 6 od A i = A i) → jkM v w → w 523 = v 523 → Q (.inl none) (w, T)) : jmet g (d + 113) 0 0 MX0_writesPushes [vR 400, vI s, vI od] (v, T) Q := by
  have hm := hC.tb.2.2.2.2.2.1 (13 + s) (by omega) (by omega)
  refine jmet_of (ls := [some (vR 400), some (vI s), some (vI od), none, none, none]) sX0_writesPushes rfl (by decide +kernel) (by decide) rfl (by simp [jent]) ?_
  refine jW_step ?_
  simp (disch := (first | decide | omega)) only [bX0_writesPushes, jxs, hps, jtsw, jlsw, List.length_cons, List.length_nil, true_and, and_true, true_implies, false_implies, implies_true, not_true_eq_false, not_false_eq_true, false_and, and_false, if_true, if_false, or_true, true_or, or_false, false_or, Classical.not_not, and_self, Int.reduceAdd, Int.reduceMul, Int.reduceSub, Int.reduceNeg, Int.reduceLT, Int.reduceLE, Int.reduceEq, Int.reduceNe, Int.reduceToNat, Nat.reduceAdd, Nat.reduceMul, Nat.reduceSub, Nat.reduceLeDiff, Nat.reduceLT, Nat.reduceEqDiff, reduceIte, Nat.zero_le, Nat.le_refl, Nat.add_zero, Nat.zero_add, xwT hT, xwV hV]
  exact xw_wp_1 (X := X) hT hs 6 od c A v hV hC hN (by omega) hB (by omega) (by omega) (by omega) hQ
end XG
