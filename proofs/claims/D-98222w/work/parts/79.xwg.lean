/-! ===== the class: what laws say ===== -/
-- MODE X
set_option maxRecDepth 100000
theorem nmP_eq {N A : Int → Int} {b o r : Int} (f : Int → Int) (hf : ∀ i, 8 ≤ i → i < 12 → f i = A (46 + 6 * o + (i - 8))) (hg : ∀ i, ¬ (8 ≤ i ∧ i < 12) → f i = up1 (up1 (nmO N A b) 6 r) 7 o i) : f = nmP N A b o r := by
  funext i
  by_cases h : 8 ≤ i ∧ i < 12
  · rw [hf i h.1 h.2]
    have : i = 8 ∨ i = 9 ∨ i = 10 ∨ i = 11 := by omega
    unfold nmP
    rcases this with rfl | rfl | rfl | rfl <;> rfl
  · rw [hg i h]
    unfold nmP
    rw [up1_ne (show ¬ i = 11 by omega), up1_ne (show ¬ i = 10 by omega), up1_ne (show ¬ i = 9 by omega), up1_ne (show ¬ i = 8 by omega)]
theorem nmP_hi {N A : Int → Int} {b o r j : Int} (h : 11 < j) : nmP N A b o r j = N j := by
  unfold nmP
  rw [up1_ne (show ¬ j = 11 by omega), up1_ne (show ¬ j = 10 by omega), up1_ne (show ¬ j = 9 by omega), up1_ne (show ¬ j = 8 by omega), up1_ne (show ¬ j = 7 by omega), up1_ne (show ¬ j = 6 by omega)]
  exact nmO_hi (by omega)
theorem okN_nmP {N A : Int → Int} {b o r : Int} (hN : okN N) (hA : TB A) (hb : 0 ≤ b ∧ b < 10) (ho : 0 ≤ o ∧ o < 10) (hr : 0 ≤ r ∧ r ≤ 1) : okN (nmP N A b o r) := by
  intro j h0 h1
  by_cases q : j < 12
  · exact nmP_bd hA hb ho hr j ⟨⟨h0, h1⟩, Or.inr (Or.inl ⟨q, rfl⟩)⟩
  · rw [nmP_hi (by omega)]
    exact hN j h0 h1
theorem nmF_hi {N A : Int → Int} {b s p m j : Int} (h : 5 < j ∧ j < 12) : nmF N A b s p m j = N j := by
  unfold nmF
  rw [up1_ne (show ¬ j = 14 by omega), up1_ne (show ¬ j = 13 by omega), up1_ne (show ¬ j = 12 by omega)]
  exact nmO_hi h.1
theorem okN_nmF {N A : Int → Int} {b s p m : Int} (hN : okN N) (hA : TB A) (hb : 0 ≤ b ∧ b < 10) (hs : 0 ≤ s ∧ s ≤ 100) (hp : 0 ≤ p ∧ p ≤ 100) (hm : 0 ≤ m ∧ m ≤ 100) : okN (nmF N A b s p m) := by
  intro j h0 h1
  by_cases q : 5 < j ∧ j < 12
  · rw [nmF_hi q]
    exact hN j h0 h1
  · exact nmF_bd hA hb hs hp hm j ⟨⟨h0, h1⟩, by omega⟩
section XG
variable {g : jjG} {d : Nat} {T : jjT} {Q : jjQ} {A X : Int → Int} {v : Int → Int → Int}
theorem xw_pushesBy {la b o r : Int} (hT : PT T) (hV : PV v) (hC : CI (v, T) A X) (hS : (0 ≤ la ∧ la < 6) ∧ (0 ≤ b ∧ b < A 0) ∧ (0 ≤ o ∧ o < A 0) ∧ (0 ≤ r ∧ r ≤ 1)) (hQ : ∀ w, jkq v w → Q (.inl (some (vI (pbA A X la b o r)))) (w, T)) : jmet g (d + 110) 0 0 MX0_pushesBy [vR 400, vI la, vI b, vI o, vI r] (v, T) Q := by
  obtain ⟨hla, hb, ho, hr⟩ := hS
  have hB := hC.tb
  have h0 := hB.1
  have ru := hC.ru
  obtain ⟨⟨r1, r2, r3⟩, r4, -⟩ := ru
  have r5 := r4 la hla.1 hla.2
  dsimp only at r1 r2 r3 r5
  unfold pbA at hQ
  refine jmet_of (ls := [some (vR 400), some (vI la), some (vI b), some (vI o), some (vI r), none]) sX0_pushesBy rfl (by decide +kernel) (by decide) rfl (by simp [jent]) ?_
  refine jW_step ?_
  simp (disch := (first | decide | omega)) only [bX0_pushesBy, jxs, hps, jtsw, jlsw, List.length_cons, List.length_nil, true_and, and_true, true_implies, false_implies, implies_true, not_true_eq_false, not_false_eq_true, false_and, and_false, if_true, if_false, or_true, true_or, or_false, false_or, Classical.not_not, and_self, Int.reduceAdd, Int.reduceMul, Int.reduceSub, Int.reduceNeg, Int.reduceLT, Int.reduceLE, Int.reduceEq, Int.reduceNe, Int.reduceToNat, Nat.reduceAdd, Nat.reduceMul, Nat.reduceSub, Nat.reduceLeDiff, Nat.reduceLT, Nat.reduceEqDiff, reduceIte, Nat.zero_le, Nat.le_refl, Nat.add_zero, Nat.zero_add, xwT hT, xwV hV]
  refine ⟨0, 0, ⟨by omega, by omega⟩, xw_rules hT hV hC ?_⟩
  generalize rul v A = ra at *
  simp (disch := (first | decide | omega)) only [jxs, hps, jtsw, jlsw, List.length_cons, List.length_nil, true_and, and_true, true_implies, false_implies, implies_true, not_true_eq_false, not_false_eq_true, false_and, and_false, if_true, if_false, or_true, true_or, or_false, false_or, Classical.not_not, and_self, Int.reduceAdd, Int.reduceMul, Int.reduceSub, Int.reduceNeg, Int.reduceLT, Int.reduceLE, Int.reduceEq, Int.reduceNe, Int.reduceToNat, Nat.reduceAdd, Nat.reduceMul, Nat.reduceSub, Nat.reduceLeDiff, Nat.reduceLT, Nat.reduceEqDiff, reduceIte, Nat.zero_le, Nat.le_refl, Nat.add_zero, Nat.zero_add, xwT hT, xwV hV, r1, r2, r3]
  (repeat (refine And.intro (by (first | omega | assumption | trivial | (simp only [inI]; omega) | (simp only [inL]; omega) | (refine jb_01) | (exact jb_in))) ?_))
  by_cases hc : clA A X 0 la < 0
  · rw [if_pos hc] at hQ
    have e := r5.1 hc
    rw [e]
    refine ⟨fun h => absurd rfl h, fun _ => ?_⟩
    (repeat (refine And.intro (by (first | omega | assumption | trivial | (simp only [inI]; omega) | (simp only [inL]; omega) | (refine jb_01) | (exact jb_in))) ?_))
    exact hQ v (jkq.rf hC.nm)
  · rw [if_neg hc] at hQ
    have tr := r5.2 (by omega)
    have nz := tr.nz
    have cl := hC.cl (show 0 ≤ clA A X 0 la by omega)
    have oc := (cl.1.2.1 (by omega)).2
    rw [cl.2] at oc
    generalize v (v ra 0) la = ast at *
    refine ⟨fun _ => ?_, fun h => by omega⟩
    refine ⟨0, 0, ⟨by omega, by omega⟩, xw_namesOwn hT hV hC hb ?_⟩
    intro w hw w22
    have hVw := hw.pv hV
    have hCw := hw.ci hC
    have e1 := PVbk hVw (b := o) (by omega)
    have e2 := PTbk hT (b := o) (by omega)
    have e3 := e2.1
    have e4 := e2.2
    have k1 : jW bX0_pushesBy (g, d + 109, 0, 0, Q) 1 [some (vR 400), some (vI la), some (vI b), some (vI o), some (vI r), some (vR ast)] [vI r, vI 6, vR 522] (w, T) 0 0 := by
      have hV := hVw
      refine jW_step ?_
      simp (disch := (first | decide | omega)) only [bX0_pushesBy, jxs, hps, jtsw, jlsw, List.length_cons, List.length_nil, true_and, and_true, true_implies, false_implies, implies_true, not_true_eq_false, not_false_eq_true, false_and, and_false, if_true, if_false, or_true, true_or, or_false, false_or, Classical.not_not, and_self, Int.reduceAdd, Int.reduceMul, Int.reduceSub, Int.reduceNeg, Int.reduceLT, Int.reduceLE, Int.reduceEq, Int.reduceNe, Int.reduceToNat, Nat.reduceAdd, Nat.reduceMul, Nat.reduceSub, Nat.reduceLeDiff, Nat.reduceLT, Nat.reduceEqDiff, reduceIte, Nat.zero_le, Nat.le_refl, Nat.add_zero, Nat.zero_add, xwT hT, xwV hV, e1, e3, e4, jcpy_eq]
      (repeat (refine And.intro (by (first | omega | assumption | trivial | (simp only [inI]; omega) | (simp only [inL]; omega) | (refine jb_01) | (exact jb_in))) ?_))
      rw [w22]
      have key := nmP_eq (N := v 522) (A := A) (b := b) (o := o) (r := r) (fun k => if 8 ≤ k ∧ k < 12 then w (406 + o) (0 + (k - 8)) else up1 (up1 (nmO (v 522) A b) 6 r) 7 o k) (fun i i0 i1 => by
        rw [if_pos ⟨i0, i1⟩, hCw.b ho (by omega), Int.zero_add]) (fun i hi => if_neg hi)
      have fin : ∀ u, u = upA w 522 (nmP (v 522) A b o r) → ∃ q ∈ [(11, MX11_is), (6, MX6_is), (12, MX12_is)], jok T ast q.1 ∧ ∃ mc1 ms1 : Nat, (mc1 ≤ 0 ∧ ms1 ≤ 0) ∧ jmet g (d + 109) mc1 ms1 q.2 [vR ast, vR 522] (u, T) (jres (g, d + 109, 0, 0, Q) (ji_zreturn (g, d + 109, 0, 0, Q)) [some (vR 400), some (vI la), some (vI b), some (vI o), some (vI r), some (vR ast)] [] mc1 ms1) := by
        intro u hu
        have ju : jkq v u := by
          refine hw.tr ⟨fun a ha => by rw [hu, upA_ne ha], ?_⟩
          rw [hu, upA_eq]
          exact okN_nmP hC.nm hB (by omega) (by omega) hr
        have gr : jGR (v, T) (u, T) := jGR_of (fun a ha => ju.1 a (by unfold jfz at ha; omega))
        obtain ⟨q, p1, p2, p3⟩ := xw_is (g := g) hT ju.2 100 ast _ (d + 109) (by omega) (TR.gr gr _ _ _ tr)
        refine ⟨q, p1, p2, 0, 0, ⟨by omega, by omega⟩, p3 _ ?_⟩
        intro bv hbv hbb
        have ev : ET (nmP (fun _ => 0) A b o r) (tcode X (A 6) (clA A X 0 la)) = bv := by
          rw [← hbv.et]
          have u22 : u 522 = nmP (v 522) A b o r := by rw [hu, upA_eq]
          rw [u22]
          exact ET_cg (nmP_ag rfl) oc
        rw [← ev] at hbb ⊢
        simp (disch := (first | decide | omega)) only [jxs, hps, jtsw, jlsw, List.length_cons, List.length_nil, true_and, and_true, true_implies, false_implies, implies_true, not_true_eq_false, not_false_eq_true, false_and, and_false, if_true, if_false, or_true, true_or, or_false, false_or, Classical.not_not, and_self, Int.reduceAdd, Int.reduceMul, Int.reduceSub, Int.reduceNeg, Int.reduceLT, Int.reduceLE, Int.reduceEq, Int.reduceNe, Int.reduceToNat, Nat.reduceAdd, Nat.reduceMul, Nat.reduceSub, Nat.reduceLeDiff, Nat.reduceLT, Nat.reduceEqDiff, reduceIte, Nat.zero_le, Nat.le_refl, Nat.add_zero, Nat.zero_add, xwT hT, xwV hV]
        (repeat (refine And.intro (by (first | omega | assumption | trivial | (simp only [inI]; omega) | (simp only [inL]; omega) | (refine jb_01) | (exact jb_in))) ?_))
        exact hQ u ju
      rw [key]
      exact fin _ rfl
    have hV := hVw
    simp (disch := (first | decide | omega)) only [jxs, hps, jtsw, jlsw, List.length_cons, List.length_nil, true_and, and_true, true_implies, false_implies, implies_true, not_true_eq_false, not_false_eq_true, false_and, and_false, if_true, if_false, or_true, true_or, or_false, false_or, Classical.not_not, and_self, Int.reduceAdd, Int.reduceMul, Int.reduceSub, Int.reduceNeg, Int.reduceLT, Int.reduceLE, Int.reduceEq, Int.reduceNe, Int.reduceToNat, Nat.reduceAdd, Nat.reduceMul, Nat.reduceSub, Nat.reduceLeDiff, Nat.reduceLT, Nat.reduceEqDiff, reduceIte, Nat.zero_le, Nat.le_refl, Nat.add_zero, Nat.zero_add, xwT hT, xwV hV]
    refine ⟨fun h => ?_, fun h => ?_⟩
    · have : r = 0 := by omega
      rw [this] at k1 ⊢
      exact k1
    · have : r = 1 := by omega
      rw [this] at k1 ⊢
      exact k1
theorem pbA_c01 {la b o r : Int} (hC : CI (v, T) A X) : 0 ≤ pbA A X la b o r ∧ pbA A X la b o r ≤ 1 := by
  unfold pbA
  split
  · omega
  · rename_i hc
    have cl := hC.cl (show 0 ≤ clA A X 0 la by omega)
    obtain ⟨bb, hb⟩ := cl.1.2.2.1 (by omega) (nmP (fun _ => 0) A b o r)
    have := rpn_bdT _ _ _ (by intro z hz; cases hz) hb
    rw [ET_bd hb]
    exact this bb (List.mem_singleton.2 rfl)
theorem xw_pushesNow {b o r : Int} (hT : PT T) (hV : PV v) (hC : CI (v, T) A X) (hS : (0 ≤ b ∧ b < A 0) ∧ (0 ≤ o ∧ o < A 0) ∧ (0 ≤ r ∧ r ≤ 1)) (hQ : ∀ w, jkq v w → Q (.inl (some (vI (dpA A X b o r)))) (w, T)) : jmet g (d + 111) 0 0 MX0_pushesNow [vR 400, vI b, vI o, vI r] (v, T) Q := by
  obtain ⟨hb, ho, hr⟩ := hS
  have hl := hC.lw b hb.1 hb.2
  have h0 := hC.tb.1
  have e1 := PVbk hV (b := b) (by omega)
  have e2 := PTbk hT (b := b) (by omega)
  have e3 := e2.1
  have e4 := e2.2
  have e5 := hC.b hb (w := 4) (by omega)
  refine jmet_of (ls := [some (vR 400), some (vI b), some (vI o), some (vI r)]) sX0_pushesNow5 rfl (by decide +kernel) (by decide) rfl (by simp [jent]) ?_
  refine jW_step ?_
  simp (disch := (first | decide | omega)) only [bX0_pushesNow5, jxs, hps, jtsw, jlsw, List.length_cons, List.length_nil, true_and, and_true, true_implies, false_implies, implies_true, not_true_eq_false, not_false_eq_true, false_and, and_false, if_true, if_false, or_true, true_or, or_false, false_or, Classical.not_not, and_self, Int.reduceAdd, Int.reduceMul, Int.reduceSub, Int.reduceNeg, Int.reduceLT, Int.reduceLE, Int.reduceEq, Int.reduceNe, Int.reduceToNat, Nat.reduceAdd, Nat.reduceMul, Nat.reduceSub, Nat.reduceLeDiff, Nat.reduceLT, Nat.reduceEqDiff, reduceIte, Nat.zero_le, Nat.le_refl, Nat.add_zero, Nat.zero_add, xwT hT, xwV hV, e1, e3, e4, e5]
  (repeat (refine And.intro (by (first | omega | assumption | trivial | (simp only [inI]; omega) | (simp only [inL]; omega) | (refine jb_01) | (exact jb_in))) ?_))
  refine ⟨0, 0, ⟨by omega, by omega⟩, xw_pushesBy hT hV hC ⟨hl, hb, ho, hr⟩ ?_⟩
  intro w hw
  have p01 := pbA_c01 (la := A (46 + 6 * b + 4)) (b := b) (o := o) (r := r) hC
  simp (disch := (first | decide | omega)) only [jxs, hps, jtsw, jlsw, List.length_cons, List.length_nil, true_and, and_true, true_implies, false_implies, implies_true, not_true_eq_false, not_false_eq_true, false_and, and_false, if_true, if_false, or_true, true_or, or_false, false_or, Classical.not_not, and_self, Int.reduceAdd, Int.reduceMul, Int.reduceSub, Int.reduceNeg, Int.reduceLT, Int.reduceLE, Int.reduceEq, Int.reduceNe, Int.reduceToNat, Nat.reduceAdd, Nat.reduceMul, Nat.reduceSub, Nat.reduceLeDiff, Nat.reduceLT, Nat.reduceEqDiff, reduceIte, Nat.zero_le, Nat.le_refl, Nat.add_zero, Nat.zero_add, xwT hT, xwV hV]
  (repeat (refine And.intro (by (first | omega | assumption | trivial | (simp only [inI]; omega) | (simp only [inL]; omega) | (refine jb_01) | (exact jb_in))) ?_))
  exact hQ w hw
end XG
