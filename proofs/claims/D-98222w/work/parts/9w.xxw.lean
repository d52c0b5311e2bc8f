/-! ===== the class: catalogue ===== -/
-- MODE X
set_option maxRecDepth 100000
theorem jkK.up37 {v : Int → Int → Int} {f : Int → Int} (hV : PV v) (h : okN (v 522)) : jkK v (upA v 537 f) := jkK.up hV h (by omega)
section XG
variable {g : jjG} {d : Nat} {T : jjT} {Q : jjQ} {A X : Int → Int}
theorem xw_cat_2 {b n i lk m : Int} (hT : PT T) (hm : 0 ≤ m ∧ m ≤ 10) (hn : 0 ≤ n ∧ n ≤ 99) (h1 : 0 ≤ A 1 ∧ A 1 < 100000) : ∀ (r : Nat) (k : Int) (v : Int → Int → Int) (l6 : Option jjV), PV v → CI (v, T) A X → CHB (v 523) A X → v 400 10 = m → RN (v 524) m (A 0) → ONE (v 524) m b → 0 ≤ k → k + r = n + 1 → (∀ p, 0 ≤ p → p < 10 → 0 ≤ v 537 p ∧ v 537 p ≤ k) →
    (∀ w l6, jkK v w → w 400 10 = m → w 537 = ctL (tbl A X) m (A 1) b r k (v 524) (v 537) → jW bX0_catalogue (g, d + 114, 0, 0, Q) 2 [some (vR 400), some (vI b), some (vI n), some (vI i), some (vI lk), some (vI (n + 1)), l6] [] (w, T) 0 0) →
    jW bX0_catalogue (g, d + 114, 0, 0, Q) 2 [some (vR 400), some (vI b), some (vI n), some (vI i), some (vI lk), some (vI k), l6] [] (v, T) 0 0 := by
  intro r
  induction r with
  | zero =>
    intro k v l6 hV hC hB hv hN hO hk hr hb hQ
    have := hQ v l6 (jkK.rf hV hC.nm) hv rfl
    rwa [show n + 1 = k by omega] at this
  | succ r ih =>
    intro k v l6 hV hC hB hv hN hO hk hr hb hQ
    have h0 := hC.tb.1
    unfold ctL at hQ
    obtain ⟨q, q1, q2, q3⟩ := hO
    have ep : pwF (v 524) b m.toNat 0 = q := pwF_at q2 m.toNat 0 (by omega) (fun j j0 j1 hj => by have := q3 j j0 (by omega) hj; omega)
    have ec : ctF (v 524) b m.toNat 0 (v 537) = up1 (v 537) q (v 537 q + 1) := ctF_one q2 m.toNat 0 _ (by omega) (fun j j0 j1 hj => q3 j j0 (by omega) hj)
    have bq := hb q q1.1 (by omega)
    refine jW_step ?_
    simp (disch := (first | decide | omega)) only [bX0_catalogue, jxs, hps, jtsw, jlsw, List.length_cons, List.length_nil, true_and, and_true, true_implies, false_implies, implies_true, not_true_eq_false, not_false_eq_true, false_and, and_false, if_true, if_false, or_true, true_or, or_false, false_or, Classical.not_not, and_self, Int.reduceAdd, Int.reduceMul, Int.reduceSub, Int.reduceNeg, Int.reduceLT, Int.reduceLE, Int.reduceEq, Int.reduceNe, Int.reduceToNat, Nat.reduceAdd, Nat.reduceMul, Nat.reduceSub, Nat.reduceLeDiff, Nat.reduceLT, Nat.reduceEqDiff, reduceIte, Nat.zero_le, Nat.le_refl, Nat.add_zero, Nat.zero_add, xwT hT, xwV hV, hv]
    (first | refine ⟨fun h9 => (by exfalso; omega), fun _ => ?_⟩ | intro _)
    refine ⟨0, 0, ⟨by omega, by omega⟩, xw_placeIn (d := d + 113) (m := m) (pt_524 hT) (by rw [pl_524 hT]; omega) hm ⟨q, q1, q2⟩ ?_⟩
    rw [ep]
    simp (disch := (first | decide | omega)) only [jxs, hps, jtsw, jlsw, List.length_cons, List.length_nil, true_and, and_true, true_implies, false_implies, implies_true, not_true_eq_false, not_false_eq_true, false_and, and_false, if_true, if_false, or_true, true_or, or_false, false_or, Classical.not_not, and_self, Int.reduceAdd, Int.reduceMul, Int.reduceSub, Int.reduceNeg, Int.reduceLT, Int.reduceLE, Int.reduceEq, Int.reduceNe, Int.reduceToNat, Nat.reduceAdd, Nat.reduceMul, Nat.reduceSub, Nat.reduceLeDiff, Nat.reduceLT, Nat.reduceEqDiff, reduceIte, Nat.zero_le, Nat.le_refl, Nat.add_zero, Nat.zero_add, xwT hT, xwV hV, hv, hC.ni]
    (repeat (refine And.intro (by (first | omega | assumption | trivial | (simp only [inI]; omega) | (simp only [inL]; omega) | (refine jb_01) | (exact jb_in))) ?_))
    have j1 : jkK v (upA v 537 (up1 (v 537) q (v 537 q + 1))) := jkK.up37 hV hC.nm
    have u37 : (upA v 537 (up1 (v 537) q (v 537 q + 1))) 537 = up1 (v 537) q (v 537 q + 1) := upA_eq
    have uo : ∀ a, a ≠ 537 → (upA v 537 (up1 (v 537) q (v 537 q + 1))) a = v a := fun a ha => upA_ne ha
    generalize upA v 537 (up1 (v 537) q (v 537 q + 1)) = u at *
    rw [← ec] at u37
    have hV0 := hV
    have hV := j1.pv
    have hCu := j1.ci hC
    have hvu : u 400 10 = m := by rw [uo 400 (by omega)]; exact hv
    refine ⟨0, 0, ⟨by omega, by omega⟩, xw_nightOn0 (A := A) (X := X) hT hV h0 ⟨pt_524 hT, by omega, by rw [pl_524 hT]; omega, by decide, by omega⟩ hm (by rw [uo 523 (by omega)]; exact hB) (by rw [uo 524 (by omega)]; exact hN) (by omega) ?_⟩
    intro c
    have qn := nitR_cg (kind := (A 1 + k) % 2) (c := tbl A X) (c' := tbl A X) (by omega) (fun _ _ _ _ _ _ => rfl) (fun _ _ _ => rfl) hN
    have j2 : jkK u (upA u 524 (nitR (tbl A X) m ((A 1 + k) % 2) (u 524))) := jkK.up hV hCu.nm (by omega)
    have y24 : (upA u 524 (nitR (tbl A X) m ((A 1 + k) % 2) (u 524))) 524 = nitR (tbl A X) m ((A 1 + k) % 2) (v 524) := by rw [upA_eq, uo 524 (by omega)]
    have yo : ∀ a, a ≠ 524 → (upA u 524 (nitR (tbl A X) m ((A 1 + k) % 2) (u 524))) a = u a := fun a ha => upA_ne ha
    generalize upA u 524 (nitR (tbl A X) m ((A 1 + k) % 2) (u 524)) = y at *
    have hVu := hV
    have hV := j2.pv
    simp (disch := (first | decide | omega)) only [jxs, hps, jtsw, jlsw, List.length_cons, List.length_nil, true_and, and_true, true_implies, false_implies, implies_true, not_true_eq_false, not_false_eq_true, false_and, and_false, if_true, if_false, or_true, true_or, or_false, false_or, Classical.not_not, and_self, Int.reduceAdd, Int.reduceMul, Int.reduceSub, Int.reduceNeg, Int.reduceLT, Int.reduceLE, Int.reduceEq, Int.reduceNe, Int.reduceToNat, Nat.reduceAdd, Nat.reduceMul, Nat.reduceSub, Nat.reduceLeDiff, Nat.reduceLT, Nat.reduceEqDiff, reduceIte, Nat.zero_le, Nat.le_refl, Nat.add_zero, Nat.zero_add, xwT hT, xwV hV]
    (repeat (refine And.intro (by (first | omega | assumption | trivial | (simp only [inI]; omega) | (simp only [inL]; omega) | (refine jb_01) | (exact jb_in))) ?_))
    have y37 : y 537 = ctF (v 524) b m.toNat 0 (v 537) := by rw [yo 537 (by omega)]; exact u37
    refine ih (k + 1) y _ j2.pv (j2.ci hCu) (by rw [yo 523 (by omega), uo 523 (by omega)]; exact hB) (by rw [yo 400 (by omega)]; exact hvu) (by rw [y24]; exact qn.2) (by rw [y24]; exact ONE.nit 6 _ _ (by omega) ⟨q, q1, q2, q3⟩) (by omega) (by omega) ?_ ?_
    · intro p p0 p1
      rw [y37, ec]
      have := hb p p0 p1
      by_cases e : p = q
      · rw [e, up1_eq]; rw [e] at this; omega
      · rw [up1_ne e]; omega
    · rw [y24, y37]
      intro w l hw
      exact hQ w l ((j1.tr j2).tr hw)
theorem xw_catalogue {b n i lk : Int} {v : Int → Int → Int} (hT : PT T) (hV : PV v) (hC : CI (v, T) A X) (hS : SH A ∧ (0 ≤ A 1 ∧ A 1 < 100000)) (hQ : ∀ w, jkK v w → Q (.inl (some (vI (catA A X b n i lk)))) (w, T)) : jmet g (d + 115) 0 0 MX0_catalogue [vR 400, vI b, vI n, vI i, vI lk] (v, T) Q := by
  obtain ⟨hH, h1⟩ := hS
  have hE := hC.tb
  have h0 := hE.1
  refine jmet_of (ls := [some (vR 400), some (vI b), some (vI n), some (vI i), some (vI lk), none, none]) sX0_catalogue rfl (by decide +kernel) (by decide) rfl (by simp [jent]) ?_
  have k1 : catA A X b n i lk = -1 → ∀ w, jkK v w → jW bX0_catalogue (g, d + 114, 0, 0, Q) 1 [some (vR 400), some (vI b), some (vI n), some (vI i), some (vI lk), none, none] [] (w, T) 0 0 := by
    intro e w hw
    rw [e] at hQ
    have hV := hw.pv
    refine jW_step ?_
    simp (disch := (first | decide | omega)) only [bX0_catalogue, jxs, hps, jtsw, jlsw, List.length_cons, List.length_nil, true_and, and_true, true_implies, false_implies, implies_true, not_true_eq_false, not_false_eq_true, false_and, and_false, if_true, if_false, or_true, true_or, or_false, false_or, Classical.not_not, and_self, Int.reduceAdd, Int.reduceMul, Int.reduceSub, Int.reduceNeg, Int.reduceLT, Int.reduceLE, Int.reduceEq, Int.reduceNe, Int.reduceToNat, Nat.reduceAdd, Nat.reduceMul, Nat.reduceSub, Nat.reduceLeDiff, Nat.reduceLT, Nat.reduceEqDiff, reduceIte, Nat.zero_le, Nat.le_refl, Nat.add_zero, Nat.zero_add, xwT hT, xwV hV]
    (repeat (refine And.intro (by (first | omega | assumption | trivial | (simp only [inI]; omega) | (simp only [inL]; omega) | (refine jb_01) | (exact jb_in))) ?_))
    exact hQ w hw
  have rf := jkK.rf hV hC.nm
  refine jW_step ?_
  simp (disch := (first | decide | omega)) only [bX0_catalogue, jxs, hps, jtsw, jlsw, List.length_cons, List.length_nil, true_and, and_true, true_implies, false_implies, implies_true, not_true_eq_false, not_false_eq_true, false_and, and_false, if_true, if_false, or_true, true_or, or_false, false_or, Classical.not_not, and_self, Int.reduceAdd, Int.reduceMul, Int.reduceSub, Int.reduceNeg, Int.reduceLT, Int.reduceLE, Int.reduceEq, Int.reduceNe, Int.reduceToNat, Nat.reduceAdd, Nat.reduceMul, Nat.reduceSub, Nat.reduceLeDiff, Nat.reduceLT, Nat.reduceEqDiff, reduceIte, Nat.zero_le, Nat.le_refl, Nat.add_zero, Nat.zero_add, xwT hT, xwV hV]
  refine ⟨0, 0, ⟨by omega, by omega⟩, xw_isOnShelf hT hV hC ?_⟩
  simp (disch := (first | decide | omega)) only [jxs, hps, jtsw, jlsw, List.length_cons, List.length_nil, true_and, and_true, true_implies, false_implies, implies_true, not_true_eq_false, not_false_eq_true, false_and, and_false, if_true, if_false, or_true, true_or, or_false, false_or, Classical.not_not, and_self, Int.reduceAdd, Int.reduceMul, Int.reduceSub, Int.reduceNeg, Int.reduceLT, Int.reduceLE, Int.reduceEq, Int.reduceNe, Int.reduceToNat, Nat.reduceAdd, Nat.reduceMul, Nat.reduceSub, Nat.reduceLeDiff, Nat.reduceLT, Nat.reduceEqDiff, reduceIte, Nat.zero_le, Nat.le_refl, Nat.add_zero, Nat.zero_add, xwT hT, xwV hV]
  refine ⟨fun h => ?_, fun h => ?_⟩
  · refine k1 ?_ v rf
    unfold catA
    rw [if_neg h]
  have w0 := (hE.2.2.2.2.2.2 (46 + 6 * b + 5) (by omega) (by omega)).1
  have lz := lrZ_all hE (s := A (46 + 6 * b + 5)) ⟨w0, h.2⟩
  have on := SH.one hE hH (b := b) ⟨h.1.1, by omega⟩ h.2
  have hm := hE.2.2.2.2.2.1 (13 + A (46 + 6 * b + 5)) (by omega) (by omega)
  refine ⟨0, 0, ⟨by omega, by omega⟩, xw_in ?_⟩
  simp (disch := (first | decide | omega)) only [jxs, hps, jtsw, jlsw, List.length_cons, List.length_nil, true_and, and_true, true_implies, false_implies, implies_true, not_true_eq_false, not_false_eq_true, false_and, and_false, if_true, if_false, or_true, true_or, or_false, false_or, Classical.not_not, and_self, Int.reduceAdd, Int.reduceMul, Int.reduceSub, Int.reduceNeg, Int.reduceLT, Int.reduceLE, Int.reduceEq, Int.reduceNe, Int.reduceToNat, Nat.reduceAdd, Nat.reduceMul, Nat.reduceSub, Nat.reduceLeDiff, Nat.reduceLT, Nat.reduceEqDiff, reduceIte, Nat.zero_le, Nat.le_refl, Nat.add_zero, Nat.zero_add, xwT hT, xwV hV]
  refine ⟨fun h2 => ?_, fun h2 => ?_⟩
  · refine k1 ?_ v rf
    unfold catA
    rw [if_pos h, if_neg h2]
  refine ⟨fun h3 => ?_, fun h3 => ?_⟩
  · refine ⟨0, 0, ⟨by omega, by omega⟩, xw_laysChange hT hV hC ?_⟩
    intro u hu hB
    have hV0 := hV
    have hV := hu.pv hV0
    have hCu := hu.ci hC
    simp (disch := (first | decide | omega)) only [jxs, hps, jtsw, jlsw, List.length_cons, List.length_nil, true_and, and_true, true_implies, false_implies, implies_true, not_true_eq_false, not_false_eq_true, false_and, and_false, if_true, if_false, or_true, true_or, or_false, false_or, Classical.not_not, and_self, Int.reduceAdd, Int.reduceMul, Int.reduceSub, Int.reduceNeg, Int.reduceLT, Int.reduceLE, Int.reduceEq, Int.reduceNe, Int.reduceToNat, Nat.reduceAdd, Nat.reduceMul, Nat.reduceSub, Nat.reduceLeDiff, Nat.reduceLT, Nat.reduceEqDiff, reduceIte, Nat.zero_le, Nat.le_refl, Nat.add_zero, Nat.zero_add, xwT hT, xwV hV]
    refine ⟨0, 0, ⟨by omega, by omega⟩, xw_whereIs hT hV hCu ⟨h.1.1, by omega⟩ ?_⟩
    simp (disch := (first | decide | omega)) only [jxs, hps, jtsw, jlsw, List.length_cons, List.length_nil, true_and, and_true, true_implies, false_implies, implies_true, not_true_eq_false, not_false_eq_true, false_and, and_false, if_true, if_false, or_true, true_or, or_false, false_or, Classical.not_not, and_self, Int.reduceAdd, Int.reduceMul, Int.reduceSub, Int.reduceNeg, Int.reduceLT, Int.reduceLE, Int.reduceEq, Int.reduceNe, Int.reduceToNat, Nat.reduceAdd, Nat.reduceMul, Nat.reduceSub, Nat.reduceLeDiff, Nat.reduceLT, Nat.reduceEqDiff, reduceIte, Nat.zero_le, Nat.le_refl, Nat.add_zero, Nat.zero_add, xwT hT, xwV hV]
    refine ⟨0, 0, ⟨by omega, by omega⟩, xw_laysRow hT hV hCu hH ⟨w0, h.2⟩ ?_⟩
    intro w hw hr e23 _
    have hVu := hV
    have hV := hw.pv
    have hCw := hw.ci hCu
    simp (disch := (first | decide | omega)) only [jxs, hps, jtsw, jlsw, List.length_cons, List.length_nil, true_and, and_true, true_implies, false_implies, implies_true, not_true_eq_false, not_false_eq_true, false_and, and_false, if_true, if_false, or_true, true_or, or_false, false_or, Classical.not_not, and_self, Int.reduceAdd, Int.reduceMul, Int.reduceSub, Int.reduceNeg, Int.reduceLT, Int.reduceLE, Int.reduceEq, Int.reduceNe, Int.reduceToNat, Nat.reduceAdd, Nat.reduceMul, Nat.reduceSub, Nat.reduceLeDiff, Nat.reduceLT, Nat.reduceEqDiff, reduceIte, Nat.zero_le, Nat.le_refl, Nat.add_zero, Nat.zero_add, xwT hT, xwV hV]
    refine ⟨0, 0, ⟨by omega, by omega⟩, xj_fill (d := d + 113) (pt_537 hT) (pl_537 hT) (by omega) (by omega) ?_⟩
    have j3 : jkK w (upA w 537 (fun i => if 0 ≤ i ∧ i < 10 then 0 else w 537 i)) := jkK.up37 hV hCw.nm
    have y37 : (upA w 537 (fun i => if 0 ≤ i ∧ i < 10 then 0 else w 537 i)) 537 = (fun i => if 0 ≤ i ∧ i < 10 then 0 else w 537 i) := upA_eq
    have yo : ∀ a, a ≠ 537 → (upA w 537 (fun i => if 0 ≤ i ∧ i < 10 then 0 else w 537 i)) a = w a := fun a ha => upA_ne ha
    generalize upA w 537 (fun i => if 0 ≤ i ∧ i < 10 then 0 else w 537 i) = y at *
    have hVw := hV
    have hV := j3.pv
    have jy := ((hu.K hV0).tr hw).tr j3
    simp (disch := (first | decide | omega)) only [jxs, hps, jtsw, jlsw, List.length_cons, List.length_nil, true_and, and_true, true_implies, false_implies, implies_true, not_true_eq_false, not_false_eq_true, false_and, and_false, if_true, if_false, or_true, true_or, or_false, false_or, Classical.not_not, and_self, Int.reduceAdd, Int.reduceMul, Int.reduceSub, Int.reduceNeg, Int.reduceLT, Int.reduceLE, Int.reduceEq, Int.reduceNe, Int.reduceToNat, Nat.reduceAdd, Nat.reduceMul, Nat.reduceSub, Nat.reduceLeDiff, Nat.reduceLT, Nat.reduceEqDiff, reduceIte, Nat.zero_le, Nat.le_refl, Nat.add_zero, Nat.zero_add, xwT hT, xwV hV]
    obtain ⟨r1, r2, r3, r4⟩ := hr
    rw [lz.1] at r1 r2 r3 r4
    refine xw_cat_2 (m := A (13 + A (46 + 6 * b + 5))) (A := A) (X := X) hT r4 h2 h1 (n + 1).toNat 0 y _ hV (j3.ci hCw) (by rw [yo 523 (by omega), e23]; exact hB) (by rw [yo 400 (by omega)]; exact r1) (by rw [yo 524 (by omega)]; exact r3) (by rw [yo 524 (by omega)]; exact on.cg (fun i i0 i1 => (r2 i i0 i1).symm)) (by omega) (by omega) ?_ ?_
    · intro p p0 p1
      rw [y37]
      dsimp only
      rw [if_pos ⟨p0, p1⟩]
      omega
    intro x l6 hx x10 x37
    have hV := hx.pv
    have jx := jy.tr hx
    have cg : EQm 10 (x 537) (ctA A X b (A (46 + 6 * b + 5)) n) := by
      rw [x37]
      unfold ctA
      rw [lz.1]
      exact ctL_cg (N := A 0) (fun _ _ _ _ _ _ => rfl) r4 (n + 1).toNat 0 _ _ _ _ (by rw [yo 524 (by omega)]; exact r2) (by rw [yo 524 (by omega)]; exact r3) (by rw [y37]; exact fun p p0 p1 => if_pos ⟨p0, p1⟩)
    have bd : ∀ (r : Nat) (k : Int) (f th : Int → Int), 0 ≤ k → (∀ p, 0 ≤ p → p < 10 → 0 ≤ th p ∧ th p ≤ k) → ∀ p, 0 ≤ p → p < 10 → 0 ≤ ctL (tbl A X) (A (13 + A (46 + 6 * b + 5))) (A 1) b r k f th p := by
      intro r
      induction r with
      | zero => intro k f th hk ht p p0 p1; exact (ht p p0 p1).1
      | succ r ih =>
        intro k f th hk ht p p0 p1
        unfold ctL
        exact ih (k + 1) _ _ (by omega) (fun i i0 i1 => ctF_bd (k := k) _ 0 th (by omega) (by omega) (fun j j0 j1 => ⟨(ht j j0 j1).1, by have := (ht j j0 j1).2; omega, fun _ => (ht j j0 j1).2⟩) i i0 i1) p p0 p1
    have xn : ∀ p, 0 ≤ p → p < A (13 + A (46 + 6 * b + 5)) → 0 ≤ x 537 p := by
      intro p p0 p1
      rw [x37]
      refine bd _ 0 _ _ (by omega) (fun j j0 j1 => ?_) p p0 (by omega)
      rw [y37]
      dsimp only
      rw [if_pos ⟨j0, j1⟩]
      omega
    have ct : ∀ z, z = catA A X b n i lk → jW bX0_catalogue (g, d + 114, 0, 0, Q) 3 [some (vR 400), some (vI b), some (vI n), some (vI i), some (vI lk), some (vI (n + 1)), l6] [vI z] (x, T) 0 0 := by
      intro z hz
      rw [← hz] at hQ
      refine jW_step ?_
      simp (disch := (first | decide | omega)) only [bX0_catalogue, jxs, hps, jtsw, jlsw, List.length_cons, List.length_nil, true_and, and_true, true_implies, false_implies, implies_true, not_true_eq_false, not_false_eq_true, false_and, and_false, if_true, if_false, or_true, true_or, or_false, false_or, Classical.not_not, and_self, Int.reduceAdd, Int.reduceMul, Int.reduceSub, Int.reduceNeg, Int.reduceLT, Int.reduceLE, Int.reduceEq, Int.reduceNe, Int.reduceToNat, Nat.reduceAdd, Nat.reduceMul, Nat.reduceSub, Nat.reduceLeDiff, Nat.reduceLT, Nat.reduceEqDiff, reduceIte, Nat.zero_le, Nat.le_refl, Nat.add_zero, Nat.zero_add, xwT hT, xwV hV]
      (repeat (refine And.intro (by (first | omega | assumption | trivial | (simp only [inI]; omega) | (simp only [inL]; omega) | (refine jb_01) | (exact jb_in))) ?_))
      exact hQ x jx
    have ce : catA A X b n i lk = if i ≤ A (13 + A (46 + 6 * b + 5)) - 1 then catR A X b (A (46 + 6 * b + 5)) n i lk else -1 := by
      unfold catA
      rw [if_pos h, if_pos h2]
      by_cases c : i ≤ A (13 + A (46 + 6 * b + 5)) - 1
      · rw [if_pos ⟨h3, c⟩, if_pos c]
      · rw [if_neg (fun q => c q.2), if_neg c]
    unfold catR at ce
    rw [lz.1] at ce
    refine jW_step ?_
    simp (disch := (first | decide | omega)) only [bX0_catalogue, jxs, hps, jtsw, jlsw, List.length_cons, List.length_nil, true_and, and_true, true_implies, false_implies, implies_true, not_true_eq_false, not_false_eq_true, false_and, and_false, if_true, if_false, or_true, true_or, or_false, false_or, Classical.not_not, and_self, Int.reduceAdd, Int.reduceMul, Int.reduceSub, Int.reduceNeg, Int.reduceLT, Int.reduceLE, Int.reduceEq, Int.reduceNe, Int.reduceToNat, Nat.reduceAdd, Nat.reduceMul, Nat.reduceSub, Nat.reduceLeDiff, Nat.reduceLT, Nat.reduceEqDiff, reduceIte, Nat.zero_le, Nat.le_refl, Nat.add_zero, Nat.zero_add, xwT hT, xwV hV, x10]
    (try refine ⟨fun _ => ?_, fun h9 => (by exfalso; omega)⟩)
    refine ⟨fun h4 => ?_, fun h4 => ?_⟩
    · rw [if_pos (by omega)] at ce
      refine ⟨fun h5 => ?_, fun h5 => ?_⟩
      · rw [if_pos (by omega)] at ce
        (repeat (refine And.intro (by (first | omega | assumption | trivial | (simp only [inI]; omega) | (simp only [inL]; omega) | (refine jb_01) | (exact jb_in))) ?_))
        exact ct _ (by rw [ce]; exact cg i (by omega) (by omega))
      · rw [if_neg (by omega)] at ce
        refine ⟨0, 0, ⟨by omega, by omega⟩, xw_looks (d := d + 113) hT hV x10 r4 ?_⟩
        simp (disch := (first | decide | omega)) only [jxs, hps, jtsw, jlsw, List.length_cons, List.length_nil, true_and, and_true, true_implies, false_implies, implies_true, not_true_eq_false, not_false_eq_true, false_and, and_false, if_true, if_false, or_true, true_or, or_false, false_or, Classical.not_not, and_self, Int.reduceAdd, Int.reduceMul, Int.reduceSub, Int.reduceNeg, Int.reduceLT, Int.reduceLE, Int.reduceEq, Int.reduceNe, Int.reduceToNat, Nat.reduceAdd, Nat.reduceMul, Nat.reduceSub, Nat.reduceLeDiff, Nat.reduceLT, Nat.reduceEqDiff, reduceIte, Nat.zero_le, Nat.le_refl, Nat.add_zero, Nat.zero_add, xwT hT, xwV hV]
        refine ct _ ?_
        rw [ce]
        have bb := amF_bd (th := x 537) (A (13 + A (46 + 6 * b + 5)) - 1).toNat 1 0 (by omega) (by omega) (by omega)
        have e2 : amA (ctA A X b (A (46 + 6 * b + 5)) n) (A (13 + A (46 + 6 * b + 5))) = amA (x 537) (A (13 + A (46 + 6 * b + 5))) := (amF_cg cg _ 1 0 (by omega) (by omega) (by omega)).symm
        have l1 : lkA (ctA A X b (A (46 + 6 * b + 5)) n) (A (13 + A (46 + 6 * b + 5))) i = lkA (x 537) (A (13 + A (46 + 6 * b + 5))) i := by
          unfold lkA
          rw [e2]
          exact (lkF_cg r4 i.toNat _ _ _ cg bb).symm
        rw [l1]
        exact (looks_law (by omega) h3 xn).symm
    · rw [if_neg (by omega)] at ce
      (repeat (refine And.intro (by (first | omega | assumption | trivial | (simp only [inI]; omega) | (simp only [inL]; omega) | (refine jb_01) | (exact jb_in))) ?_))
      rw [ce] at hQ
      exact hQ x jx
  · refine k1 ?_ v rf
    unfold catA
    rw [if_pos h, if_pos h2, if_neg (by omega)]
end XG
