/-! ===== the class: theft, cheapest ===== -/
-- MODE X
set_option maxRecDepth 100000
/-- the row with all is the shelf -/
theorem lrF_all {A : Int → Int} {s : Int} (hge : ∀ p, 0 ≤ p → p < A (13 + s) → 0 ≤ A (16 + 10 * s + p)) : ∀ (n : Nat) (p : Int) (f : Int → Int), 0 ≤ p → p + n ≤ A (13 + s) → (lrF A s (-1) n p p f).2 = p + n ∧ ∀ i, (i < p → (lrF A s (-1) n p p f).1 i = f i) ∧ (p ≤ i → i < p + n → (lrF A s (-1) n p p f).1 i = A (16 + 10 * s + i))
  | 0, p, f, hp, hn => by
    unfold lrF
    exact ⟨by dsimp only; omega, fun i => ⟨fun _ => rfl, fun _ _ => by omega⟩⟩
  | n + 1, p, f, hp, hn => by
    have g := hge p hp (by omega)
    unfold lrF
    rw [if_neg (show ¬ A (16 + 10 * s + p) = -1 by omega)]
    have r := lrF_all hge n (p + 1) (up1 f p (A (16 + 10 * s + p))) (by omega) (by omega)
    refine ⟨by rw [r.1]; omega, fun i => ⟨fun hi => ?_, fun h1 h2 => ?_⟩⟩
    · rw [(r.2 i).1 (by omega), up1_ne (by omega)]
    · by_cases e : i = p
      · rw [(r.2 i).1 (by omega), e, up1_eq]
      · exact (r.2 i).2 (by omega) (by omega)
theorem lrZ_all {A : Int → Int} {s : Int} (hB : TB A) (hs : 0 ≤ s ∧ s < 3) : (lrZ A s (-1)).2 = A (13 + s) ∧ ∀ i, 0 ≤ i → i < A (13 + s) → (lrZ A s (-1)).1 i = A (16 + 10 * s + i) := by
  have hm := hB.2.2.2.2.2.1 (13 + s) (by omega) (by omega)
  have r := lrF_all (A := A) (s := s) (fun p p0 p1 => (hB.2.2.2.2.2.2 (16 + 10 * s + p) (by omega) (by omega)).1) (A (13 + s)).toNat 0 (fun _ => 0) (by omega) (by omega)
  refine ⟨?_, fun i i0 i1 => (r.2 i).2 i0 (by omega)⟩
  have := r.1
  have e : (lrZ A s (-1)).2 = (lrF A s (-1) (A (13 + s)).toNat 0 0 (fun _ => 0)).2 := rfl
  rw [e, this]
  omega
theorem cnF_lt {f : Int → Int} {b i : Int} (hi : 0 ≤ i) (hf : f i = b) : ∀ n : Nat, i < n → cnF f b n ≤ n - 1
  | 0, h => by omega
  | n + 1, h => by
    unfold cnF
    by_cases e : i = n
    · rw [← e, hf, if_pos rfl]
      have := cnF_bd (f := f) (b := b) n
      omega
    · have := cnF_lt hi hf n (by omega)
      split <;> omega
theorem coL_cn {f r : Int → Int} {b : Int} : ∀ (k p : Nat) (q n : Int), coL f r b k p q n ≤ n + (cnF f b (p + k) - cnF f b p)
  | 0, p, q, n => by unfold coL; rw [Nat.add_zero]; omega
  | k + 1, p, q, n => by
    unfold coL
    have e1 : cnF f b (p + 1) = cnF f b p + (if f p = b then 0 else 1) := rfl
    have e2 : p + (k + 1) = p + 1 + k := by omega
    have e3 : ((p + 1 : Nat) : Int) = (p : Int) + 1 := by omega
    rw [e2]
    by_cases h : f p = b
    · rw [if_pos h]
      rw [if_pos h] at e1
      have := coL_cn (f := f) (r := r) (b := b) k (p + 1) q n
      rw [e3] at this
      omega
    · rw [if_neg h]
      rw [if_neg h] at e1
      have := coL_cn (f := f) (r := r) (b := b) k (p + 1) (q + 1) (n + (if f p = r q then 0 else 1))
      rw [e3] at this
      split at this <;> split <;> omega
theorem coA_bd {A X : Int → Int} {b : Int} (hB : TB A) (hH : SH A) (hb : 0 ≤ b ∧ b < A 0) (hs : A (46 + 6 * b + 5) < 3) : -1 ≤ coA A X b ∧ coA A X b ≤ 9 := by
  have h0 := hB.1
  have w0 := (hB.2.2.2.2.2.2 (46 + 6 * b + 5) (by omega) (by omega)).1
  have hm := hB.2.2.2.2.2.1 (13 + A (46 + 6 * b + 5)) (by omega) (by omega)
  obtain ⟨p, p0, p1, p2⟩ := hH.2.2.1 b hb.1 hb.2 hs
  have al := lrZ_all hB ⟨w0, hs⟩
  have cn1 : cnF (rsA A X (A (46 + 6 * b + 5)) (-1)).1 b (lrZ A (A (46 + 6 * b + 5)) (-1)).2.toNat = cnF (lrZ A (A (46 + 6 * b + 5)) (-1)).1 b (lrZ A (A (46 + 6 * b + 5)) (-1)).2.toNat := cnF_rst 501 0 _
  unfold coA
  generalize A (46 + 6 * b + 5) = s at *
  have lt := cnF_lt (f := (lrZ A s (-1)).1) (b := b) p0 (by rw [al.2 p p0 p1, p2]) (lrZ A s (-1)).2.toNat (by rw [al.1]; omega)
  split
  · omega
  · split
    · omega
    · have c := coL_cn (f := (rsA A X s (-1)).1) (r := (rsA A X s b).1) (b := b) (lrZ A s (-1)).2.toNat 0 0 0
      have c2 := coL_bd (f := (rsA A X s (-1)).1) (r := (rsA A X s b).1) (b := b) (lrZ A s (-1)).2.toNat 0 0 0
      rw [Nat.zero_add, cn1] at c
      have e0 : cnF (rsA A X s (-1)).1 b 0 = 0 := rfl
      rw [e0] at c
      have hM := al.1
      have e9 : coL (rsA A X s (-1)).1 (rsA A X s b).1 b (lrZ A s (-1)).2.toNat ((0 : Nat) : Int) 0 0 = coL (rsA A X s (-1)).1 (rsA A X s b).1 b (lrZ A s (-1)).2.toNat 0 0 0 := rfl
      rw [e9] at c
      omega
theorem chpL_cap {A X : Int → Int} {s : Int} (hB : TB A) (hH : SH A) (hs : s < 3) : ∀ (n : Nat) (b f : Int), 0 ≤ b → b + n = A 0 → chpL A X s n b f 1000000 = chpL A X s n b f 10
  | 0, _, _, _, _ => rfl
  | n + 1, b, f, hb, hn => by
    unfold chpL
    by_cases h : A (46 + 6 * b + 5) = s
    · rw [if_pos h, if_pos h]
      have bd := coA_bd (X := X) hB hH (b := b) ⟨hb, by omega⟩ (by omega)
      by_cases h2 : coA A X b < 0
      · rw [if_pos h2, if_pos h2]
        exact chpL_cap hB hH hs n (b + 1) f (by omega) (by omega)
      · rw [if_neg h2, if_neg h2, if_neg (by omega), if_neg (by omega)]
    · rw [if_neg h, if_neg h]
      exact chpL_cap hB hH hs n (b + 1) f (by omega) (by omega)
section XG
variable {g : jjG} {d : Nat} {T : jjT} {Q : jjQ} {A X : Int → Int}
theorem xw_theft {b : Int} {v : Int → Int → Int} (hT : PT T) (hV : PV v) (hC : CI (v, T) A X) (hS : SH A ∧ (0 ≤ A 1 ∧ A 1 < 100000)) (hQ : ∀ w, jkK v w → Q (.inl (some (vI (thfA A X b)))) (w, T)) : jmet g (d + 114) 0 0 MX0_theft [vR 400, vI b] (v, T) Q := by
  obtain ⟨hH, h1⟩ := hS
  unfold thfA at hQ
  refine jmet_of (ls := [some (vR 400), some (vI b)]) sX0_theft rfl (by decide +kernel) (by decide) rfl (by simp [jent]) ?_
  refine jW_step ?_
  simp (disch := (first | decide | omega)) only [bX0_theft, jxs, hps, jtsw, jlsw, List.length_cons, List.length_nil, true_and, and_true, true_implies, false_implies, implies_true, not_true_eq_false, not_false_eq_true, false_and, and_false, if_true, if_false, or_true, true_or, or_false, false_or, Classical.not_not, and_self, Int.reduceAdd, Int.reduceMul, Int.reduceSub, Int.reduceNeg, Int.reduceLT, Int.reduceLE, Int.reduceEq, Int.reduceNe, Int.reduceToNat, Nat.reduceAdd, Nat.reduceMul, Nat.reduceSub, Nat.reduceLeDiff, Nat.reduceLT, Nat.reduceEqDiff, reduceIte, Nat.zero_le, Nat.le_refl, Nat.add_zero, Nat.zero_add, xwT hT, xwV hV]
  refine ⟨0, 0, ⟨by omega, by omega⟩, xw_isOnShelf hT hV hC ?_⟩
  simp (disch := (first | decide | omega)) only [jxs, hps, jtsw, jlsw, List.length_cons, List.length_nil, true_and, and_true, true_implies, false_implies, implies_true, not_true_eq_false, not_false_eq_true, false_and, and_false, if_true, if_false, or_true, true_or, or_false, false_or, Classical.not_not, and_self, Int.reduceAdd, Int.reduceMul, Int.reduceSub, Int.reduceNeg, Int.reduceLT, Int.reduceLE, Int.reduceEq, Int.reduceNe, Int.reduceToNat, Nat.reduceAdd, Nat.reduceMul, Nat.reduceSub, Nat.reduceLeDiff, Nat.reduceLT, Nat.reduceEqDiff, reduceIte, Nat.zero_le, Nat.le_refl, Nat.add_zero, Nat.zero_add, xwT hT, xwV hV]
  refine ⟨fun h => ?_, fun h => ?_⟩
  · rw [if_pos h] at hQ
    refine ⟨0, 0, ⟨by omega, by omega⟩, xw_laysChange hT hV hC ?_⟩
    intro u hu hB
    have hVu := hu.pv hV
    have hCu := hu.ci hC
    have hV0 := hV
    have hV := hVu
    simp (disch := (first | decide | omega)) only [jxs, hps, jtsw, jlsw, List.length_cons, List.length_nil, true_and, and_true, true_implies, false_implies, implies_true, not_true_eq_false, not_false_eq_true, false_and, and_false, if_true, if_false, or_true, true_or, or_false, false_or, Classical.not_not, and_self, Int.reduceAdd, Int.reduceMul, Int.reduceSub, Int.reduceNeg, Int.reduceLT, Int.reduceLE, Int.reduceEq, Int.reduceNe, Int.reduceToNat, Nat.reduceAdd, Nat.reduceMul, Nat.reduceSub, Nat.reduceLeDiff, Nat.reduceLT, Nat.reduceEqDiff, reduceIte, Nat.zero_le, Nat.le_refl, Nat.add_zero, Nat.zero_add, xwT hT, xwV hV]
    refine ⟨0, 0, ⟨by omega, by omega⟩, xw_theftOf hT hVu hCu ⟨hB, hH, h1, by omega, h.2⟩ ?_⟩
    intro w hw _
    have bd := coA_bd (X := X) hC.tb hH (b := b) (by omega) h.2
    simp (disch := (first | decide | omega)) only [jxs, hps, jtsw, jlsw, List.length_cons, List.length_nil, true_and, and_true, true_implies, false_implies, implies_true, not_true_eq_false, not_false_eq_true, false_and, and_false, if_true, if_false, or_true, true_or, or_false, false_or, Classical.not_not, and_self, Int.reduceAdd, Int.reduceMul, Int.reduceSub, Int.reduceNeg, Int.reduceLT, Int.reduceLE, Int.reduceEq, Int.reduceNe, Int.reduceToNat, Nat.reduceAdd, Nat.reduceMul, Nat.reduceSub, Nat.reduceLeDiff, Nat.reduceLT, Nat.reduceEqDiff, reduceIte, Nat.zero_le, Nat.le_refl, Nat.add_zero, Nat.zero_add, xwT hT, xwV hV]
    (repeat (refine And.intro (by (first | omega | assumption | trivial | (simp only [inI]; omega) | (simp only [inL]; omega) | (refine jb_01) | (exact jb_in))) ?_))
    exact hQ w ((hu.K hV0).tr hw)
  · rw [if_neg h] at hQ
    (repeat (refine And.intro (by (first | omega | assumption | trivial | (simp only [inI]; omega) | (simp only [inL]; omega) | (refine jb_01) | (exact jb_in))) ?_))
    exact hQ v (jkK.rf hV hC.nm)
theorem xw_cheapest_1 {s : Int} (hT : PT T) (hH : SH A) (h1 : 0 ≤ A 1 ∧ A 1 < 100000) (hs : 0 ≤ s ∧ s < 3) : ∀ (n : Nat) (b f l : Int) (v : Int → Int → Int), PV v → CI (v, T) A X → CHB (v 523) A X → 0 ≤ b → b + n = A 0 →
    (∀ w, jkK v w → Q (.inl (some (vI (chpL A X s n b f l)))) (w, T)) →
    jW bX0_cheapest (g, d + 113, 0, 0, Q) 1 [some (vR 400), some (vI s), some (vI f), some (vI l), some (vI b), none] [] (v, T) 0 0 := by
  intro n
  induction n with
  | zero =>
    intro b f l v hV hC hB hb hn hQ
    have h0 := hC.tb.1
    unfold chpL at hQ
    refine jW_step ?_
    simp (disch := (first | decide | omega)) only [bX0_cheapest, jxs, hps, jtsw, jlsw, List.length_cons, List.length_nil, true_and, and_true, true_implies, false_implies, implies_true, not_true_eq_false, not_false_eq_true, false_and, and_false, if_true, if_false, or_true, true_or, or_false, false_or, Classical.not_not, and_self, Int.reduceAdd, Int.reduceMul, Int.reduceSub, Int.reduceNeg, Int.reduceLT, Int.reduceLE, Int.reduceEq, Int.reduceNe, Int.reduceToNat, Nat.reduceAdd, Nat.reduceMul, Nat.reduceSub, Nat.reduceLeDiff, Nat.reduceLT, Nat.reduceEqDiff, reduceIte, Nat.zero_le, Nat.le_refl, Nat.add_zero, Nat.zero_add, xwT hT, xwV hV, hC.n0]
    (repeat (refine And.intro (by (first | omega | assumption | trivial | (simp only [inI]; omega) | (simp only [inL]; omega) | (refine jb_01) | (exact jb_in))) ?_))
    (try refine ⟨fun _ => ?_, fun h9 => (by exfalso; omega)⟩)
    (repeat (refine And.intro (by (first | omega | assumption | trivial | (simp only [inI]; omega) | (simp only [inL]; omega) | (refine jb_01) | (exact jb_in))) ?_))
    exact hQ v (jkK.rf hV hC.nm)
  | succ n ih =>
    intro b f l v hV hC hB hb hn hQ
    have h0 := hC.tb.1
    unfold chpL at hQ
    have k3 : ∀ u f' l' l5, jkK v u → u 523 = v 523 → (∀ w, jkK v w → Q (.inl (some (vI (chpL A X s n (b + 1) f' l')))) (w, T)) → jW bX0_cheapest (g, d + 113, 0, 0, Q) 3 [some (vR 400), some (vI s), some (vI f'), some (vI l'), some (vI b), some (vI l5)] [] (u, T) 0 0 := by
      intro u f' l' l5 hu e23 hq
      have hV := hu.pv
      refine jW_step ?_
      simp (disch := (first | decide | omega)) only [bX0_cheapest, jxs, hps, jtsw, jlsw, List.length_cons, List.length_nil, true_and, and_true, true_implies, false_implies, implies_true, not_true_eq_false, not_false_eq_true, false_and, and_false, if_true, if_false, or_true, true_or, or_false, false_or, Classical.not_not, and_self, Int.reduceAdd, Int.reduceMul, Int.reduceSub, Int.reduceNeg, Int.reduceLT, Int.reduceLE, Int.reduceEq, Int.reduceNe, Int.reduceToNat, Nat.reduceAdd, Nat.reduceMul, Nat.reduceSub, Nat.reduceLeDiff, Nat.reduceLT, Nat.reduceEqDiff, reduceIte, Nat.zero_le, Nat.le_refl, Nat.add_zero, Nat.zero_add, xwT hT, xwV hV]
      (repeat (refine And.intro (by (first | omega | assumption | trivial | (simp only [inI]; omega) | (simp only [inL]; omega) | (refine jb_01) | (exact jb_in))) ?_))
      refine jW_sub (ls' := [some (vR 400), some (vI s), some (vI f'), some (vI l'), some (vI (b + 1)), none]) (by simp [jsub]) ?_
      exact ih (b + 1) f' l' u hV (hu.ci hC) (by rw [e23]; exact hB) (by omega) (by omega) (fun w hw => hq w (hu.tr hw))
    refine jW_step ?_
    simp (disch := (first | decide | omega)) only [bX0_cheapest, jxs, hps, jtsw, jlsw, List.length_cons, List.length_nil, true_and, and_true, true_implies, false_implies, implies_true, not_true_eq_false, not_false_eq_true, false_and, and_false, if_true, if_false, or_true, true_or, or_false, false_or, Classical.not_not, and_self, Int.reduceAdd, Int.reduceMul, Int.reduceSub, Int.reduceNeg, Int.reduceLT, Int.reduceLE, Int.reduceEq, Int.reduceNe, Int.reduceToNat, Nat.reduceAdd, Nat.reduceMul, Nat.reduceSub, Nat.reduceLeDiff, Nat.reduceLT, Nat.reduceEqDiff, reduceIte, Nat.zero_le, Nat.le_refl, Nat.add_zero, Nat.zero_add, xwT hT, xwV hV, hC.n0]
    (repeat (refine And.intro (by (first | omega | assumption | trivial | (simp only [inI]; omega) | (simp only [inL]; omega) | (refine jb_01) | (exact jb_in))) ?_))
    (first | refine ⟨fun h9 => (by exfalso; omega), fun _ => ?_⟩ | intro _)
    refine ⟨0, 0, ⟨by omega, by omega⟩, xw_whereIs hT hV hC (by omega) ?_⟩
    simp (disch := (first | decide | omega)) only [jxs, hps, jtsw, jlsw, List.length_cons, List.length_nil, true_and, and_true, true_implies, false_implies, implies_true, not_true_eq_false, not_false_eq_true, false_and, and_false, if_true, if_false, or_true, true_or, or_false, false_or, Classical.not_not, and_self, Int.reduceAdd, Int.reduceMul, Int.reduceSub, Int.reduceNeg, Int.reduceLT, Int.reduceLE, Int.reduceEq, Int.reduceNe, Int.reduceToNat, Nat.reduceAdd, Nat.reduceMul, Nat.reduceSub, Nat.reduceLeDiff, Nat.reduceLT, Nat.reduceEqDiff, reduceIte, Nat.zero_le, Nat.le_refl, Nat.add_zero, Nat.zero_add, xwT hT, xwV hV]
    refine ⟨fun h => ?_, fun h => ?_⟩
    · rw [if_neg h] at hQ
      refine jW_step ?_
      simp (disch := (first | decide | omega)) only [bX0_cheapest, jxs, hps, jtsw, jlsw, List.length_cons, List.length_nil, true_and, and_true, true_implies, false_implies, implies_true, not_true_eq_false, not_false_eq_true, false_and, and_false, if_true, if_false, or_true, true_or, or_false, false_or, Classical.not_not, and_self, Int.reduceAdd, Int.reduceMul, Int.reduceSub, Int.reduceNeg, Int.reduceLT, Int.reduceLE, Int.reduceEq, Int.reduceNe, Int.reduceToNat, Nat.reduceAdd, Nat.reduceMul, Nat.reduceSub, Nat.reduceLeDiff, Nat.reduceLT, Nat.reduceEqDiff, reduceIte, Nat.zero_le, Nat.le_refl, Nat.add_zero, Nat.zero_add, xwT hT, xwV hV]
      exact k3 v f l _ (jkK.rf hV hC.nm) rfl hQ
    · have h' : A (46 + 6 * b + 5) = s := by omega
      rw [if_pos h'] at hQ
      have bd := coA_bd (X := X) hC.tb hH (b := b) (by omega) (by omega)
      refine ⟨0, 0, ⟨by omega, by omega⟩, xw_theftOf hT hV hC ⟨hB, hH, h1, by omega, by omega⟩ ?_⟩
      intro w hw e23
      generalize coA A X b = c at *
      have hV := hw.pv
      simp (disch := (first | decide | omega)) only [jxs, hps, jtsw, jlsw, List.length_cons, List.length_nil, true_and, and_true, true_implies, false_implies, implies_true, not_true_eq_false, not_false_eq_true, false_and, and_false, if_true, if_false, or_true, true_or, or_false, false_or, Classical.not_not, and_self, Int.reduceAdd, Int.reduceMul, Int.reduceSub, Int.reduceNeg, Int.reduceLT, Int.reduceLE, Int.reduceEq, Int.reduceNe, Int.reduceToNat, Nat.reduceAdd, Nat.reduceMul, Nat.reduceSub, Nat.reduceLeDiff, Nat.reduceLT, Nat.reduceEqDiff, reduceIte, Nat.zero_le, Nat.le_refl, Nat.add_zero, Nat.zero_add, xwT hT, xwV hV]
      refine jW_step ?_
      simp (disch := (first | decide | omega)) only [bX0_cheapest, jxs, hps, jtsw, jlsw, List.length_cons, List.length_nil, true_and, and_true, true_implies, false_implies, implies_true, not_true_eq_false, not_false_eq_true, false_and, and_false, if_true, if_false, or_true, true_or, or_false, false_or, Classical.not_not, and_self, Int.reduceAdd, Int.reduceMul, Int.reduceSub, Int.reduceNeg, Int.reduceLT, Int.reduceLE, Int.reduceEq, Int.reduceNe, Int.reduceToNat, Nat.reduceAdd, Nat.reduceMul, Nat.reduceSub, Nat.reduceLeDiff, Nat.reduceLT, Nat.reduceEqDiff, reduceIte, Nat.zero_le, Nat.le_refl, Nat.add_zero, Nat.zero_add, xwT hT, xwV hV]
      refine ⟨fun h2 => ?_, fun h2 => ?_⟩
      · rw [if_pos (by omega)] at hQ
        exact k3 w f l _ hw e23 hQ
      · rw [if_neg (by omega)] at hQ
        refine ⟨fun h3 => ?_, fun h3 => ?_⟩
        · rw [if_neg (by omega)] at hQ
          exact k3 w b c _ hw e23 hQ
        · rw [if_pos (by omega)] at hQ
          exact k3 w f l _ hw e23 hQ
theorem xw_cheapest {s : Int} {v : Int → Int → Int} (hT : PT T) (hV : PV v) (hC : CI (v, T) A X) (hS : SH A ∧ (0 ≤ A 1 ∧ A 1 < 100000)) (hQ : ∀ w, jkK v w → Q (.inl (some (vI (chpA A X s)))) (w, T)) : jmet g (d + 114) 0 0 MX0_cheapest [vR 400, vI s] (v, T) Q := by
  obtain ⟨hH, h1⟩ := hS
  have h0 := hC.tb.1
  unfold chpA at hQ
  refine jmet_of (ls := [some (vR 400), some (vI s), none, none, none, none]) sX0_cheapest rfl (by decide +kernel) (by decide) rfl (by simp [jent]) ?_
  refine jW_step ?_
  simp (disch := (first | decide | omega)) only [bX0_cheapest, jxs, hps, jtsw, jlsw, List.length_cons, List.length_nil, true_and, and_true, true_implies, false_implies, implies_true, not_true_eq_false, not_false_eq_true, false_and, and_false, if_true, if_false, or_true, true_or, or_false, false_or, Classical.not_not, and_self, Int.reduceAdd, Int.reduceMul, Int.reduceSub, Int.reduceNeg, Int.reduceLT, Int.reduceLE, Int.reduceEq, Int.reduceNe, Int.reduceToNat, Nat.reduceAdd, Nat.reduceMul, Nat.reduceSub, Nat.reduceLeDiff, Nat.reduceLT, Nat.reduceEqDiff, reduceIte, Nat.zero_le, Nat.le_refl, Nat.add_zero, Nat.zero_add, xwT hT, xwV hV]
  refine ⟨0, 0, ⟨by omega, by omega⟩, xw_isShelf ?_⟩
  simp (disch := (first | decide | omega)) only [jxs, hps, jtsw, jlsw, List.length_cons, List.length_nil, true_and, and_true, true_implies, false_implies, implies_true, not_true_eq_false, not_false_eq_true, false_and, and_false, if_true, if_false, or_true, true_or, or_false, false_or, Classical.not_not, and_self, Int.reduceAdd, Int.reduceMul, Int.reduceSub, Int.reduceNeg, Int.reduceLT, Int.reduceLE, Int.reduceEq, Int.reduceNe, Int.reduceToNat, Nat.reduceAdd, Nat.reduceMul, Nat.reduceSub, Nat.reduceLeDiff, Nat.reduceLT, Nat.reduceEqDiff, reduceIte, Nat.zero_le, Nat.le_refl, Nat.add_zero, Nat.zero_add, xwT hT, xwV hV]
  refine ⟨fun h => ?_, fun h => ?_⟩
  · rw [if_pos h, chpL_cap hC.tb hH (by omega) (A 0).toNat 0 (-1) (by omega) (by omega)] at hQ
    refine ⟨0, 0, ⟨by omega, by omega⟩, xw_laysChange hT hV hC ?_⟩
    intro u hu hB
    have hVu := hu.pv hV
    have hCu := hu.ci hC
    have hV0 := hV
    have hV := hVu
    simp (disch := (first | decide | omega)) only [jxs, hps, jtsw, jlsw, List.length_cons, List.length_nil, true_and, and_true, true_implies, false_implies, implies_true, not_true_eq_false, not_false_eq_true, false_and, and_false, if_true, if_false, or_true, true_or, or_false, false_or, Classical.not_not, and_self, Int.reduceAdd, Int.reduceMul, Int.reduceSub, Int.reduceNeg, Int.reduceLT, Int.reduceLE, Int.reduceEq, Int.reduceNe, Int.reduceToNat, Nat.reduceAdd, Nat.reduceMul, Nat.reduceSub, Nat.reduceLeDiff, Nat.reduceLT, Nat.reduceEqDiff, reduceIte, Nat.zero_le, Nat.le_refl, Nat.add_zero, Nat.zero_add, xwT hT, xwV hV]
    exact xw_cheapest_1 hT hH h1 ⟨h.1, by omega⟩ (A 0).toNat 0 (-1) 10 u hVu hCu hB (by omega) (by omega) (fun w hw => hQ w ((hu.K hV0).tr hw))
  · rw [if_neg h] at hQ
    (repeat (refine And.intro (by (first | omega | assumption | trivial | (simp only [inI]; omega) | (simp only [inL]; omega) | (refine jb_01) | (exact jb_in))) ?_))
    exact hQ v (jkK.rf hV hC.nm)
end XG
