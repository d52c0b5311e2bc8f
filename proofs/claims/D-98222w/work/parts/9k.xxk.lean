/-! ===== the class: tells ===== -/
-- MODE X
set_option maxRecDepth 100000
theorem bc_64 {s : Int} (h : 0 ≤ s ∧ s < 64) : bc s ≤ 6 := by
  have e := bcF_hi (s := s) (k := 6) h.1 (by omega) 4
  have b := bcF_le (s := s) 6
  show bcF s (6 + 4) ≤ 6
  rw [e]
  exact b.2
theorem tlM_bd {A X : Int → Int} {set b k : Int} (h : 0 ≤ set ∧ set < 64) : 0 ≤ tlM A X set b k ∧ tlM A X set b k ≤ 6 := by
  have p := psF_bd (A := A) (X := X) (set := set) (b := b) (o := k / 2) (r := k % 2) 6
  have c := bc_64 h
  unfold tlM
  split <;> omega
theorem tlL_cap {A X : Int → Int} {set b : Int} (h : 0 ≤ set ∧ set < 64) : ∀ (n : Nat) (k f : Int), tlL A X set b n k f 1000000 = tlL A X set b n k f 7
  | 0, _, _ => rfl
  | n + 1, k, f => by
    have t := tlM_bd (A := A) (X := X) (b := b) (k := k) h
    unfold tlL
    by_cases q : k / 2 = b
    · rw [if_pos q, if_pos q]
      exact tlL_cap h n (k + 1) f
    · rw [if_neg q, if_neg q, if_neg (by omega), if_neg (by omega)]
section XG
variable {g : jjG} {d : Nat} {T : jjT} {Q : jjQ} {A X : Int → Int}
theorem xw_ma_1 {set b k : Int} (hT : PT T) (hs : 0 ≤ set ∧ set < 64) (hb : 0 ≤ b ∧ b < A 0) (hk : 0 ≤ k ∧ k < 2 * A 0) : ∀ (n j : Nat) (v : Int → Int → Int), PV v → CI (v, T) A X → j + n = 6 →
    (∀ w, jkq v w → Q (.inl (some (vI (tlM A X set b k)))) (w, T)) →
    jW bX0_mostAlike (g, d + 110, 0, 0, Q) 1 [some (vR 400), some (vI set), some (vI b), some (vI (k / 2)), some (vI (k % 2)), some (vI (psF A X set b (k / 2) (k % 2) j)), some (vI (j : Int))] [] (v, T) 0 0 := by
  intro n
  induction n with
  | zero =>
    intro j v hV hC hj hQ
    have e : j = 6 := by omega
    subst e
    have p := psF_bd (A := A) (X := X) (set := set) (b := b) (o := k / 2) (r := k % 2) 6
    have c := bc_64 hs
    have c0 := bc_bd (s := set)
    unfold tlM at hQ
    generalize psF A X set b (k / 2) (k % 2) 6 = q at *
    refine jW_step ?_
    simp (disch := (first | decide | omega)) only [bX0_mostAlike, jxs, hps, jtsw, jlsw, List.length_cons, List.length_nil, true_and, and_true, true_implies, false_implies, implies_true, not_true_eq_false, not_false_eq_true, false_and, and_false, if_true, if_false, or_true, true_or, or_false, false_or, Classical.not_not, and_self, Int.reduceAdd, Int.reduceMul, Int.reduceSub, Int.reduceNeg, Int.reduceLT, Int.reduceLE, Int.reduceEq, Int.reduceNe, Int.reduceToNat, Nat.reduceAdd, Nat.reduceMul, Nat.reduceSub, Nat.reduceLeDiff, Nat.reduceLT, Nat.reduceEqDiff, reduceIte, Nat.zero_le, Nat.le_refl, Nat.add_zero, Nat.zero_add, xwT hT, xwV hV]
    (try refine ⟨fun _ => ?_, fun h9 => (by exfalso; omega)⟩)
    refine ⟨0, 0, ⟨by omega, by omega⟩, xj_bitCount (by omega) ?_⟩
    simp (disch := (first | decide | omega)) only [jxs, hps, jtsw, jlsw, List.length_cons, List.length_nil, true_and, and_true, true_implies, false_implies, implies_true, not_true_eq_false, not_false_eq_true, false_and, and_false, if_true, if_false, or_true, true_or, or_false, false_or, Classical.not_not, and_self, Int.reduceAdd, Int.reduceMul, Int.reduceSub, Int.reduceNeg, Int.reduceLT, Int.reduceLE, Int.reduceEq, Int.reduceNe, Int.reduceToNat, Nat.reduceAdd, Nat.reduceMul, Nat.reduceSub, Nat.reduceLeDiff, Nat.reduceLT, Nat.reduceEqDiff, reduceIte, Nat.zero_le, Nat.le_refl, Nat.add_zero, Nat.zero_add, xwT hT, xwV hV]
    (repeat (refine And.intro (by (first | omega | assumption | trivial | (simp only [inI]; omega) | (simp only [inL]; omega) | (refine jb_01) | (exact jb_in))) ?_))
    refine ⟨0, 0, ⟨by omega, by omega⟩, xj_max2 ?_ ⟨⟨by omega, by omega⟩, ⟨by omega, by omega⟩⟩⟩
    have r : inI (if q < bc set - q then bc set - q else q) := by
      split
      · exact ⟨by omega, by omega⟩
      · exact ⟨by omega, by omega⟩
    simp (disch := (first | decide | omega)) only [jxs, hps, jtsw, jlsw, List.length_cons, List.length_nil, true_and, and_true, true_implies, false_implies, implies_true, not_true_eq_false, not_false_eq_true, false_and, and_false, if_true, if_false, or_true, true_or, or_false, false_or, Classical.not_not, and_self, Int.reduceAdd, Int.reduceMul, Int.reduceSub, Int.reduceNeg, Int.reduceLT, Int.reduceLE, Int.reduceEq, Int.reduceNe, Int.reduceToNat, Nat.reduceAdd, Nat.reduceMul, Nat.reduceSub, Nat.reduceLeDiff, Nat.reduceLT, Nat.reduceEqDiff, reduceIte, Nat.zero_le, Nat.le_refl, Nat.add_zero, Nat.zero_add, xwT hT, xwV hV]
    (repeat (refine And.intro (by (first | omega | assumption | trivial | (simp only [inI]; omega) | (simp only [inL]; omega) | (refine jb_01) | (exact jb_in))) ?_))
    exact hQ v (jkq.rf hC.nm)
  | succ n ih =>
    intro j v hV hC hj hQ
    have p := psF_bd (A := A) (X := X) (set := set) (b := b) (o := k / 2) (r := k % 2) j
    have k3 : ∀ w z, jkq v w → z = (if set / 2 ^ j % 2 = 1 ∧ ¬ pbA A X j b (k / 2) (k % 2) = 0 then (1 : Int) else 0) → jW bX0_mostAlike (g, d + 110, 0, 0, Q) 3 [some (vR 400), some (vI set), some (vI b), some (vI (k / 2)), some (vI (k % 2)), some (vI (psF A X set b (k / 2) (k % 2) j)), some (vI (j : Int))] [vI z, vI (psF A X set b (k / 2) (k % 2) j)] (w, T) 0 0 := by
      intro w z hw hz
      have z1 : 0 ≤ z ∧ z ≤ 1 := by rw [hz]; split <;> omega
      have hVw := hw.pv hV
      have e : psF A X set b (k / 2) (k % 2) j + z = psF A X set b (k / 2) (k % 2) (j + 1) := by rw [hz]; rfl
      have hV := hVw
      refine jW_step ?_
      simp (disch := (first | decide | omega)) only [bX0_mostAlike, jxs, hps, jtsw, jlsw, List.length_cons, List.length_nil, true_and, and_true, true_implies, false_implies, implies_true, not_true_eq_false, not_false_eq_true, false_and, and_false, if_true, if_false, or_true, true_or, or_false, false_or, Classical.not_not, and_self, Int.reduceAdd, Int.reduceMul, Int.reduceSub, Int.reduceNeg, Int.reduceLT, Int.reduceLE, Int.reduceEq, Int.reduceNe, Int.reduceToNat, Nat.reduceAdd, Nat.reduceMul, Nat.reduceSub, Nat.reduceLeDiff, Nat.reduceLT, Nat.reduceEqDiff, reduceIte, Nat.zero_le, Nat.le_refl, Nat.add_zero, Nat.zero_add, xwT hT, xwV hV]
      (repeat (refine And.intro (by (first | omega | assumption | trivial | (simp only [inI]; omega) | (simp only [inL]; omega) | (refine jb_01) | (exact jb_in))) ?_))
      rw [e]
      have nx := ih (j + 1) w hVw (hw.ci hC) (by omega) (fun y hy => hQ y (hw.tr hy))
      rw [show ((j + 1 : Nat) : Int) = (j : Int) + 1 by omega] at nx
      exact nx
    have k2 : ∀ w, jkq v w → ¬ (set / 2 ^ j % 2 = 1 ∧ ¬ pbA A X j b (k / 2) (k % 2) = 0) → jW bX0_mostAlike (g, d + 110, 0, 0, Q) 2 [some (vR 400), some (vI set), some (vI b), some (vI (k / 2)), some (vI (k % 2)), some (vI (psF A X set b (k / 2) (k % 2) j)), some (vI (j : Int))] [vI (psF A X set b (k / 2) (k % 2) j)] (w, T) 0 0 := by
      intro w hw hh
      have hV := hw.pv hV
      refine jW_step ?_
      simp (disch := (first | decide | omega)) only [bX0_mostAlike, jxs, hps, jtsw, jlsw, List.length_cons, List.length_nil, true_and, and_true, true_implies, false_implies, implies_true, not_true_eq_false, not_false_eq_true, false_and, and_false, if_true, if_false, or_true, true_or, or_false, false_or, Classical.not_not, and_self, Int.reduceAdd, Int.reduceMul, Int.reduceSub, Int.reduceNeg, Int.reduceLT, Int.reduceLE, Int.reduceEq, Int.reduceNe, Int.reduceToNat, Nat.reduceAdd, Nat.reduceMul, Nat.reduceSub, Nat.reduceLeDiff, Nat.reduceLT, Nat.reduceEqDiff, reduceIte, Nat.zero_le, Nat.le_refl, Nat.add_zero, Nat.zero_add, xwT hT, xwV hV]
      exact k3 w 0 hw (by rw [if_neg hh])
    refine jW_step ?_
    simp (disch := (first | decide | omega)) only [bX0_mostAlike, jxs, hps, jtsw, jlsw, List.length_cons, List.length_nil, true_and, and_true, true_implies, false_implies, implies_true, not_true_eq_false, not_false_eq_true, false_and, and_false, if_true, if_false, or_true, true_or, or_false, false_or, Classical.not_not, and_self, Int.reduceAdd, Int.reduceMul, Int.reduceSub, Int.reduceNeg, Int.reduceLT, Int.reduceLE, Int.reduceEq, Int.reduceNe, Int.reduceToNat, Nat.reduceAdd, Nat.reduceMul, Nat.reduceSub, Nat.reduceLeDiff, Nat.reduceLT, Nat.reduceEqDiff, reduceIte, Nat.zero_le, Nat.le_refl, Nat.add_zero, Nat.zero_add, xwT hT, xwV hV]
    (first | refine ⟨fun h9 => (by exfalso; omega), fun _ => ?_⟩ | intro _)
    rw [jbit ⟨by omega, by omega⟩ (by omega) (by omega), show ((j : Int)).toNat = j by omega]
    refine ⟨fun h => ?_, fun h => ?_⟩
    · exact k2 v (jkq.rf hC.nm) (fun q => h q.1)
    · refine ⟨0, 0, ⟨by omega, by omega⟩, xw_pushesBy hT hV hC ⟨by omega, hb, by omega, by omega⟩ ?_⟩
      intro w hw
      have hV0 := hV
      have hV := hw.pv hV0
      simp (disch := (first | decide | omega)) only [jxs, hps, jtsw, jlsw, List.length_cons, List.length_nil, true_and, and_true, true_implies, false_implies, implies_true, not_true_eq_false, not_false_eq_true, false_and, and_false, if_true, if_false, or_true, true_or, or_false, false_or, Classical.not_not, and_self, Int.reduceAdd, Int.reduceMul, Int.reduceSub, Int.reduceNeg, Int.reduceLT, Int.reduceLE, Int.reduceEq, Int.reduceNe, Int.reduceToNat, Nat.reduceAdd, Nat.reduceMul, Nat.reduceSub, Nat.reduceLeDiff, Nat.reduceLT, Nat.reduceEqDiff, reduceIte, Nat.zero_le, Nat.le_refl, Nat.add_zero, Nat.zero_add, xwT hT, xwV hV]
      refine ⟨fun h2 => ?_, fun h2 => ?_⟩
      · exact k2 w hw (fun q => q.2 h2)
      · exact k3 w 1 hw (by rw [if_pos ⟨by omega, h2⟩])
theorem xw_mostAlike {set b k : Int} {v : Int → Int → Int} (hT : PT T) (hV : PV v) (hC : CI (v, T) A X) (hs : 0 ≤ set ∧ set < 64) (hb : 0 ≤ b ∧ b < A 0) (hk : 0 ≤ k ∧ k < 2 * A 0) (hQ : ∀ w, jkq v w → Q (.inl (some (vI (tlM A X set b k)))) (w, T)) : jmet g (d + 111) 0 0 MX0_mostAlike [vR 400, vI set, vI b, vI (k / 2), vI (k % 2)] (v, T) Q := by
  refine jmet_of (ls := [some (vR 400), some (vI set), some (vI b), some (vI (k / 2)), some (vI (k % 2)), none, none]) sX0_mostAlike rfl (by decide +kernel) (by decide) rfl (by simp [jent]) ?_
  refine jW_step ?_
  simp (disch := (first | decide | omega)) only [bX0_mostAlike, jxs, hps, jtsw, jlsw, List.length_cons, List.length_nil, true_and, and_true, true_implies, false_implies, implies_true, not_true_eq_false, not_false_eq_true, false_and, and_false, if_true, if_false, or_true, true_or, or_false, false_or, Classical.not_not, and_self, Int.reduceAdd, Int.reduceMul, Int.reduceSub, Int.reduceNeg, Int.reduceLT, Int.reduceLE, Int.reduceEq, Int.reduceNe, Int.reduceToNat, Nat.reduceAdd, Nat.reduceMul, Nat.reduceSub, Nat.reduceLeDiff, Nat.reduceLT, Nat.reduceEqDiff, reduceIte, Nat.zero_le, Nat.le_refl, Nat.add_zero, Nat.zero_add, xwT hT, xwV hV]
  exact xw_ma_1 hT hs hb hk 6 0 v hV hC (by omega) hQ
theorem xw_tells_1 {set b : Int} (hT : PT T) (hs : 0 ≤ set ∧ set < 64) (hb : 0 ≤ b ∧ b < A 0) : ∀ (n : Nat) (k f l : Int) (v : Int → Int → Int), PV v → CI (v, T) A X → 0 ≤ k → k + n = 2 * A 0 →
    (∀ w, jkq v w → Q (.inl (some (vI (tlL A X set b n k f l)))) (w, T)) →
    jW bX0_tells (g, d + 114, 0, 0, Q) 1 [some (vR 400), some (vI b), some (vI set), some (vI f), some (vI l), some (vI k), none] [] (v, T) 0 0 := by
  intro n
  induction n with
  | zero =>
    intro k f l v hV hC hk hn hQ
    have h0 := hC.tb.1
    unfold tlL at hQ
    refine jW_step ?_
    simp (disch := (first | decide | omega)) only [bX0_tells, jxs, hps, jtsw, jlsw, List.length_cons, List.length_nil, true_and, and_true, true_implies, false_implies, implies_true, not_true_eq_false, not_false_eq_true, false_and, and_false, if_true, if_false, or_true, true_or, or_false, false_or, Classical.not_not, and_self, Int.reduceAdd, Int.reduceMul, Int.reduceSub, Int.reduceNeg, Int.reduceLT, Int.reduceLE, Int.reduceEq, Int.reduceNe, Int.reduceToNat, Nat.reduceAdd, Nat.reduceMul, Nat.reduceSub, Nat.reduceLeDiff, Nat.reduceLT, Nat.reduceEqDiff, reduceIte, Nat.zero_le, Nat.le_refl, Nat.add_zero, Nat.zero_add, xwT hT, xwV hV, hC.n0]
    (repeat (refine And.intro (by (first | omega | assumption | trivial | (simp only [inI]; omega) | (simp only [inL]; omega) | (refine jb_01) | (exact jb_in))) ?_))
    (try refine ⟨fun _ => ?_, fun h9 => (by exfalso; omega)⟩)
    (repeat (refine And.intro (by (first | omega | assumption | trivial | (simp only [inI]; omega) | (simp only [inL]; omega) | (refine jb_01) | (exact jb_in))) ?_))
    exact hQ v (jkq.rf hC.nm)
  | succ n ih =>
    intro k f l v hV hC hk hn hQ
    have h0 := hC.tb.1
    unfold tlL at hQ
    have k3 : ∀ u f' l' l6, jkq v u → (∀ w, jkq v w → Q (.inl (some (vI (tlL A X set b n (k + 1) f' l')))) (w, T)) → jW bX0_tells (g, d + 114, 0, 0, Q) 3 [some (vR 400), some (vI b), some (vI set), some (vI f'), some (vI l'), some (vI k), l6] [] (u, T) 0 0 := by
      intro u f' l' l6 hu hq
      have hVu := hu.pv hV
      have hV := hVu
      refine jW_step ?_
      simp (disch := (first | decide | omega)) only [bX0_tells, jxs, hps, jtsw, jlsw, List.length_cons, List.length_nil, true_and, and_true, true_implies, false_implies, implies_true, not_true_eq_false, not_false_eq_true, false_and, and_false, if_true, if_false, or_true, true_or, or_false, false_or, Classical.not_not, and_self, Int.reduceAdd, Int.reduceMul, Int.reduceSub, Int.reduceNeg, Int.reduceLT, Int.reduceLE, Int.reduceEq, Int.reduceNe, Int.reduceToNat, Nat.reduceAdd, Nat.reduceMul, Nat.reduceSub, Nat.reduceLeDiff, Nat.reduceLT, Nat.reduceEqDiff, reduceIte, Nat.zero_le, Nat.le_refl, Nat.add_zero, Nat.zero_add, xwT hT, xwV hV]
      (repeat (refine And.intro (by (first | omega | assumption | trivial | (simp only [inI]; omega) | (simp only [inL]; omega) | (refine jb_01) | (exact jb_in))) ?_))
      refine jW_sub (ls' := [some (vR 400), some (vI b), some (vI set), some (vI f'), some (vI l'), some (vI (k + 1)), none]) (by simp [jsub]) ?_
      exact ih (k + 1) f' l' u hVu (hu.ci hC) (by omega) (by omega) (fun w hw => hq w (hu.tr hw))
    refine jW_step ?_
    simp (disch := (first | decide | omega)) only [bX0_tells, jxs, hps, jtsw, jlsw, List.length_cons, List.length_nil, true_and, and_true, true_implies, false_implies, implies_true, not_true_eq_false, not_false_eq_true, false_and, and_false, if_true, if_false, or_true, true_or, or_false, false_or, Classical.not_not, and_self, Int.reduceAdd, Int.reduceMul, Int.reduceSub, Int.reduceNeg, Int.reduceLT, Int.reduceLE, Int.reduceEq, Int.reduceNe, Int.reduceToNat, Nat.reduceAdd, Nat.reduceMul, Nat.reduceSub, Nat.reduceLeDiff, Nat.reduceLT, Nat.reduceEqDiff, reduceIte, Nat.zero_le, Nat.le_refl, Nat.add_zero, Nat.zero_add, xwT hT, xwV hV, hC.n0]
    (repeat (refine And.intro (by (first | omega | assumption | trivial | (simp only [inI]; omega) | (simp only [inL]; omega) | (refine jb_01) | (exact jb_in))) ?_))
    (first | refine ⟨fun h9 => (by exfalso; omega), fun _ => ?_⟩ | intro _)
    (repeat (refine And.intro (by (first | omega | assumption | trivial | (simp only [inI]; omega) | (simp only [inL]; omega) | (refine jb_01) | (exact jb_in))) ?_))
    refine ⟨fun h => ?_, fun h => ?_⟩
    · rw [if_neg h] at hQ
      have k2 : jW bX0_tells (g, d + 114, 0, 0, Q) 2 [some (vR 400), some (vI b), some (vI set), some (vI f), some (vI l), some (vI k), none] [vI (k % 2), vI (k / 2), vI b, vI set, vR 400] (v, T) 0 0 := by
        refine jW_step ?_
        simp (disch := (first | decide | omega)) only [bX0_tells, jxs, hps, jtsw, jlsw, List.length_cons, List.length_nil, true_and, and_true, true_implies, false_implies, implies_true, not_true_eq_false, not_false_eq_true, false_and, and_false, if_true, if_false, or_true, true_or, or_false, false_or, Classical.not_not, and_self, Int.reduceAdd, Int.reduceMul, Int.reduceSub, Int.reduceNeg, Int.reduceLT, Int.reduceLE, Int.reduceEq, Int.reduceNe, Int.reduceToNat, Nat.reduceAdd, Nat.reduceMul, Nat.reduceSub, Nat.reduceLeDiff, Nat.reduceLT, Nat.reduceEqDiff, reduceIte, Nat.zero_le, Nat.le_refl, Nat.add_zero, Nat.zero_add, xwT hT, xwV hV]
        refine ⟨0, 0, ⟨by omega, by omega⟩, xw_mostAlike (d := d + 3) hT hV hC hs hb ⟨hk, by omega⟩ ?_⟩
        intro w hw
        have t := tlM_bd (A := A) (X := X) (b := b) (k := k) hs
        generalize tlM A X set b k = m at *
        have hV0 := hV
        have hV := hw.pv hV0
        simp (disch := (first | decide | omega)) only [jxs, hps, jtsw, jlsw, List.length_cons, List.length_nil, true_and, and_true, true_implies, false_implies, implies_true, not_true_eq_false, not_false_eq_true, false_and, and_false, if_true, if_false, or_true, true_or, or_false, false_or, Classical.not_not, and_self, Int.reduceAdd, Int.reduceMul, Int.reduceSub, Int.reduceNeg, Int.reduceLT, Int.reduceLE, Int.reduceEq, Int.reduceNe, Int.reduceToNat, Nat.reduceAdd, Nat.reduceMul, Nat.reduceSub, Nat.reduceLeDiff, Nat.reduceLT, Nat.reduceEqDiff, reduceIte, Nat.zero_le, Nat.le_refl, Nat.add_zero, Nat.zero_add, xwT hT, xwV hV]
        refine ⟨fun h2 => ?_, fun h2 => ?_⟩
        · rw [if_neg (by omega)] at hQ
          exact k3 w k m _ hw hQ
        · rw [if_pos (by omega)] at hQ
          exact k3 w f l _ hw hQ
      (repeat (refine And.intro (by (first | omega | assumption | trivial | (simp only [inI]; omega) | (simp only [inL]; omega) | (refine jb_01) | (exact jb_in))) ?_))
      refine ⟨fun h2 => ?_, fun h2 => ?_⟩
      · rw [show k % 2 = 0 by omega] at k2
        exact k2
      · rw [show k % 2 = 1 by omega] at k2
        exact k2
    · rw [if_pos (by omega)] at hQ
      exact k3 v f l _ (jkq.rf hC.nm) hQ
theorem xw_tells {b : Int} {v : Int → Int → Int} (hT : PT T) (hV : PV v) (hC : CI (v, T) A X) (hD : DU A) (hQ : ∀ w, jkq v w → Q (.inl (some (vI (telA A X b)))) (w, T)) : jmet g (d + 115) 0 0 MX0_tells [vR 400, vI b] (v, T) Q := by
  have h0 := hC.tb.1
  have lb : 0 ≤ lwsA A X b ∧ lwsA A X b < 64 := by
    have := gat_bd (p := fun la => decide (¬ fitA A X la b = 0)) 6
    unfold lwsA
    omega
  unfold telA at hQ
  refine jmet_of (ls := [some (vR 400), some (vI b), none, none, none, none, none]) sX0_tells rfl (by decide +kernel) (by decide) rfl (by simp [jent]) ?_
  refine jW_step ?_
  simp (disch := (first | decide | omega)) only [bX0_tells, jxs, hps, jtsw, jlsw, List.length_cons, List.length_nil, true_and, and_true, true_implies, false_implies, implies_true, not_true_eq_false, not_false_eq_true, false_and, and_false, if_true, if_false, or_true, true_or, or_false, false_or, Classical.not_not, and_self, Int.reduceAdd, Int.reduceMul, Int.reduceSub, Int.reduceNeg, Int.reduceLT, Int.reduceLE, Int.reduceEq, Int.reduceNe, Int.reduceToNat, Nat.reduceAdd, Nat.reduceMul, Nat.reduceSub, Nat.reduceLeDiff, Nat.reduceLT, Nat.reduceEqDiff, reduceIte, Nat.zero_le, Nat.le_refl, Nat.add_zero, Nat.zero_add, xwT hT, xwV hV]
  refine ⟨0, 0, ⟨by omega, by omega⟩, xw_laws (d := d + 1) hT hV hC hD ?_⟩
  intro w hw
  have hVw := hw.pv hV
  have hCw := hw.ci hC
  unfold lasA
  by_cases h : 0 ≤ b ∧ b ≤ A 0 - 1
  · rw [if_pos h] at hQ ⊢
    have hV0 := hV
    have hV := hVw
    simp (disch := (first | decide | omega)) only [jxs, hps, jtsw, jlsw, List.length_cons, List.length_nil, true_and, and_true, true_implies, false_implies, implies_true, not_true_eq_false, not_false_eq_true, false_and, and_false, if_true, if_false, or_true, true_or, or_false, false_or, Classical.not_not, and_self, Int.reduceAdd, Int.reduceMul, Int.reduceSub, Int.reduceNeg, Int.reduceLT, Int.reduceLE, Int.reduceEq, Int.reduceNe, Int.reduceToNat, Nat.reduceAdd, Nat.reduceMul, Nat.reduceSub, Nat.reduceLeDiff, Nat.reduceLT, Nat.reduceEqDiff, reduceIte, Nat.zero_le, Nat.le_refl, Nat.add_zero, Nat.zero_add, xwT hT, xwV hV]
    refine ⟨fun h2 => ?_, fun h2 => ?_⟩
    · rw [if_neg (by omega), tlL_cap lb] at hQ
      exact xw_tells_1 hT lb (by omega) (2 * A 0).toNat 0 (-1) 7 w hVw hCw (by omega) (by omega) (fun y hy => hQ y (hw.tr hy))
    · rw [if_pos (by omega)] at hQ
      (repeat (refine And.intro (by (first | omega | assumption | trivial | (simp only [inI]; omega) | (simp only [inL]; omega) | (refine jb_01) | (exact jb_in))) ?_))
      exact hQ w hw
  · rw [if_neg h] at hQ ⊢
    have hV := hVw
    simp (disch := (first | decide | omega)) only [jxs, hps, jtsw, jlsw, List.length_cons, List.length_nil, true_and, and_true, true_implies, false_implies, implies_true, not_true_eq_false, not_false_eq_true, false_and, and_false, if_true, if_false, or_true, true_or, or_false, false_or, Classical.not_not, and_self, Int.reduceAdd, Int.reduceMul, Int.reduceSub, Int.reduceNeg, Int.reduceLT, Int.reduceLE, Int.reduceEq, Int.reduceNe, Int.reduceToNat, Nat.reduceAdd, Nat.reduceMul, Nat.reduceSub, Nat.reduceLeDiff, Nat.reduceLT, Nat.reduceEqDiff, reduceIte, Nat.zero_le, Nat.le_refl, Nat.add_zero, Nat.zero_add, xwT hT, xwV hV]
    exact hQ w hw
end XG
