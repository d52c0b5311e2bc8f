/-! ===== the class: laws, tells ===== -/
-- MODE X
set_option maxRecDepth 100000
def bt1 (s : Int) : Int := s - jand (jushr s 1) 1431655765
def bt2 (s : Int) : Int := jand (bt1 s) 858993459 + jand (jushr (bt1 s) 2) 858993459
def bt3 (s : Int) : Int := jand (bt2 s + jushr (bt2 s) 4) 252645135
def bt4 (s : Int) : Int := bt3 s + jushr (bt3 s) 8
def bt5 (s : Int) : Int := bt4 s + jushr (bt4 s) 16
def btC (s : Int) : Bool := decide (-10000 ≤ bt1 s) && decide (bt1 s < 1000000) && decide (-10000 ≤ bt2 s) && decide (bt2 s < 1000000) && decide (-10000 ≤ bt2 s + jushr (bt2 s) 4) && decide (bt2 s + jushr (bt2 s) 4 < 1000000) && decide (-10000 ≤ bt4 s) && decide (bt4 s < 1000000) && decide (-10000 ≤ bt5 s) && decide (bt5 s < 1000000) && decide (jand (bt5 s) 63 = bc s)
theorem btC_1 : ∀ s : Fin 1024, btC ((s.val : Nat) : Int) = true := by decide +kernel
theorem bt_ok {s : Int} (h : 0 ≤ s ∧ s < 1024) : (-10000 ≤ bt1 s ∧ bt1 s < 1000000) ∧ (-10000 ≤ bt2 s ∧ bt2 s < 1000000) ∧ (-10000 ≤ bt2 s + jushr (bt2 s) 4 ∧ bt2 s + jushr (bt2 s) 4 < 1000000) ∧ (-10000 ≤ bt4 s ∧ bt4 s < 1000000) ∧ (-10000 ≤ bt5 s ∧ bt5 s < 1000000) ∧ jand (bt5 s) 63 = bc s := by
  have q := btC_1 ⟨s.toNat, by omega⟩
  dsimp only at q
  rw [show ((s.toNat : Nat) : Int) = s by omega] at q
  unfold btC at q
  simp only [Bool.and_eq_true, decide_eq_true_eq] at q
  obtain ⟨⟨⟨⟨⟨⟨⟨⟨⟨⟨a, b⟩, c⟩, e⟩, f⟩, g⟩, i⟩, j⟩, k⟩, l⟩, m⟩ := q
  exact ⟨⟨a, b⟩, ⟨c, e⟩, ⟨f, g⟩, ⟨i, j⟩, ⟨k, l⟩, m⟩
section XG
variable {g : jjG} {d : Nat} {T : jjT} {Q : jjQ} {A X : Int → Int}
theorem xj_bitCount {s : Int} {v : Int → Int → Int} (hs : 0 ≤ s ∧ s < 1024) (hQ : Q (.inl (some (vI (bc s)))) (v, T)) : jmet g (d + 1) 0 0 MJ14_bitCount [vI s] (v, T) Q := by
  obtain ⟨h1, h2, h3, h4, h5, h6⟩ := bt_ok hs
  have b := bc_bd (s := s)
  rw [← h6] at b hQ
  unfold bt5 at h5 b hQ
  unfold bt4 at h4 h5 b hQ
  unfold bt3 at h4 h5 b hQ
  unfold bt2 at h2 h3 h4 h5 b hQ
  unfold bt1 at h1 h2 h3 h4 h5 b hQ
  refine jmet_of (ls := [some (vI s)]) sJ14_bitCount rfl (by decide +kernel) (by decide) rfl (by simp [jent]) ?_
  refine jW_step ?_
  simp (disch := (first | decide | omega)) only [bJ14_bitCount, jxs, true_and]
  (repeat (refine And.intro (by (first | omega | assumption | trivial | (simp only [inI]; omega) | (simp only [inL]; omega) | (refine jb_01) | (exact jb_in))) ?_))
  exact hQ
theorem xj_max2 {a b : Int} {v : Int → Int → Int} (hQ : Q (.inl (some (vI (if a < b then b else a)))) (v, T)) (hr : inI a ∧ inI b) : jmet g (d + 1) 0 0 MJ3_max_2 [vI a, vI b] (v, T) Q := by
  obtain ⟨ha, hb⟩ := hr
  refine jmet_ofF (ls := [some (vI a), some (vI b)]) sJ3_max_2 rfl (by decide +kernel) (by decide) rfl (by simp [jent]) ?_
  refine jW_step ?_
  simp (disch := (first | decide | omega)) only [bJ3_max_2, jxs, true_and]
  refine ⟨fun h => ?_, fun h => ?_⟩
  · rw [if_pos h] at hQ
    refine jW_step ?_
    simp (disch := (first | decide | omega)) only [bJ3_max_2, jxs, true_and]
    (repeat (refine And.intro (by (first | omega | assumption | trivial | (simp only [inI]; omega) | (simp only [inL]; omega) | (refine jb_01) | (exact jb_in))) ?_))
    exact hQ
  · rw [if_neg (by omega)] at hQ
    refine jW_step ?_
    simp (disch := (first | decide | omega)) only [bJ3_max_2, jxs, true_and]
    (repeat (refine And.intro (by (first | omega | assumption | trivial | (simp only [inI]; omega) | (simp only [inL]; omega) | (refine jb_01) | (exact jb_in))) ?_))
    exact hQ
theorem xw_lawsOf_1 {b : Int} (hT : PT T) (hD : DU A) (hb : 0 ≤ b ∧ b < A 0) : ∀ (n k : Nat) (v : Int → Int → Int), PV v → CI (v, T) A X → k + n = 6 →
    (∀ w, jkq v w → Q (.inl (some (vI (lwsA A X b)))) (w, T)) →
    jW bX0_lawsOf (g, d + 111, 0, 0, Q) 1 [some (vR 400), some (vI b), some (vI (gat (fun la => decide (¬ fitA A X la b = 0)) k)), some (vI (k : Int))] [] (v, T) 0 0 := by
  intro n
  induction n with
  | zero =>
    intro k v hV hC hk hQ
    have e : k = 6 := by omega
    have gb := gat_in (p := fun la => decide (¬ fitA A X la b = 0)) (n := k) (by omega)
    unfold lwsA at hQ
    rw [← e] at hQ
    refine jW_step ?_
    simp (disch := (first | decide | omega)) only [bX0_lawsOf, jxs, hps, jtsw, jlsw, List.length_cons, List.length_nil, true_and, and_true, true_implies, false_implies, implies_true, not_true_eq_false, not_false_eq_true, false_and, and_false, if_true, if_false, or_true, true_or, or_false, false_or, Classical.not_not, and_self, Int.reduceAdd, Int.reduceMul, Int.reduceSub, Int.reduceNeg, Int.reduceLT, Int.reduceLE, Int.reduceEq, Int.reduceNe, Int.reduceToNat, Nat.reduceAdd, Nat.reduceMul, Nat.reduceSub, Nat.reduceLeDiff, Nat.reduceLT, Nat.reduceEqDiff, reduceIte, Nat.zero_le, Nat.le_refl, Nat.add_zero, Nat.zero_add, xwT hT, xwV hV]
    (try refine ⟨fun _ => ?_, fun h9 => (by exfalso; omega)⟩)
    (repeat (refine And.intro (by (first | omega | assumption | trivial | (simp only [inI]; omega) | (simp only [inL]; omega) | (refine jb_01) | (exact jb_in))) ?_))
    exact hQ v (jkq.rf hC.nm)
  | succ n ih =>
    intro k v hV hC hk hQ
    have gb := gat_in (p := fun la => decide (¬ fitA A X la b = 0)) (n := k) (by omega)
    refine jW_step ?_
    simp (disch := (first | decide | omega)) only [bX0_lawsOf, jxs, hps, jtsw, jlsw, List.length_cons, List.length_nil, true_and, and_true, true_implies, false_implies, implies_true, not_true_eq_false, not_false_eq_true, false_and, and_false, if_true, if_false, or_true, true_or, or_false, false_or, Classical.not_not, and_self, Int.reduceAdd, Int.reduceMul, Int.reduceSub, Int.reduceNeg, Int.reduceLT, Int.reduceLE, Int.reduceEq, Int.reduceNe, Int.reduceToNat, Nat.reduceAdd, Nat.reduceMul, Nat.reduceSub, Nat.reduceLeDiff, Nat.reduceLT, Nat.reduceEqDiff, reduceIte, Nat.zero_le, Nat.le_refl, Nat.add_zero, Nat.zero_add, xwT hT, xwV hV]
    (first | refine ⟨fun h9 => (by exfalso; omega), fun _ => ?_⟩ | intro _)
    refine ⟨0, 0, ⟨by omega, by omega⟩, xw_fitsDust hT hV hC ⟨hD, by omega, hb⟩ ?_⟩
    intro w hw
    have hVw := hw.pv hV
    have k2 : ∀ z, z = (if decide (¬ fitA A X (k : Int) b = 0) then 2 ^ k else 0) → jW bX0_lawsOf (g, d + 111, 0, 0, Q) 2 [some (vR 400), some (vI b), some (vI (gat (fun la => decide (¬ fitA A X la b = 0)) k)), some (vI (k : Int))] [vI z, vI (gat (fun la => decide (¬ fitA A X la b = 0)) k)] (w, T) 0 0 := by
      intro z hz
      have e := gat_jor (p := fun la => decide (¬ fitA A X la b = 0)) (n := k) (by omega) hz
      have hV := hVw
      refine jW_step ?_
      simp (disch := (first | decide | omega)) only [bX0_lawsOf, jxs, hps, jtsw, jlsw, List.length_cons, List.length_nil, true_and, and_true, true_implies, false_implies, implies_true, not_true_eq_false, not_false_eq_true, false_and, and_false, if_true, if_false, or_true, true_or, or_false, false_or, Classical.not_not, and_self, Int.reduceAdd, Int.reduceMul, Int.reduceSub, Int.reduceNeg, Int.reduceLT, Int.reduceLE, Int.reduceEq, Int.reduceNe, Int.reduceToNat, Nat.reduceAdd, Nat.reduceMul, Nat.reduceSub, Nat.reduceLeDiff, Nat.reduceLT, Nat.reduceEqDiff, reduceIte, Nat.zero_le, Nat.le_refl, Nat.add_zero, Nat.zero_add, xwT hT, xwV hV]
      (repeat (refine And.intro (by (first | omega | assumption | trivial | (simp only [inI]; omega) | (simp only [inL]; omega) | (refine jb_01) | (exact jb_in))) ?_))
      rw [e]
      have nx := ih (k + 1) w hVw (hw.ci hC) (by omega) (fun y hy => hQ y (hw.tr hy))
      rw [show ((k + 1 : Nat) : Int) = (k : Int) + 1 by omega] at nx
      exact nx
    have hV := hVw
    simp (disch := (first | decide | omega)) only [jxs, hps, jtsw, jlsw, List.length_cons, List.length_nil, true_and, and_true, true_implies, false_implies, implies_true, not_true_eq_false, not_false_eq_true, false_and, and_false, if_true, if_false, or_true, true_or, or_false, false_or, Classical.not_not, and_self, Int.reduceAdd, Int.reduceMul, Int.reduceSub, Int.reduceNeg, Int.reduceLT, Int.reduceLE, Int.reduceEq, Int.reduceNe, Int.reduceToNat, Nat.reduceAdd, Nat.reduceMul, Nat.reduceSub, Nat.reduceLeDiff, Nat.reduceLT, Nat.reduceEqDiff, reduceIte, Nat.zero_le, Nat.le_refl, Nat.add_zero, Nat.zero_add, xwT hT, xwV hV]
    refine ⟨fun h => ?_, fun h => ?_⟩
    · exact k2 0 (by rw [if_neg (by simpa using h)])
    · rw [jshl_1 (by omega) (by omega)]
      exact k2 _ (by rw [if_pos (by simpa using h), show ((k : Int)).toNat = k by omega])
theorem xw_lawsOf {b : Int} {v : Int → Int → Int} (hT : PT T) (hV : PV v) (hC : CI (v, T) A X) (hD : DU A) (hb : 0 ≤ b ∧ b < A 0) (hQ : ∀ w, jkq v w → Q (.inl (some (vI (lwsA A X b)))) (w, T)) : jmet g (d + 112) 0 0 MX0_lawsOf [vR 400, vI b] (v, T) Q := by
  refine jmet_of (ls := [some (vR 400), some (vI b), none, none]) sX0_lawsOf rfl (by decide +kernel) (by decide) rfl (by simp [jent]) ?_
  refine jW_step ?_
  simp (disch := (first | decide | omega)) only [bX0_lawsOf, jxs, hps, jtsw, jlsw, List.length_cons, List.length_nil, true_and, and_true, true_implies, false_implies, implies_true, not_true_eq_false, not_false_eq_true, false_and, and_false, if_true, if_false, or_true, true_or, or_false, false_or, Classical.not_not, and_self, Int.reduceAdd, Int.reduceMul, Int.reduceSub, Int.reduceNeg, Int.reduceLT, Int.reduceLE, Int.reduceEq, Int.reduceNe, Int.reduceToNat, Nat.reduceAdd, Nat.reduceMul, Nat.reduceSub, Nat.reduceLeDiff, Nat.reduceLT, Nat.reduceEqDiff, reduceIte, Nat.zero_le, Nat.le_refl, Nat.add_zero, Nat.zero_add, xwT hT, xwV hV]
  exact xw_lawsOf_1 hT hD hb 6 0 v hV hC (by omega) hQ
theorem xw_laws {b : Int} {v : Int → Int → Int} (hT : PT T) (hV : PV v) (hC : CI (v, T) A X) (hD : DU A) (hQ : ∀ w, jkq v w → Q (.inl (some (vI (lasA A X b)))) (w, T)) : jmet g (d + 113) 0 0 MX0_laws [vR 400, vI b] (v, T) Q := by
  unfold lasA at hQ
  have lb : 0 ≤ lwsA A X b ∧ lwsA A X b ≤ 1023 := gat_in (by omega)
  have k1 : ∀ z w, jkq v w → inI z → Q (.inl (some (vI z))) (w, T) → jW bX0_laws (g, d + 112, 0, 0, Q) 1 [some (vR 400), some (vI b)] [vI z] (w, T) 0 0 := by
    intro z w hw hz hq
    have hV := hw.pv hV
    refine jW_step ?_
    simp (disch := (first | decide | omega)) only [bX0_laws, jxs, hps, jtsw, jlsw, List.length_cons, List.length_nil, true_and, and_true, true_implies, false_implies, implies_true, not_true_eq_false, not_false_eq_true, false_and, and_false, if_true, if_false, or_true, true_or, or_false, false_or, Classical.not_not, and_self, Int.reduceAdd, Int.reduceMul, Int.reduceSub, Int.reduceNeg, Int.reduceLT, Int.reduceLE, Int.reduceEq, Int.reduceNe, Int.reduceToNat, Nat.reduceAdd, Nat.reduceMul, Nat.reduceSub, Nat.reduceLeDiff, Nat.reduceLT, Nat.reduceEqDiff, reduceIte, Nat.zero_le, Nat.le_refl, Nat.add_zero, Nat.zero_add, xwT hT, xwV hV]
    (repeat (refine And.intro (by (first | omega | assumption | trivial | (simp only [inI]; omega) | (simp only [inL]; omega) | (refine jb_01) | (exact jb_in))) ?_))
    exact hq
  refine jmet_of (ls := [some (vR 400), some (vI b)]) sX0_laws rfl (by decide +kernel) (by decide) rfl (by simp [jent]) ?_
  refine jW_step ?_
  simp (disch := (first | decide | omega)) only [bX0_laws, jxs, hps, jtsw, jlsw, List.length_cons, List.length_nil, true_and, and_true, true_implies, false_implies, implies_true, not_true_eq_false, not_false_eq_true, false_and, and_false, if_true, if_false, or_true, true_or, or_false, false_or, Classical.not_not, and_self, Int.reduceAdd, Int.reduceMul, Int.reduceSub, Int.reduceNeg, Int.reduceLT, Int.reduceLE, Int.reduceEq, Int.reduceNe, Int.reduceToNat, Nat.reduceAdd, Nat.reduceMul, Nat.reduceSub, Nat.reduceLeDiff, Nat.reduceLT, Nat.reduceEqDiff, reduceIte, Nat.zero_le, Nat.le_refl, Nat.add_zero, Nat.zero_add, xwT hT, xwV hV]
  refine ⟨0, 0, ⟨by omega, by omega⟩, xw_isBook hT hV hC ?_⟩
  simp (disch := (first | decide | omega)) only [jxs, hps, jtsw, jlsw, List.length_cons, List.length_nil, true_and, and_true, true_implies, false_implies, implies_true, not_true_eq_false, not_false_eq_true, false_and, and_false, if_true, if_false, or_true, true_or, or_false, false_or, Classical.not_not, and_self, Int.reduceAdd, Int.reduceMul, Int.reduceSub, Int.reduceNeg, Int.reduceLT, Int.reduceLE, Int.reduceEq, Int.reduceNe, Int.reduceToNat, Nat.reduceAdd, Nat.reduceMul, Nat.reduceSub, Nat.reduceLeDiff, Nat.reduceLT, Nat.reduceEqDiff, reduceIte, Nat.zero_le, Nat.le_refl, Nat.add_zero, Nat.zero_add, xwT hT, xwV hV]
  refine ⟨fun h => ?_, fun h => ?_⟩
  · rw [if_neg h] at hQ
    exact k1 _ v (jkq.rf hC.nm) ⟨by omega, by omega⟩ (hQ v (jkq.rf hC.nm))
  · rw [if_pos h] at hQ
    refine ⟨0, 0, ⟨by omega, by omega⟩, xw_lawsOf hT hV hC hD (by omega) ?_⟩
    intro w hw
    have hV0 := hV
    have hV := hw.pv hV0
    simp (disch := (first | decide | omega)) only [jxs, hps, jtsw, jlsw, List.length_cons, List.length_nil, true_and, and_true, true_implies, false_implies, implies_true, not_true_eq_false, not_false_eq_true, false_and, and_false, if_true, if_false, or_true, true_or, or_false, false_or, Classical.not_not, and_self, Int.reduceAdd, Int.reduceMul, Int.reduceSub, Int.reduceNeg, Int.reduceLT, Int.reduceLE, Int.reduceEq, Int.reduceNe, Int.reduceToNat, Nat.reduceAdd, Nat.reduceMul, Nat.reduceSub, Nat.reduceLeDiff, Nat.reduceLT, Nat.reduceEqDiff, reduceIte, Nat.zero_le, Nat.le_refl, Nat.add_zero, Nat.zero_add, xwT hT, xwV hV]
    exact k1 _ w hw ⟨by omega, by omega⟩ (hQ w hw)
end XG
