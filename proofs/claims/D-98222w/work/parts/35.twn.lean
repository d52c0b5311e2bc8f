/-! ===== the reference: played, a year ===== -/
set_option maxRecDepth 100000
def anw (x : Int) : Int := (x * 179 + 101) % 30113
theorem anw_bd {x : Int} : 0 ≤ anw x ∧ anw x < 30113 := by unfold anw; omega
def yr1 (A : Int → Int) (x n b w : Int) : (Int → Int) × Int × Int :=
  if w < 3 ∧ 1 < A (13 + w) then (setA (pullA A w (plA A b) w) b w (anw x % A (13 + w)), anw (anw x), n + (if anw x % A (13 + w) = plA A b then 0 else 1)) else (A, anw x, n)
def yr2 (A X : Int → Int) (f x : Int) : (Int → Int) × Int :=
  if x % 10 < 3 then (if 1 - A 2 = 1 then ((fallA (up1 A 2 (1 - A 2)) X).1, f + (fallA (up1 A 2 (1 - A 2)) X).2) else (up1 A 2 (1 - A 2), f + 0)) else (A, f)
def yrA (A : Int → Int) (x n : Int) : (Int → Int) × Int × Int := yr1 A x n (x % A 0) (A (46 + 6 * (x % A 0) + 5))
def yrL (X : Int → Int) : Nat → (Int → Int) → Int → Int → Int → (Int → Int) × Int × Int × Int
  | 0, A, f, x, n => (A, f, x, n)
  | k + 1, A, f, x, n => yrL X k (yr2 (yrA A x n).1 X f (yrA A x n).2.1).1 (yr2 (yrA A x n).1 X f (yrA A x n).2.1).2 (anw (yrA A x n).2.1) (yrA A x n).2.2
def opYear (A X : Int → Int) (f se n : Int) : opR := if (0 ≤ se ∧ se ≤ 9999) ∧ (1 ≤ n ∧ n ≤ 40) ∧ ¬ A 0 = 0 then (up1 (yrL X n.toNat (keepA A) f (se * 4 + 31) 0).1 4 (yrL X n.toNat (keepA A) f (se * 4 + 31) 0).2.2.1, (yrL X n.toNat (keepA A) f (se * 4 + 31) 0).2.1, (yrL X n.toNat (keepA A) f (se * 4 + 31) 0).2.2.2) else (A, f, -1)
theorem set_pull {A : Int → Int} {s p b t to to' : Int} (hs : 0 ≤ s ∧ s < 3) (hp : 0 ≤ p ∧ p < A (13 + s)) (hm : A (13 + s) ≤ 10) (hb : 0 ≤ b) (e : A (16 + 10 * s + p) = b) (ht : 0 ≤ t ∧ t ≤ A (13 + s) - 1) : setA (pullA A s p to) b s t = setA (pullA A s p to') b s t := by
  have key : ∀ i, ¬ i = 46 + 6 * b + 5 → pullA A s p to i = pullA A s p to' i := by
    intro i hi
    unfold pullA shl
    rw [e]
    have : ∀ j, ¬ j = 46 + 6 * b + 5 → up1 (up1 A (46 + 6 * b + 5) to) (13 + s) (A (13 + s) - 1) j = up1 (up1 A (46 + 6 * b + 5) to') (13 + s) (A (13 + s) - 1) j := by
      intro j hj
      by_cases q : j = 13 + s
      · subst q; rw [up1_eq, up1_eq]
      · rw [up1_ne q, up1_ne q, up1_ne hj, up1_ne hj]
    split
    · exact this _ (by omega)
    · exact this _ hi
  have em : pullA A s p to (13 + s) = pullA A s p to' (13 + s) := key _ (by omega)
  have ev : pullA A s p to (13 + s) = A (13 + s) - 1 := by rw [pullA_n hs hp hm (by omega) hs, if_pos rfl]
  funext i
  unfold setA
  rw [em]
  by_cases q : i = 46 + 6 * b + 5
  · subst q; rw [up1_eq, up1_eq]
  · rw [up1_ne q, up1_ne q]
    by_cases q2 : i = 13 + s
    · subst q2; rw [up1_eq, up1_eq]
    · rw [up1_ne q2, up1_ne q2]
      by_cases q3 : i = 16 + 10 * s + t
      · subst q3; rw [up1_eq, up1_eq]
      · rw [up1_ne q3, up1_ne q3]
        unfold shr
        rw [← em, ev]
        split
        · exact key _ (by omega)
        · exact key _ q
theorem yrA_TI {A : Int → Int} {x n : Int} (h : TI A) (h0 : 0 < A 0) (hx : 0 ≤ x) : TI (yrA A x n).1 ∧ FR A (yrA A x n).1 ∧ (0 ≤ (yrA A x n).2.1 ∧ (yrA A x n).2.1 < 30113) ∧ (n ≤ (yrA A x n).2.2 ∧ (yrA A x n).2.2 ≤ n + 1) := by
  have hB := h.1.1
  have a0 := hB.1
  have hb : 0 ≤ x % A 0 ∧ x % A 0 < A 0 := ⟨Int.emod_nonneg _ (by omega), Int.emod_lt_of_pos _ h0⟩
  unfold yrA yr1
  split
  · rename_i q
    have pl := plA_ok hB h.2.1 hb q.1
    generalize x % A 0 = b at *
    generalize A (46 + 6 * b + 5) = w at *
    have hm := hB.2.2.2.2.2.1 (13 + w) (by omega) (by omega)
    have ht : 0 ≤ anw x % A (13 + w) ∧ anw x % A (13 + w) < A (13 + w) := ⟨Int.emod_nonneg _ (by omega), Int.emod_lt_of_pos _ (by omega)⟩
    generalize anw x % A (13 + w) = t at *
    dsimp only
    rw [set_pull (to' := 3) pl.1 pl.2.1 (by omega) hb.1 pl.2.2.1 (by omega)]
    have f1 := FR.pull (to := 3) hB pl.1 pl.2.1
    have b1 := hB.pull (to := 3) pl.1 pl.2.1 (by omega)
    have s1 := h.2.1.pull (to := 3) hB pl.1 pl.2.1 (by omega)
    have m1 := pullA_m (to := 3) hB pl.1 pl.2.1
    have e0 := f1 0 (by omega)
    have ew : pullA A w (plA A b) 3 (46 + 6 * b + 5) = 3 := by rw [pullA_w pl.1 pl.2.1 (by omega) hb.1, if_pos pl.2.2.1.symm]
    have f2 := FR.set (A := pullA A w (plA A b) 3) (b := b) (s := w) (p := t) pl.1 (by omega) (by omega) (by omega)
    have fr := f1.tr f2
    have := anw_bd (x := anw x)
    exact ⟨h.fr fr (b1.set pl.1 (by omega) (by omega) (by omega)) (s1.set b1 pl.1 (by omega) (by omega) (by omega)), fr, this, by split <;> omega⟩
  · have := anw_bd (x := x)
    exact ⟨h, FR.rf, this, by dsimp only; omega⟩
theorem yr2_TI {A X : Int → Int} {f x : Int} (h : TI A) : TI (yr2 A X f x).1 ∧ (∀ i, i < 13 → ¬ i = 2 → (yr2 A X f x).1 i = A i) ∧ (f ≤ (yr2 A X f x).2 ∧ (yr2 A X f x).2 ≤ f + 30) := by
  have h2 := h.1.1.2.1
  have k := h.n2 (z := 1 - A 2) (by omega)
  unfold yr2
  split
  · split
    · have fo := fallA_ok (X := X) k.1.1
      exact ⟨fallA_TI k, fun i hi hn => (fo.2.1 i (by omega)).trans (up1_ne hn), by dsimp only; omega⟩
    · exact ⟨k, fun i hi hn => up1_ne hn, by dsimp only; omega⟩
  · exact ⟨h, fun i _ _ => rfl, by dsimp only; omega⟩
theorem yrL_TI {X : Int → Int} : ∀ (k : Nat) (A : Int → Int) (f x n : Int), TI A → 0 < A 0 → 0 ≤ x ∧ x < 50000 → TI (yrL X k A f x n).1 ∧ (∀ i, i < 13 → ¬ i = 2 → (yrL X k A f x n).1 i = A i) ∧ (f ≤ (yrL X k A f x n).2.1 ∧ (yrL X k A f x n).2.1 ≤ f + 30 * k) ∧ (0 ≤ (yrL X k A f x n).2.2.1 ∧ (yrL X k A f x n).2.2.1 < 50000)
  | 0, A, f, x, n, h, _, hx => by
    unfold yrL
    exact ⟨h, fun _ _ _ => rfl, by dsimp only; omega, hx⟩
  | k + 1, A, f, x, n, h, h0, hx => by
    have a := yrA_TI (n := n) h h0 hx.1
    have b := yr2_TI (X := X) (f := f) (x := (yrA A x n).2.1) a.1
    have e0 : (yr2 (yrA A x n).1 X f (yrA A x n).2.1).1 0 = A 0 := (b.2.1 0 (by omega) (by omega)).trans (a.2.1 0 (by omega))
    have w := anw_bd (x := (yrA A x n).2.1)
    have c := yrL_TI k _ (yr2 (yrA A x n).1 X f (yrA A x n).2.1).2 (anw (yrA A x n).2.1) (yrA A x n).2.2 b.1 (by omega) (by omega) (X := X)
    unfold yrL
    exact ⟨c.1, fun i hi hn => (c.2.1 i hi hn).trans ((b.2.1 i hi hn).trans (a.2.1 i (by omega))), by omega, c.2.2.2⟩
section TG
variable {g : jjG} {d : Nat} {T : jjT} {Q : jjQ}
theorem tw_played_1 {t : Int} (hT : PT T) (ht : 0 ≤ t) : ∀ (n : Nat) (k : Int) (v : Int → Int → Int), PV v → TE v → TI (v 540) → t < v 540 5 → 0 ≤ k → v 542 (705 * t) = k + n → (0 ≤ v 539 25 ∧ v 539 25 + 3000 * n < 900000000) →
    (∀ w, jkn v (pdL (v 542) t n k (v 540) (v 539 25)).1 (pdL (v 542) t n k (v 540) (v 539 25)).2.1 w → Q (.inl (some (vI (pdL (v 542) t n k (v 540) (v 539 25)).2.2))) (w, T)) →
    jW bX2_played (g, d + 10, 0, 0, Q) 1 [some (vR 539), some (vI t), some (vI k)] [] (v, T) 0 0 := by
  intro n
  induction n with
  | zero =>
    intro k v hV hE hI h5 hk hn hf hQ
    have hx := (hE.2 t ht h5).1
    have hB5 := hE.1.2.2.2.1
    refine jW_step ?_
    simp (disch := (first | decide | omega)) only [bX2_played, jxs, hps, jtsw, jlsw, List.length_cons, List.length_nil, true_and, and_true, true_implies, false_implies, implies_true, not_true_eq_false, not_false_eq_true, false_and, and_false, if_true, if_false, or_true, true_or, or_false, false_or, Classical.not_not, and_self, Int.reduceAdd, Int.reduceMul, Int.reduceSub, Int.reduceNeg, Int.reduceLT, Int.reduceLE, Int.reduceEq, Int.reduceNe, Int.reduceToNat, Nat.reduceAdd, Nat.reduceMul, Nat.reduceSub, Nat.reduceLeDiff, Nat.reduceLT, Nat.reduceEqDiff, reduceIte, Nat.zero_le, Nat.le_refl, Nat.add_zero, Nat.zero_add, twT hT, twV hV]
    (repeat (refine And.intro (by (first | omega | assumption | trivial | (simp only [inI]; omega) | (simp only [inL]; omega) | (refine jb_01) | (exact jb_in))) ?_))
    (try refine ⟨fun _ => ?_, fun h9 => (by exfalso; omega)⟩)
    (repeat (refine And.intro (by (first | omega | assumption | trivial | (simp only [inI]; omega) | (simp only [inL]; omega) | (refine jb_01) | (exact jb_in))) ?_))
    exact hQ v jkn.rf
  | succ n ih =>
    intro k v hV hE hI h5 hk hn hf hQ
    have hx := hE.2 t ht h5
    have hx1 := hx.1
    have hc := hx.2 k hk (by omega)
    have hB5 := hE.1.2.2.2.1
    have o := opX_TI (X := v 542) (f := v 539 25) (x := 705 * t + 1 + 4 * k) hI
    unfold pdL at hQ
    refine jW_step ?_
    simp (disch := (first | decide | omega)) only [bX2_played, jxs, hps, jtsw, jlsw, List.length_cons, List.length_nil, true_and, and_true, true_implies, false_implies, implies_true, not_true_eq_false, not_false_eq_true, false_and, and_false, if_true, if_false, or_true, true_or, or_false, false_or, Classical.not_not, and_self, Int.reduceAdd, Int.reduceMul, Int.reduceSub, Int.reduceNeg, Int.reduceLT, Int.reduceLE, Int.reduceEq, Int.reduceNe, Int.reduceToNat, Nat.reduceAdd, Nat.reduceMul, Nat.reduceSub, Nat.reduceLeDiff, Nat.reduceLT, Nat.reduceEqDiff, reduceIte, Nat.zero_le, Nat.le_refl, Nat.add_zero, Nat.zero_add, twT hT, twV hV]
    (repeat (refine And.intro (by (first | omega | assumption | trivial | (simp only [inI]; omega) | (simp only [inL]; omega) | (refine jb_01) | (exact jb_in))) ?_))
    (first | refine ⟨fun h9 => (by exfalso; omega), fun _ => ?_⟩ | intro _)
    (repeat (refine And.intro (by (first | omega | assumption | trivial | (simp only [inI]; omega) | (simp only [inL]; omega) | (refine jb_01) | (exact jb_in))) ?_))
    refine ⟨0, 0, ⟨by omega, by omega⟩, tw_isPlayed hT hV ⟨hE, hI, by omega, fun _ _ _ _ _ => Or.inr trivial, fun h4 => ?_, by omega⟩ ?_⟩
    · have := hc.2.2.2.2.2.2.1 h4
      exact ⟨by omega, by omega⟩
    intro w hw
    simp (disch := (first | decide | omega)) only [jxs, hps, jtsw, jlsw, List.length_cons, List.length_nil, true_and, and_true, true_implies, false_implies, implies_true, not_true_eq_false, not_false_eq_true, false_and, and_false, if_true, if_false, or_true, true_or, or_false, false_or, Classical.not_not, and_self, Int.reduceAdd, Int.reduceMul, Int.reduceSub, Int.reduceNeg, Int.reduceLT, Int.reduceLE, Int.reduceEq, Int.reduceNe, Int.reduceToNat, Nat.reduceAdd, Nat.reduceMul, Nat.reduceSub, Nat.reduceLeDiff, Nat.reduceLT, Nat.reduceEqDiff, reduceIte, Nat.zero_le, Nat.le_refl, Nat.add_zero, Nat.zero_add, twT hT, twV hV]
    refine ⟨fun h => ?_, fun h => ?_⟩
    · rw [if_neg (by omega)] at hQ
      (repeat (refine And.intro (by (first | omega | assumption | trivial | (simp only [inI]; omega) | (simp only [inL]; omega) | (refine jb_01) | (exact jb_in))) ?_))
      have ea := hw.a
      have ef := hw.f
      refine ih (k + 1) w (hw.pv hV) (hw.te hE o.1.1.1 o.2.1) (by rw [ea]; exact o.1) (by rw [ea, o.2.1]; exact h5) (by omega) (by rw [hw.x]; omega) (by rw [ef]; omega) ?_
      rw [ea, ef, hw.x]
      intro u hu
      exact hQ u (hw.tr hu)
    · rw [if_pos (by omega)] at hQ
      (repeat (refine And.intro (by (first | omega | assumption | trivial | (simp only [inI]; omega) | (simp only [inL]; omega) | (refine jb_01) | (exact jb_in))) ?_))
      exact hQ w hw
theorem tw_played {v : Int → Int → Int} {t : Int} (hT : PT T) (hV : PV v) (hS : TE v ∧ TI (v 540) ∧ (0 ≤ v 539 25 ∧ v 539 25 < 800000000)) (hQ : ∀ w, jkn v (opPlayed (v 540) (v 542) (v 539 25) t).1 (opPlayed (v 540) (v 542) (v 539 25) t).2.1 w → Q (.inl (some (vI (opPlayed (v 540) (v 542) (v 539 25) t).2.2))) (w, T)) : jmet g (d + 11) 0 0 MX2_played [vR 539, vI t] (v, T) Q := by
  obtain ⟨hE, hI, hf⟩ := hS
  have hB5 := hE.1.2.2.2.1
  refine jmet_of (ls := [some (vR 539), some (vI t), none]) sX2_played rfl (by decide +kernel) (by decide) rfl (by simp [jent]) ?_
  unfold opPlayed at hQ
  refine jW_step ?_
  simp (disch := (first | decide | omega)) only [bX2_played, jxs, hps, jtsw, jlsw, List.length_cons, List.length_nil, true_and, and_true, true_implies, false_implies, implies_true, not_true_eq_false, not_false_eq_true, false_and, and_false, if_true, if_false, or_true, true_or, or_false, false_or, Classical.not_not, and_self, Int.reduceAdd, Int.reduceMul, Int.reduceSub, Int.reduceNeg, Int.reduceLT, Int.reduceLE, Int.reduceEq, Int.reduceNe, Int.reduceToNat, Nat.reduceAdd, Nat.reduceMul, Nat.reduceSub, Nat.reduceLeDiff, Nat.reduceLT, Nat.reduceEqDiff, reduceIte, Nat.zero_le, Nat.le_refl, Nat.add_zero, Nat.zero_add, twT hT, twV hV]
  (repeat (refine And.intro (by (first | omega | assumption | trivial | (simp only [inI]; omega) | (simp only [inL]; omega) | (refine jb_01) | (exact jb_in))) ?_))
  refine ⟨0, 0, ⟨by omega, by omega⟩, tw_isIn hT (by (first | assumption | (repeat (first | assumption | refine PV.A ?_ (by decide) | refine PV.F ?_ ?_ | refine twR.up ?_ (by decide) | refine PV.r ?_)))) (by (first | omega | assumption | trivial | (simp only [inI]; omega) | (simp only [inL]; omega) | (refine jb_01) | (exact jb_in))) ?_⟩
  simp (disch := (first | decide | omega)) only [jxs, hps, jtsw, jlsw, List.length_cons, List.length_nil, true_and, and_true, true_implies, false_implies, implies_true, not_true_eq_false, not_false_eq_true, false_and, and_false, if_true, if_false, or_true, true_or, or_false, false_or, Classical.not_not, and_self, Int.reduceAdd, Int.reduceMul, Int.reduceSub, Int.reduceNeg, Int.reduceLT, Int.reduceLE, Int.reduceEq, Int.reduceNe, Int.reduceToNat, Nat.reduceAdd, Nat.reduceMul, Nat.reduceSub, Nat.reduceLeDiff, Nat.reduceLT, Nat.reduceEqDiff, reduceIte, Nat.zero_le, Nat.le_refl, Nat.add_zero, Nat.zero_add, twT hT, twV hV]
  refine ⟨fun h => ?_, fun h => ?_⟩
  · rw [if_pos h] at hQ
    have hx := (hE.2 t (by omega) (by omega)).1
    exact tw_played_1 hT (by omega) _ 0 v hV hE hI (by omega) (by omega) (by omega) (by omega) hQ
  · rw [if_neg h] at hQ
    (repeat (refine And.intro (by (first | omega | assumption | trivial | (simp only [inI]; omega) | (simp only [inL]; omega) | (refine jb_01) | (exact jb_in))) ?_))
    exact hQ v jkn.rf
theorem tw_anew {v : Int → Int → Int} {x : Int} (hT : PT T) (hV : PV v) (hS : 0 ≤ x ∧ x < 100000) (hQ : Q (.inl (some (vI (anw x)))) (v, T)) : jmet g (d + 1) 0 0 MX2_anew [vI x] (v, T) Q := by
  refine jmet_of (ls := [some (vI x)]) sX2_anew rfl (by decide +kernel) (by decide) rfl (by simp [jent]) ?_
  refine jW_step ?_
  simp (disch := (first | decide | omega)) only [bX2_anew, jxs, hps, jtsw, jlsw, List.length_cons, List.length_nil, true_and, and_true, true_implies, false_implies, implies_true, not_true_eq_false, not_false_eq_true, false_and, and_false, if_true, if_false, or_true, true_or, or_false, false_or, Classical.not_not, and_self, Int.reduceAdd, Int.reduceMul, Int.reduceSub, Int.reduceNeg, Int.reduceLT, Int.reduceLE, Int.reduceEq, Int.reduceNe, Int.reduceToNat, Nat.reduceAdd, Nat.reduceMul, Nat.reduceSub, Nat.reduceLeDiff, Nat.reduceLT, Nat.reduceEqDiff, reduceIte, Nat.zero_le, Nat.le_refl, Nat.add_zero, Nat.zero_add, twT hT, twV hV]
  (repeat (refine And.intro (by (first | omega | assumption | trivial | (simp only [inI]; omega) | (simp only [inL]; omega) | (refine jb_01) | (exact jb_in))) ?_))
  exact hQ
end TG
