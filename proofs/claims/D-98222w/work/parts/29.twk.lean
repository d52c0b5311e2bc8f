/-! ===== the reference: nights ===== -/
set_option maxRecDepth 100000
theorem keepA_lo {A : Int → Int} {i : Int} (h7 : 0 ≤ A 7 ∧ A 7 ≤ 30) (hi : i < 154 ∨ 1594 ≤ i) (hn : ¬ i = 7) : keepA A i = A i := by
  have k1 : ∀ j, (j < 154 ∨ 1594 ≤ j) → ¬ j = 7 → keep1 A j = A j := by
    intro j hj hn
    unfold keep1
    split
    · rw [up1_ne hn]; unfold cpA; rw [if_neg (by omega)]
    · rfl
  have e7 : 0 ≤ keep1 A 7 ∧ keep1 A 7 ≤ 29 := by
    unfold keep1
    split
    · rw [up1_eq]; omega
    · omega
  unfold keepA keep3 whrS
  rw [up1_ne hn, if_neg (by omega)]
  unfold cpA keep2
  rw [if_neg (by omega), up1_ne (by omega), up1_ne (by omega), up1_ne (by omega), up1_ne (by omega), up1_ne (by omega), k1 i hi hn]
theorem keepA_7 {A : Int → Int} (h7 : 0 ≤ A 7 ∧ A 7 ≤ 30) : 1 ≤ keepA A 7 ∧ keepA A 7 ≤ 30 := by
  have e7 : 0 ≤ keep1 A 7 ∧ keep1 A 7 ≤ 29 := by
    unfold keep1
    split
    · rw [up1_eq]; omega
    · omega
  unfold keepA keep3
  rw [up1_eq]
  omega
theorem keepA_TB {A : Int → Int} (h : TB A) (h7 : 0 ≤ A 7 ∧ A 7 ≤ 30) : TB (keepA A) := by
  refine h.of (keepA_lo h7 (by omega) (by omega)) (keepA_lo h7 (by omega) (by omega)) (keepA_lo h7 (by omega) (by omega)) (keepA_lo h7 (by omega) (by omega)) (keepA_lo h7 (by omega) (by omega)) ?_ ?_
  · intro i h1 h2; rw [keepA_lo h7 (by omega) (by omega)]; exact h.2.2.2.2.2.1 i h1 h2
  · intro i h1 h2; rw [keepA_lo h7 (by omega) (by omega)]; exact h.2.2.2.2.2.2 i h1 h2
theorem keepA_TW {A : Int → Int} (h : TW A) (h7 : 0 ≤ A 7 ∧ A 7 ≤ 30) : TW (keepA A) := fun i h1 h2 => by
  rw [keepA_lo h7 (by omega) (by omega)]; exact h i h1 h2
/-- the array a has become A', what fell is counted to f -/
def jkn (v : Int → Int → Int) (A' : Int → Int) (f : Int) (w : Int → Int → Int) : Prop := w 540 = A' ∧ w 539 = up1 (v 539) 25 f ∧ ∀ a, a ≠ 539 → a ≠ 540 → a ≠ 545 → a ≠ 546 → a ≠ 547 → w a = v a
theorem up1_id {f : Int → Int} {k : Int} : up1 f k (f k) = f := by
  funext i; unfold up1; split
  · rename_i h; rw [h]
  · rfl
theorem jka.n {v w : Int → Int → Int} {A' : Int → Int} (h : jka v A' w) : jkn v A' (v 539 25) w := ⟨h.1, by rw [h.o, up1_id], fun a _ h2 h3 h4 h5 => h.2 a h2 h3 h4 h5⟩
theorem jkn.a {v w : Int → Int → Int} {A' : Int → Int} {f : Int} (h : jkn v A' f w) : w 540 = A' := h.1
theorem jkn.x {v w : Int → Int → Int} {A' : Int → Int} {f : Int} (h : jkn v A' f w) : w 542 = v 542 := h.2.2 542 (by omega) (by omega) (by omega) (by omega) (by omega)
theorem jkn.f {v w : Int → Int → Int} {A' : Int → Int} {f : Int} (h : jkn v A' f w) : w 539 25 = f := by rw [h.2.1, up1_eq]
theorem jkn.pv {v w : Int → Int → Int} {A' : Int → Int} {f : Int} (h : jkn v A' f w) (hV : PV v) : PV w := by
  intro q hq
  by_cases e : q.1 = 539
  · rw [e, h.2.1]
    exact (PV.r hV).up (by decide) q hq e
  · rw [h.2.2 q.1 e (fun e2 => by have := pvL_A q hq; rw [e2] at this; revert this; decide) (fun e2 => by have := pvL_A q hq; rw [e2] at this; revert this; decide) (fun e2 => by have := pvL_A q hq; rw [e2] at this; revert this; decide) (fun e2 => by have := pvL_A q hq; rw [e2] at this; revert this; decide)]
    exact hV q hq
theorem jkn.tr {u v w : Int → Int → Int} {A' A'' : Int → Int} {f f' : Int} (h : jkn u A' f v) (h2 : jkn v A'' f' w) : jkn u A'' f' w := ⟨h2.1, by rw [h2.2.1, h.2.1, up1_same], fun a a1 a2 a3 a4 a5 => (h2.2.2 a a1 a2 a3 a4 a5).trans (h.2.2 a a1 a2 a3 a4 a5)⟩
theorem jkn.te {v w : Int → Int → Int} {A' : Int → Int} {f : Int} (h : jkn v A' f w) (hE : TE v) (hB : TB A') (h5 : A' 5 = v 540 5) : TE w := by
  unfold TE
  rw [h.a, h.x, h5]
  exact ⟨hB, hE.2⟩
/-- pairs of a shelf, from a place on -/
def chL (X : Int → Int) (s : Int) : Nat → Int → Int → (Int → Int) → (Int → Int) × Int
  | 0, _, n, A => (A, n)
  | k + 1, p, n, A => if A (13 + s) ≤ p + 1 then (A, n) else chL X s k (p + 2) (n + chN A X s p) (chA A X s p)
/-- untouched by changes -/
def FC (A A' : Int → Int) : Prop := (∀ i, (i < 16 ∨ (46 ≤ i ∧ i < 1594)) → ¬ i = 9 → A' i = A i) ∧ A 9 ≤ A' 9
theorem FC.tr {A B C : Int → Int} (h : FC A B) (h2 : FC B C) : FC A C := ⟨fun i hi hn => (h2.1 i hi hn).trans (h.1 i hi hn), by have := h.2; have := h2.2; omega⟩
theorem chN_01 {A X : Int → Int} {s p : Int} : 0 ≤ chN A X s p ∧ chN A X s p ≤ 1 := by
  unfold chN; split <;> omega
theorem chL_ok {X : Int → Int} {s : Int} (hs : 0 ≤ s ∧ s < 3) : ∀ (k : Nat) (p n : Int) (A : Int → Int), TB A → 0 ≤ A 9 → 0 ≤ p →
    TB (chL X s k p n A).1 ∧ FC A (chL X s k p n A).1 ∧ (chL X s k p n A).1 9 ≤ A 9 + 2 * k ∧ n ≤ (chL X s k p n A).2 ∧ (chL X s k p n A).2 ≤ n + k
  | 0, p, n, A, hB, h9, hp => by
    unfold chL
    exact ⟨hB, ⟨fun _ _ _ => rfl, by dsimp only; omega⟩, by dsimp only; omega, by dsimp only; omega, by dsimp only; omega⟩
  | k + 1, p, n, A, hB, h9, hp => by
    have hm := hB.2.2.2.2.2.1 (13 + s) (by omega) (by omega)
    unfold chL
    split
    · exact ⟨hB, ⟨fun _ _ _ => rfl, by dsimp only; omega⟩, by dsimp only; omega, by dsimp only; omega, by dsimp only; omega⟩
    · have q9 := chA_9 (A := A) (X := X) (s := s) (p := p) hs (by omega)
      have q := chN_01 (A := A) (X := X) (s := s) (p := p)
      have := chL_ok hs k (p + 2) (n + chN A X s p) (chA A X s p) (chA_TB hB h9 hs (by omega)) (by omega) (by omega) (X := X)
      have f : FC A (chA A X s p) := ⟨fun i hi hn => chA_lo h9 hs (by omega) hi hn, q9.1⟩
      exact ⟨this.1, f.tr this.2.1, by omega, by omega, by omega⟩
/-- one night: pairs of three shelves, then the fall -/
def nit0 (A X : Int → Int) : (Int → Int) × Int := chL X 0 6 (A 1 % 2) 0 (keepA A)
def nit1 (A X : Int → Int) : (Int → Int) × Int := chL X 1 6 (A 1 % 2) (nit0 A X).2 (nit0 A X).1
def nit2 (A X : Int → Int) : (Int → Int) × Int := chL X 2 6 (A 1 % 2) (nit1 A X).2 (nit1 A X).1
def nit3 (A X : Int → Int) : Int → Int := up1 (nit2 A X).1 1 (A 1 + 1)
def nitA (A X : Int → Int) : Int → Int := (fallA (nit3 A X) X).1
def nitF (A X : Int → Int) : Int := (fallA (nit3 A X) X).2
def nitN (A X : Int → Int) : Int := (nit2 A X).2
/-- what stays sound night by night -/
def TN (A : Int → Int) : Prop := TB A ∧ TW A ∧ (0 ≤ A 7 ∧ A 7 ≤ 30) ∧ 0 ≤ A 9 ∧ 0 ≤ A 1
theorem TB.n1 {A : Int → Int} (h : TB A) {z : Int} : TB (up1 A 1 z) := by
  refine h.of (up1_ne (by omega)) (up1_ne (by omega)) (up1_ne (by omega)) (up1_ne (by omega)) (up1_ne (by omega)) ?_ ?_
  · intro i h1 h2; rw [up1_ne (by omega)]; exact h.2.2.2.2.2.1 i h1 h2
  · intro i h1 h2; rw [up1_ne (by omega)]; exact h.2.2.2.2.2.2 i h1 h2
theorem nit2_ok {A X : Int → Int} (h : TN A) : (TB (nit0 A X).1 ∧ FC (keepA A) (nit0 A X).1 ∧ (nit0 A X).1 9 ≤ A 9 + 12 ∧ 0 ≤ (nit0 A X).2 ∧ (nit0 A X).2 ≤ 6) ∧ (TB (nit1 A X).1 ∧ FC (keepA A) (nit1 A X).1 ∧ (nit1 A X).1 9 ≤ A 9 + 24 ∧ 0 ≤ (nit1 A X).2 ∧ (nit1 A X).2 ≤ 12) ∧ (TB (nit2 A X).1 ∧ FC (keepA A) (nit2 A X).1 ∧ (nit2 A X).1 9 ≤ A 9 + 36 ∧ 0 ≤ (nit2 A X).2 ∧ (nit2 A X).2 ≤ 18) := by
  obtain ⟨hB, hW, h7, h9, h1⟩ := h
  have e9 : keepA A 9 = A 9 := keepA_lo h7 (by omega) (by omega)
  have a0 := chL_ok (X := X) (s := 0) (by omega) 6 (A 1 % 2) 0 (keepA A) (keepA_TB hB h7) (by omega) (by omega)
  have a1 := chL_ok (X := X) (s := 1) (by omega) 6 (A 1 % 2) (nit0 A X).2 (nit0 A X).1 a0.1 (by have := a0.2.1.2; unfold nit0; omega) (by omega)
  have f1 := a0.2.1.tr a1.2.1
  have a2 := chL_ok (X := X) (s := 2) (by omega) 6 (A 1 % 2) (nit1 A X).2 (nit1 A X).1 a1.1 (by have := f1.2; unfold nit1; omega) (by omega)
  have r0 : (nit0 A X).1 9 ≤ A 9 + 12 ∧ 0 ≤ (nit0 A X).2 ∧ (nit0 A X).2 ≤ 6 := by unfold nit0; omega
  have r1 : (nit1 A X).1 9 ≤ A 9 + 24 ∧ 0 ≤ (nit1 A X).2 ∧ (nit1 A X).2 ≤ 12 := by
    have := a1.2.2
    unfold nit1
    omega
  refine ⟨⟨a0.1, a0.2.1, r0⟩, ⟨a1.1, f1, r1⟩, ⟨a2.1, f1.tr a2.2.1, ?_⟩⟩
  have := a2.2.2
  unfold nit2
  omega
theorem nitA_ok {A X : Int → Int} (h : TN A) : TN (nitA A X) ∧ nitA A X 9 ≤ A 9 + 36 ∧ A 9 ≤ nitA A X 9 ∧ nitA A X 1 = A 1 + 1 ∧ nitA A X 5 = A 5 ∧ (0 ≤ nitF A X ∧ nitF A X ≤ 30) ∧ (0 ≤ nitN A X ∧ nitN A X ≤ 18) := by
  have h2 := (nit2_ok (X := X) h).2.2
  obtain ⟨hB, hW, h7, h9, h1⟩ := h
  have e9 : keepA A 9 = A 9 := keepA_lo h7 (by omega) (by omega)
  have b3 : TB (nit3 A X) := h2.1.n1
  have hf := fallA_ok (X := X) b3
  have g : ∀ i, i < 13 → ¬ i = 9 → ¬ i = 1 → nitA A X i = keepA A i := by
    intro i hi hn h1
    show (fallA (nit3 A X) X).1 i = _
    rw [hf.2.1 i (by omega)]
    unfold nit3
    rw [up1_ne h1, h2.2.1.1 i (by omega) hn]
  have g9 : nitA A X 9 = (nit2 A X).1 9 := by
    show (fallA (nit3 A X) X).1 9 = _
    rw [hf.2.1 9 (by omega)]
    unfold nit3
    rw [up1_ne (by omega)]
  have g1 : nitA A X 1 = A 1 + 1 := by
    show (fallA (nit3 A X) X).1 1 = _
    rw [hf.2.1 1 (by omega)]
    unfold nit3
    rw [up1_eq]
  have k7 := keepA_7 h7
  have hk := h2.2.1.2
  refine ⟨⟨hf.1, ?_, ?_, ?_, ?_⟩, by omega, by omega, g1, ?_, hf.2.2, h2.2.2.2⟩
  · intro i h3 h4
    rw [g i (by omega) (by omega) (by omega), keepA_lo h7 (by omega) (by omega)]
    exact hW i h3 h4
  · rw [g 7 (by omega) (by omega) (by omega)]; omega
  · omega
  · omega
  · rw [g 5 (by omega) (by omega) (by omega), keepA_lo h7 (by omega) (by omega)]
def ntL (X : Int → Int) : Nat → (Int → Int) → Int → Int → (Int → Int) × Int × Int
  | 0, A, f, n => (A, f, n)
  | k + 1, A, f, n => ntL X k (nitA A X) (f + nitF A X) (n + nitN A X)
theorem ntL_ok {X : Int → Int} : ∀ (k : Nat) (A : Int → Int) (f n : Int), TN A → TN (ntL X k A f n).1 ∧ (ntL X k A f n).1 9 ≤ A 9 + 36 * k ∧ A 9 ≤ (ntL X k A f n).1 9 ∧ (ntL X k A f n).1 1 = A 1 + k ∧ (ntL X k A f n).1 5 = A 5 ∧ (f ≤ (ntL X k A f n).2.1 ∧ (ntL X k A f n).2.1 ≤ f + 30 * k) ∧ (n ≤ (ntL X k A f n).2.2 ∧ (ntL X k A f n).2.2 ≤ n + 18 * k)
  | 0, A, f, n, h => by
    unfold ntL
    dsimp only
    exact ⟨h, by omega, by omega, by omega, rfl, by omega, by omega⟩
  | k + 1, A, f, n, h => by
    have a := nitA_ok (X := X) h
    have b := ntL_ok (X := X) k (nitA A X) (f + nitF A X) (n + nitN A X) a.1
    unfold ntL
    exact ⟨b.1, by omega, by omega, by omega, by rw [b.2.2.2.2.1]; exact a.2.2.2.2.1, by omega, by omega⟩
section TG
variable {g : jjG} {d : Nat} {T : jjT} {Q : jjQ}
theorem tw_oneNight_2 {s n0 : Int} (hT : PT T) (hs : 0 ≤ s ∧ s < 3) : ∀ (k : Nat) (v : Int → Int → Int) (p n : Int), PV v → TE v → (0 ≤ v 540 9 ∧ v 540 9 + 2 * k < 900000) → 0 ≤ p → 11 ≤ p + 2 * k → p ≤ 20 → (0 ≤ n ∧ n + k ≤ 1000) →
    (∀ w p', jka v (chL (v 542) s k p n (v 540)).1 w → jW bX2_oneNight (g, d + 7, 0, 0, Q) 1 [some (vR 539), some (vI (chL (v 542) s k p n (v 540)).2), some (vI (s + 1)), some (vI p')] [] (w, T) 0 0) →
    jW bX2_oneNight (g, d + 7, 0, 0, Q) 2 [some (vR 539), some (vI n), some (vI s), some (vI p)] [] (v, T) 0 0 := by
  intro k
  induction k with
  | zero =>
    intro v p n hV hE h9 hp hk hp2 hn hQ
    have hm := hE.1.2.2.2.2.2.1 (13 + s) (by omega) (by omega)
    unfold chL at hQ
    dsimp only at hQ
    refine jW_step ?_
    simp (disch := (first | decide | omega)) only [bX2_oneNight, jxs, hps, jtsw, jlsw, List.length_cons, List.length_nil, true_and, and_true, true_implies, false_implies, implies_true, not_true_eq_false, not_false_eq_true, false_and, and_false, if_true, if_false, or_true, true_or, or_false, false_or, Classical.not_not, and_self, Int.reduceAdd, Int.reduceMul, Int.reduceSub, Int.reduceNeg, Int.reduceLT, Int.reduceLE, Int.reduceEq, Int.reduceNe, Int.reduceToNat, Nat.reduceAdd, Nat.reduceMul, Nat.reduceSub, Nat.reduceLeDiff, Nat.reduceLT, Nat.reduceEqDiff, reduceIte, Nat.zero_le, Nat.le_refl, Nat.add_zero, Nat.zero_add, twT hT, twV hV]
    (repeat (refine And.intro (by (first | omega | assumption | trivial | (simp only [inI]; omega) | (simp only [inL]; omega) | (refine jb_01) | (exact jb_in))) ?_))
    (try refine ⟨fun _ => ?_, fun h9 => (by exfalso; omega)⟩)
    (repeat (refine And.intro (by (first | omega | assumption | trivial | (simp only [inI]; omega) | (simp only [inL]; omega) | (refine jb_01) | (exact jb_in))) ?_))
    exact hQ v p jka.rf
  | succ k ih =>
    intro v p n hV hE h9 hp hk hp2 hn hQ
    have hA := hE.1
    have hm := hA.2.2.2.2.2.1 (13 + s) (by omega) (by omega)
    unfold chL at hQ
    refine jW_step ?_
    simp (disch := (first | decide | omega)) only [bX2_oneNight, jxs, hps, jtsw, jlsw, List.length_cons, List.length_nil, true_and, and_true, true_implies, false_implies, implies_true, not_true_eq_false, not_false_eq_true, false_and, and_false, if_true, if_false, or_true, true_or, or_false, false_or, Classical.not_not, and_self, Int.reduceAdd, Int.reduceMul, Int.reduceSub, Int.reduceNeg, Int.reduceLT, Int.reduceLE, Int.reduceEq, Int.reduceNe, Int.reduceToNat, Nat.reduceAdd, Nat.reduceMul, Nat.reduceSub, Nat.reduceLeDiff, Nat.reduceLT, Nat.reduceEqDiff, reduceIte, Nat.zero_le, Nat.le_refl, Nat.add_zero, Nat.zero_add, twT hT, twV hV]
    (repeat (refine And.intro (by (first | omega | assumption | trivial | (simp only [inI]; omega) | (simp only [inL]; omega) | (refine jb_01) | (exact jb_in))) ?_))
    refine ⟨fun h => ?_, fun h => ?_⟩
    · rw [if_pos h] at hQ
      dsimp only at hQ
      (repeat (refine And.intro (by (first | omega | assumption | trivial | (simp only [inI]; omega) | (simp only [inL]; omega) | (refine jb_01) | (exact jb_in))) ?_))
      exact hQ v p jka.rf
    · rw [if_neg h] at hQ
      (repeat (refine And.intro (by (first | omega | assumption | trivial | (simp only [inI]; omega) | (simp only [inL]; omega) | (refine jb_01) | (exact jb_in))) ?_))
      have q9 := chA_9 (A := v 540) (X := v 542) (s := s) (p := p) hs (by omega)
      have q := chN_01 (A := v 540) (X := v 542) (s := s) (p := p)
      refine ⟨0, 0, ⟨by omega, by omega⟩, tw_changeAt hT hV ⟨hE, hs, by omega, by omega⟩ ?_⟩
      intro w hw
      simp (disch := (first | decide | omega)) only [jxs, hps, jtsw, jlsw, List.length_cons, List.length_nil, true_and, and_true, true_implies, false_implies, implies_true, not_true_eq_false, not_false_eq_true, false_and, and_false, if_true, if_false, or_true, true_or, or_false, false_or, Classical.not_not, and_self, Int.reduceAdd, Int.reduceMul, Int.reduceSub, Int.reduceNeg, Int.reduceLT, Int.reduceLE, Int.reduceEq, Int.reduceNe, Int.reduceToNat, Nat.reduceAdd, Nat.reduceMul, Nat.reduceSub, Nat.reduceLeDiff, Nat.reduceLT, Nat.reduceEqDiff, reduceIte, Nat.zero_le, Nat.le_refl, Nat.add_zero, Nat.zero_add, twT hT, twV hV]
      (repeat (refine And.intro (by (first | omega | assumption | trivial | (simp only [inI]; omega) | (simp only [inL]; omega) | (refine jb_01) | (exact jb_in))) ?_))
      refine ih w (p + 2) _ (hw.pv hV) (hw.te hE (chA_TB hA h9.1 hs (by omega)) (chA_lo h9.1 hs (by omega) (by omega) (by omega))) (by rw [hw.a]; omega) (by omega) (by omega) (by omega) (by omega) ?_
      rw [hw.a, hw.x]
      intro u p' hu
      exact hQ u p' (hw.tr hu)
theorem tw_oneNight {v : Int → Int → Int} (hT : PT T) (hV : PV v) (hS : TE v ∧ TN (v 540) ∧ (v 540 9 < 800000 ∧ v 540 1 < 20000) ∧ (0 ≤ v 539 25 ∧ v 539 25 < 1000000000)) (hQ : ∀ w, jkn v (nitA (v 540) (v 542)) (v 539 25 + nitF (v 540) (v 542)) w → Q (.inl (some (vI (nitN (v 540) (v 542))))) (w, T)) : jmet g (d + 8) 0 0 MX2_oneNight [vR 539] (v, T) Q := by
  obtain ⟨hE, hN, hb, hf⟩ := hS
  have n2 := nit2_ok (X := v 542) hN
  have nA := nitA_ok (X := v 542) hN
  obtain ⟨hB, hW, h7, h9, h1⟩ := hN
  have e9 : keepA (v 540) 9 = v 540 9 := keepA_lo h7 (by omega) (by omega)
  have e1 : keepA (v 540) 1 = v 540 1 := keepA_lo h7 (by omega) (by omega)
  have e5 : keepA (v 540) 5 = v 540 5 := keepA_lo h7 (by omega) (by omega)
  refine jmet_of (ls := [some (vR 539), none, none, none]) sX2_oneNight rfl (by decide +kernel) (by decide) rfl (by simp [jent]) ?_
  refine jW_step ?_
  simp (disch := (first | decide | omega)) only [bX2_oneNight, jxs, hps, jtsw, jlsw, List.length_cons, List.length_nil, true_and, and_true, true_implies, false_implies, implies_true, not_true_eq_false, not_false_eq_true, false_and, and_false, if_true, if_false, or_true, true_or, or_false, false_or, Classical.not_not, and_self, Int.reduceAdd, Int.reduceMul, Int.reduceSub, Int.reduceNeg, Int.reduceLT, Int.reduceLE, Int.reduceEq, Int.reduceNe, Int.reduceToNat, Nat.reduceAdd, Nat.reduceMul, Nat.reduceSub, Nat.reduceLeDiff, Nat.reduceLT, Nat.reduceEqDiff, reduceIte, Nat.zero_le, Nat.le_refl, Nat.add_zero, Nat.zero_add, twT hT, twV hV]
  (repeat (refine And.intro (by (first | omega | assumption | trivial | (simp only [inI]; omega) | (simp only [inL]; omega) | (refine jb_01) | (exact jb_in))) ?_))
  refine ⟨0, 0, ⟨by omega, by omega⟩, tw_keep hT hV h7 ?_⟩
  simp (disch := (first | decide | omega)) only [jxs, hps, jtsw, jlsw, List.length_cons, List.length_nil, true_and, and_true, true_implies, false_implies, implies_true, not_true_eq_false, not_false_eq_true, false_and, and_false, if_true, if_false, or_true, true_or, or_false, false_or, Classical.not_not, and_self, Int.reduceAdd, Int.reduceMul, Int.reduceSub, Int.reduceNeg, Int.reduceLT, Int.reduceLE, Int.reduceEq, Int.reduceNe, Int.reduceToNat, Nat.reduceAdd, Nat.reduceMul, Nat.reduceSub, Nat.reduceLeDiff, Nat.reduceLT, Nat.reduceEqDiff, reduceIte, Nat.zero_le, Nat.le_refl, Nat.add_zero, Nat.zero_add, twT hT, twV hV]
  have j0 : jka v (keepA (v 540)) (upA v 540 (keepA (v 540))) := jka.rf.up
  have hVk := j0.pv hV
  have hEk := j0.te hE (keepA_TB hB h7) e5
  generalize upA v 540 (keepA (v 540)) = u0 at *
  have hV := hVk
  have a0 := j0.a
  refine jW_step ?_
  simp (disch := (first | decide | omega)) only [bX2_oneNight, jxs, hps, jtsw, jlsw, List.length_cons, List.length_nil, true_and, and_true, true_implies, false_implies, implies_true, not_true_eq_false, not_false_eq_true, false_and, and_false, if_true, if_false, or_true, true_or, or_false, false_or, Classical.not_not, and_self, Int.reduceAdd, Int.reduceMul, Int.reduceSub, Int.reduceNeg, Int.reduceLT, Int.reduceLE, Int.reduceEq, Int.reduceNe, Int.reduceToNat, Nat.reduceAdd, Nat.reduceMul, Nat.reduceSub, Nat.reduceLeDiff, Nat.reduceLT, Nat.reduceEqDiff, reduceIte, Nat.zero_le, Nat.le_refl, Nat.add_zero, Nat.zero_add, twT hT, twV hV, a0]
  (repeat (refine And.intro (by (first | omega | assumption | trivial | (simp only [inI]; omega) | (simp only [inL]; omega) | (refine jb_01) | (exact jb_in))) ?_))
  rw [e1]
  refine tw_oneNight_2 (n0 := 0) hT (by omega) 6 u0 _ 0 hVk hEk (by rw [a0]; omega) (by omega) (by omega) (by omega) (by omega) ?_
  rw [a0, j0.x]
  intro u1 p1 hu1
  have j1 := j0.tr hu1
  have hV1 := hu1.pv hVk
  have hE1 := j1.te hE n2.1.1 ((n2.1.2.1.1 5 (by omega) (by omega)).trans e5)
  have hV := hu1.pv hVk
  have a1 : u1 540 = (nit0 (v 540) (v 542)).1 := hu1.a
  have b1 : (nit0 (v 540) (v 542)).1 1 = v 540 1 := (n2.1.2.1.1 1 (by omega) (by omega)).trans e1
  have c9 := n2.1.2.1.2
  refine jW_step ?_
  simp (disch := (first | decide | omega)) only [bX2_oneNight, jxs, hps, jtsw, jlsw, List.length_cons, List.length_nil, true_and, and_true, true_implies, false_implies, implies_true, not_true_eq_false, not_false_eq_true, false_and, and_false, if_true, if_false, or_true, true_or, or_false, false_or, Classical.not_not, and_self, Int.reduceAdd, Int.reduceMul, Int.reduceSub, Int.reduceNeg, Int.reduceLT, Int.reduceLE, Int.reduceEq, Int.reduceNe, Int.reduceToNat, Nat.reduceAdd, Nat.reduceMul, Nat.reduceSub, Nat.reduceLeDiff, Nat.reduceLT, Nat.reduceEqDiff, reduceIte, Nat.zero_le, Nat.le_refl, Nat.add_zero, Nat.zero_add, twT hT, twV hV, a1, b1]
  (repeat (refine And.intro (by (first | omega | assumption | trivial | (simp only [inI]; omega) | (simp only [inL]; omega) | (refine jb_01) | (exact jb_in))) ?_))
  refine tw_oneNight_2 (n0 := 0) hT (by omega) 6 u1 _ _ hV hE1 (by rw [a1]; omega) (by omega) (by omega) (by omega) (by have := n2.1.2.2.2; unfold nit0 at this; omega) ?_
  rw [a1, j1.x]
  intro u2 p2 hu2
  have j2 := j1.tr hu2
  have hV2 := hu2.pv hV
  have hE2 := j2.te hE n2.2.1.1 ((n2.2.1.2.1.1 5 (by omega) (by omega)).trans e5)
  have hV := hV2
  have a2 : u2 540 = (nit1 (v 540) (v 542)).1 := hu2.a
  have b2 : (nit1 (v 540) (v 542)).1 1 = v 540 1 := (n2.2.1.2.1.1 1 (by omega) (by omega)).trans e1
  have d9 := n2.2.1.2.1.2
  refine jW_step ?_
  simp (disch := (first | decide | omega)) only [bX2_oneNight, jxs, hps, jtsw, jlsw, List.length_cons, List.length_nil, true_and, and_true, true_implies, false_implies, implies_true, not_true_eq_false, not_false_eq_true, false_and, and_false, if_true, if_false, or_true, true_or, or_false, false_or, Classical.not_not, and_self, Int.reduceAdd, Int.reduceMul, Int.reduceSub, Int.reduceNeg, Int.reduceLT, Int.reduceLE, Int.reduceEq, Int.reduceNe, Int.reduceToNat, Nat.reduceAdd, Nat.reduceMul, Nat.reduceSub, Nat.reduceLeDiff, Nat.reduceLT, Nat.reduceEqDiff, reduceIte, Nat.zero_le, Nat.le_refl, Nat.add_zero, Nat.zero_add, twT hT, twV hV, a2, b2]
  (repeat (refine And.intro (by (first | omega | assumption | trivial | (simp only [inI]; omega) | (simp only [inL]; omega) | (refine jb_01) | (exact jb_in))) ?_))
  refine tw_oneNight_2 (n0 := 0) hT (by omega) 6 u2 _ _ hV hE2 (by rw [a2]; omega) (by omega) (by omega) (by omega) (by have := n2.2.1.2.2.2; unfold nit1 nit0 at this; unfold nit0; omega) ?_
  rw [a2, j2.x]
  intro u3 p3 hu3
  have j3 := j2.tr hu3
  have hV3 := hu3.pv hV
  have hV := hV3
  have a3 : u3 540 = (nit2 (v 540) (v 542)).1 := hu3.a
  have b3 : (nit2 (v 540) (v 542)).1 1 = v 540 1 := (n2.2.2.2.1.1 1 (by omega) (by omega)).trans e1
  have f3 : u3 539 25 = v 539 25 := by rw [j3.o]
  have hB3 : TB (nit3 (v 540) (v 542)) := n2.2.2.1.n1
  have g3 : ∀ i, i < 13 → ¬ i = 9 → ¬ i = 1 → nit3 (v 540) (v 542) i = v 540 i ∨ i = 7 := by
    intro i hi h9 h1
    by_cases e : i = 7
    · exact Or.inr e
    · refine Or.inl ?_
      unfold nit3
      rw [up1_ne h1, n2.2.2.2.1.1 i (by omega) h9, keepA_lo h7 (by omega) e]
  refine jW_step ?_
  simp (disch := (first | decide | omega)) only [bX2_oneNight, jxs, hps, jtsw, jlsw, List.length_cons, List.length_nil, true_and, and_true, true_implies, false_implies, implies_true, not_true_eq_false, not_false_eq_true, false_and, and_false, if_true, if_false, or_true, true_or, or_false, false_or, Classical.not_not, and_self, Int.reduceAdd, Int.reduceMul, Int.reduceSub, Int.reduceNeg, Int.reduceLT, Int.reduceLE, Int.reduceEq, Int.reduceNe, Int.reduceToNat, Nat.reduceAdd, Nat.reduceMul, Nat.reduceSub, Nat.reduceLeDiff, Nat.reduceLT, Nat.reduceEqDiff, reduceIte, Nat.zero_le, Nat.le_refl, Nat.add_zero, Nat.zero_add, twT hT, twV hV, a3, b3, f3]
  (repeat (refine And.intro (by (first | omega | assumption | trivial | (simp only [inI]; omega) | (simp only [inL]; omega) | (refine jb_01) | (exact jb_in))) ?_))
  have j4 : jka v (nit3 (v 540) (v 542)) (upA u3 540 (nit3 (v 540) (v 542))) := j3.up
  have hE4 := j4.te hE hB3 ((g3 5 (by omega) (by omega) (by omega)).resolve_right (by omega))
  have hW4 : TW (nit3 (v 540) (v 542)) := fun i h1 h2 => by rw [(g3 i (by omega) (by omega) (by omega)).resolve_right (by omega)]; exact hW i h1 h2
  have e3 : up1 (nit2 (v 540) (v 542)).1 1 (v 540 1 + 1) = nit3 (v 540) (v 542) := rfl
  rw [e3]
  refine ⟨0, 0, ⟨by omega, by omega⟩, tw_fall hT (by (first | assumption | (repeat (first | assumption | refine PV.A ?_ (by decide) | refine PV.F ?_ ?_ | refine twR.up ?_ (by decide) | refine PV.r ?_)))) ⟨hE4, by rw [upA_eq]; exact hW4⟩ ?_⟩
  rw [j4.a, j4.x]
  intro u5 hu5
  have j5 := j4.tr hu5
  have hV := hu5.pv (v := upA u3 540 (nit3 (v 540) (v 542))) (by (first | assumption | (repeat (first | assumption | refine PV.A ?_ (by decide) | refine PV.F ?_ ?_ | refine twR.up ?_ (by decide) | refine PV.r ?_))))
  have hff : nitF (v 540) (v 542) = (fallA (nit3 (v 540) (v 542)) (v 542)).2 := rfl
  simp (disch := (first | decide | omega)) only [jxs, hps, jtsw, jlsw, List.length_cons, List.length_nil, true_and, and_true, true_implies, false_implies, implies_true, not_true_eq_false, not_false_eq_true, false_and, and_false, if_true, if_false, or_true, true_or, or_false, false_or, Classical.not_not, and_self, Int.reduceAdd, Int.reduceMul, Int.reduceSub, Int.reduceNeg, Int.reduceLT, Int.reduceLE, Int.reduceEq, Int.reduceNe, Int.reduceToNat, Nat.reduceAdd, Nat.reduceMul, Nat.reduceSub, Nat.reduceLeDiff, Nat.reduceLT, Nat.reduceEqDiff, reduceIte, Nat.zero_le, Nat.le_refl, Nat.add_zero, Nat.zero_add, twT hT, twV hV]
  rw [← hff]
  (repeat (refine And.intro (by (first | omega | assumption | trivial | (simp only [inI]; omega) | (simp only [inL]; omega) | (refine jb_01) | (exact jb_in))) ?_))
  refine hQ _ ⟨?_, ?_, ?_⟩
  · rw [upA_ne (by omega)]; exact j5.a
  · rw [upA_eq, j5.o]
  · intro a c1 c2 c3 c4 c5
    rw [upA_ne c1]
    exact j5.2 a c2 c3 c4 c5
theorem tw_night_2 {m : Int} (hT : PT T) : ∀ (k : Nat) (v : Int → Int → Int) (i n : Int), PV v → TE v → TN (v 540) → (v 540 9 + 36 * k < 800000 ∧ v 540 1 + k < 20000) → (0 ≤ v 539 25 ∧ v 539 25 + 30 * k < 1000000000) → i + k = m → (0 ≤ i ∧ m ≤ 99) → (0 ≤ n ∧ n + 18 * k ≤ 100000) →
    (∀ w, jkn v (ntL (v 542) k (v 540) (v 539 25) n).1 (ntL (v 542) k (v 540) (v 539 25) n).2.1 w → Q (.inl (some (vI (ntL (v 542) k (v 540) (v 539 25) n).2.2))) (w, T)) →
    jW bX2_night (g, d + 8, 0, 0, Q) 2 [some (vR 539), some (vI m), some (vI n), some (vI i)] [] (v, T) 0 0 := by
  intro k
  induction k with
  | zero =>
    intro v i n hV hE hN hb hf hi hm hn hQ
    refine jW_step ?_
    simp (disch := (first | decide | omega)) only [bX2_night, jxs, hps, jtsw, jlsw, List.length_cons, List.length_nil, true_and, and_true, true_implies, false_implies, implies_true, not_true_eq_false, not_false_eq_true, false_and, and_false, if_true, if_false, or_true, true_or, or_false, false_or, Classical.not_not, and_self, Int.reduceAdd, Int.reduceMul, Int.reduceSub, Int.reduceNeg, Int.reduceLT, Int.reduceLE, Int.reduceEq, Int.reduceNe, Int.reduceToNat, Nat.reduceAdd, Nat.reduceMul, Nat.reduceSub, Nat.reduceLeDiff, Nat.reduceLT, Nat.reduceEqDiff, reduceIte, Nat.zero_le, Nat.le_refl, Nat.add_zero, Nat.zero_add, twT hT, twV hV]
    (try refine ⟨fun _ => ?_, fun h9 => (by exfalso; omega)⟩)
    (repeat (refine And.intro (by (first | omega | assumption | trivial | (simp only [inI]; omega) | (simp only [inL]; omega) | (refine jb_01) | (exact jb_in))) ?_))
    exact hQ v ⟨rfl, up1_id.symm, fun _ _ _ _ _ _ => rfl⟩
  | succ k ih =>
    intro v i n hV hE hN hb hf hi hm hn hQ
    have a := nitA_ok (X := v 542) hN
    unfold ntL at hQ
    refine jW_step ?_
    simp (disch := (first | decide | omega)) only [bX2_night, jxs, hps, jtsw, jlsw, List.length_cons, List.length_nil, true_and, and_true, true_implies, false_implies, implies_true, not_true_eq_false, not_false_eq_true, false_and, and_false, if_true, if_false, or_true, true_or, or_false, false_or, Classical.not_not, and_self, Int.reduceAdd, Int.reduceMul, Int.reduceSub, Int.reduceNeg, Int.reduceLT, Int.reduceLE, Int.reduceEq, Int.reduceNe, Int.reduceToNat, Nat.reduceAdd, Nat.reduceMul, Nat.reduceSub, Nat.reduceLeDiff, Nat.reduceLT, Nat.reduceEqDiff, reduceIte, Nat.zero_le, Nat.le_refl, Nat.add_zero, Nat.zero_add, twT hT, twV hV]
    (first | refine ⟨fun h9 => (by exfalso; omega), fun _ => ?_⟩ | intro _)
    (repeat (refine And.intro (by (first | omega | assumption | trivial | (simp only [inI]; omega) | (simp only [inL]; omega) | (refine jb_01) | (exact jb_in))) ?_))
    refine ⟨0, 0, ⟨by omega, by omega⟩, tw_oneNight hT hV ⟨hE, hN, by omega, by omega⟩ ?_⟩
    intro w hw
    simp (disch := (first | decide | omega)) only [jxs, hps, jtsw, jlsw, List.length_cons, List.length_nil, true_and, and_true, true_implies, false_implies, implies_true, not_true_eq_false, not_false_eq_true, false_and, and_false, if_true, if_false, or_true, true_or, or_false, false_or, Classical.not_not, and_self, Int.reduceAdd, Int.reduceMul, Int.reduceSub, Int.reduceNeg, Int.reduceLT, Int.reduceLE, Int.reduceEq, Int.reduceNe, Int.reduceToNat, Nat.reduceAdd, Nat.reduceMul, Nat.reduceSub, Nat.reduceLeDiff, Nat.reduceLT, Nat.reduceEqDiff, reduceIte, Nat.zero_le, Nat.le_refl, Nat.add_zero, Nat.zero_add, twT hT, twV hV]
    (repeat (refine And.intro (by (first | omega | assumption | trivial | (simp only [inI]; omega) | (simp only [inL]; omega) | (refine jb_01) | (exact jb_in))) ?_))
    have ea := hw.a
    have ef := hw.f
    refine ih w (i + 1) _ (hw.pv hV) (hw.te hE a.1.1 a.2.2.2.2.1) (by rw [ea]; exact a.1) (by rw [ea]; omega) (by rw [ef]; omega) (by omega) (by omega) (by omega) ?_
    rw [ea, ef, hw.x]
    intro u hu
    exact hQ u (hw.tr hu)
/-- nights -/
theorem tw_night {v : Int → Int → Int} {n : Int} (hT : PT T) (hV : PV v) (hS : TE v ∧ TN (v 540) ∧ (v 540 9 < 700000 ∧ v 540 1 ≤ 9999) ∧ (0 ≤ v 539 25 ∧ v 539 25 < 900000000) ∧ inI n)
    (hQ : (¬ ((1 ≤ n ∧ n ≤ 99) ∧ v 540 1 + n ≤ 9999) → Q (.inl (some (vI (-1)))) (v, T)) ∧ (((1 ≤ n ∧ n ≤ 99) ∧ v 540 1 + n ≤ 9999) → ∀ w, jkn v (ntL (v 542) n.toNat (v 540) (v 539 25) 0).1 (ntL (v 542) n.toNat (v 540) (v 539 25) 0).2.1 w → Q (.inl (some (vI (ntL (v 542) n.toNat (v 540) (v 539 25) 0).2.2))) (w, T))) : jmet g (d + 9) 0 0 MX2_night [vR 539, vI n] (v, T) Q := by
  obtain ⟨hE, hN, hb, hf, hn⟩ := hS
  have h1 := hN.2.2.2.2
  refine jmet_of (ls := [some (vR 539), some (vI n), none, none]) sX2_night rfl (by decide +kernel) (by decide) rfl (by simp [jent]) ?_
  refine jW_step ?_
  simp (disch := (first | decide | omega)) only [bX2_night, jxs, hps, jtsw, jlsw, List.length_cons, List.length_nil, true_and, and_true, true_implies, false_implies, implies_true, not_true_eq_false, not_false_eq_true, false_and, and_false, if_true, if_false, or_true, true_or, or_false, false_or, Classical.not_not, and_self, Int.reduceAdd, Int.reduceMul, Int.reduceSub, Int.reduceNeg, Int.reduceLT, Int.reduceLE, Int.reduceEq, Int.reduceNe, Int.reduceToNat, Nat.reduceAdd, Nat.reduceMul, Nat.reduceSub, Nat.reduceLeDiff, Nat.reduceLT, Nat.reduceEqDiff, reduceIte, Nat.zero_le, Nat.le_refl, Nat.add_zero, Nat.zero_add, twT hT, twV hV]
  (repeat (refine And.intro (by (first | omega | assumption | trivial | (simp only [inI]; omega) | (simp only [inL]; omega) | (refine jb_01) | (exact jb_in))) ?_))
  refine ⟨0, 0, ⟨by omega, by omega⟩, tw_isIn hT (by (first | assumption | (repeat (first | assumption | refine PV.A ?_ (by decide) | refine PV.F ?_ ?_ | refine twR.up ?_ (by decide) | refine PV.r ?_)))) (by (first | omega | assumption | trivial | (simp only [inI]; omega) | (simp only [inL]; omega) | (refine jb_01) | (exact jb_in))) ?_⟩
  simp (disch := (first | decide | omega)) only [jxs, hps, jtsw, jlsw, List.length_cons, List.length_nil, true_and, and_true, true_implies, false_implies, implies_true, not_true_eq_false, not_false_eq_true, false_and, and_false, if_true, if_false, or_true, true_or, or_false, false_or, Classical.not_not, and_self, Int.reduceAdd, Int.reduceMul, Int.reduceSub, Int.reduceNeg, Int.reduceLT, Int.reduceLE, Int.reduceEq, Int.reduceNe, Int.reduceToNat, Nat.reduceAdd, Nat.reduceMul, Nat.reduceSub, Nat.reduceLeDiff, Nat.reduceLT, Nat.reduceEqDiff, reduceIte, Nat.zero_le, Nat.le_refl, Nat.add_zero, Nat.zero_add, twT hT, twV hV]
  refine ⟨fun h => ?_, fun h => ?_⟩
  · refine jW_step ?_
    simp (disch := (first | decide | omega)) only [bX2_night, jxs, hps, jtsw, jlsw, List.length_cons, List.length_nil, true_and, and_true, true_implies, false_implies, implies_true, not_true_eq_false, not_false_eq_true, false_and, and_false, if_true, if_false, or_true, true_or, or_false, false_or, Classical.not_not, and_self, Int.reduceAdd, Int.reduceMul, Int.reduceSub, Int.reduceNeg, Int.reduceLT, Int.reduceLE, Int.reduceEq, Int.reduceNe, Int.reduceToNat, Nat.reduceAdd, Nat.reduceMul, Nat.reduceSub, Nat.reduceLeDiff, Nat.reduceLT, Nat.reduceEqDiff, reduceIte, Nat.zero_le, Nat.le_refl, Nat.add_zero, Nat.zero_add, twT hT, twV hV]
    (repeat (refine And.intro (by (first | omega | assumption | trivial | (simp only [inI]; omega) | (simp only [inL]; omega) | (refine jb_01) | (exact jb_in))) ?_))
    exact hQ.1 (fun q => h q.1)
  · (repeat (refine And.intro (by (first | omega | assumption | trivial | (simp only [inI]; omega) | (simp only [inL]; omega) | (refine jb_01) | (exact jb_in))) ?_))
    refine ⟨fun h2 => ?_, fun h2 => ?_⟩
    · exact tw_night_2 hT n.toNat v 0 0 hV hE hN (by omega) (by omega) (by omega) (by omega) (by omega) (hQ.2 ⟨h, by omega⟩)
    · refine jW_step ?_
      simp (disch := (first | decide | omega)) only [bX2_night, jxs, hps, jtsw, jlsw, List.length_cons, List.length_nil, true_and, and_true, true_implies, false_implies, implies_true, not_true_eq_false, not_false_eq_true, false_and, and_false, if_true, if_false, or_true, true_or, or_false, false_or, Classical.not_not, and_self, Int.reduceAdd, Int.reduceMul, Int.reduceSub, Int.reduceNeg, Int.reduceLT, Int.reduceLE, Int.reduceEq, Int.reduceNe, Int.reduceToNat, Nat.reduceAdd, Nat.reduceMul, Nat.reduceSub, Nat.reduceLeDiff, Nat.reduceLT, Nat.reduceEqDiff, reduceIte, Nat.zero_le, Nat.le_refl, Nat.add_zero, Nat.zero_add, twT hT, twV hV]
      (repeat (refine And.intro (by (first | omega | assumption | trivial | (simp only [inI]; omega) | (simp only [inL]; omega) | (refine jb_01) | (exact jb_in))) ?_))
      exact hQ.1 (fun q => by omega)
end TG
