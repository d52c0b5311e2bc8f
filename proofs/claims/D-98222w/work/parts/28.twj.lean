/-! ===== the reference: the fall ===== -/
set_option maxRecDepth 100000
def nmF (N A : Int → Int) (b s p m : Int) : Int → Int := up1 (up1 (up1 (nmO N A b) 12 s) 13 p) 14 m
def flA (A X : Int → Int) (k s p m b : Int) : Int := ET (nmF (fun _ => 0) A b s p m) (tcode X (A 6) k)
theorem nmF_ag {N N' A : Int → Int} {b s p m so : Int} (hs : so = 1) : ∀ j, allow so j → nmF N A b s p m j = nmF N' A b s p m j := by
  intro j hj
  unfold allow at hj
  have : j = 0 ∨ j = 1 ∨ j = 2 ∨ j = 3 ∨ j = 4 ∨ j = 5 ∨ j = 12 ∨ j = 13 ∨ j = 14 := by omega
  unfold nmF nmO
  rcases this with rfl | rfl | rfl | rfl | rfl | rfl | rfl | rfl | rfl <;> rfl
theorem nmF_bd {N A : Int → Int} {b s p m : Int} (hA : TB A) (hb : 0 ≤ b ∧ b < 10) (hs : 0 ≤ s ∧ s ≤ 100) (hp : 0 ≤ p ∧ p ≤ 100) (hm : 0 ≤ m ∧ m ≤ 100) : ∀ j, allow 1 j → -1000000 ≤ nmF N A b s p m j ∧ nmF N A b s p m j ≤ 1000000 := by
  intro j hj
  have hO := nmO_bd (N := N) hA hb
  unfold allow at hj
  by_cases q : j ≤ 5
  · have := hO j ⟨hj.1, Or.inl q⟩
    unfold nmF
    rwa [up1_ne (by omega), up1_ne (by omega), up1_ne (by omega)]
  have : j = 12 ∨ j = 13 ∨ j = 14 := by omega
  rcases this with rfl | rfl | rfl
  · show -1000000 ≤ s ∧ s ≤ 1000000
    omega
  · show -1000000 ≤ p ∧ p ≤ 1000000
    omega
  · show -1000000 ≤ m ∧ m ≤ 1000000
    omega
/-- untouched: all but shelves and books -/
def FR (A A' : Int → Int) : Prop := ∀ i, (i < 13 ∨ 106 ≤ i) → A' i = A i
theorem FR.rf {A : Int → Int} : FR A A := fun _ _ => rfl
theorem FR.tr {A B C : Int → Int} (h : FR A B) (h2 : FR B C) : FR A C := fun i hi => (h2 i hi).trans (h i hi)
def TW (A : Int → Int) : Prop := ∀ i, 10 ≤ i → i < 13 → 1 ≤ A i ∧ A i ≤ 99
theorem FR.tw {A A' : Int → Int} (h : FR A A') (hw : TW A) : TW A' := fun i h1 h2 => by rw [h i (by omega)]; exact hw i h1 h2
theorem FR.pull {A : Int → Int} (h : TB A) {s p to : Int} (hs : 0 ≤ s ∧ s < 3) (hp : 0 ≤ p ∧ p < A (13 + s)) : FR A (pullA A s p to) := by
  intro i hi
  have hm := h.2.2.2.2.2.1 (13 + s) (by omega) (by omega)
  have he := h.2.2.2.2.2.2 (16 + 10 * s + p) (by omega) (by omega)
  exact pullA_hi hi hs hp.1 (by omega) (by omega)
theorem pullA_m {A : Int → Int} (h : TB A) {s p to : Int} (hs : 0 ≤ s ∧ s < 3) (hp : 0 ≤ p ∧ p < A (13 + s)) : pullA A s p to (13 + s) = A (13 + s) - 1 := by
  unfold pullA shl
  rw [if_neg (by omega), up1_eq]
def ffL (X : Int → Int) (k s m : Int) : Nat → Int → Int → (Int → Int) → (Int → Int) × Int
  | 0, _, gn, A => (A, gn)
  | n + 1, p, gn, A => if flA A X k s p m (A (16 + 10 * s + (p - gn))) = 0 then ffL X k s m n (p + 1) gn A else ffL X k s m n (p + 1) (gn + 1) (pullA A s (p - gn) 4)
def ffW (X : Int → Int) (s : Int) : Nat → Int → (Int → Int) → (Int → Int) × Int
  | 0, gn, A => (A, gn)
  | n + 1, gn, A => if fuA A X s ≤ A (10 + s) then (A, gn) else ffW X s n (gn + 1) (pullA A s (A (13 + s) - 1) 4)
def ff1 (A X : Int → Int) (s : Int) : (Int → Int) × Int := if clA A X 1 0 < 0 then (A, 0) else ffL X (clA A X 1 0) s (A (13 + s)) (A (13 + s)).toNat 0 0 A
def ffA (A X : Int → Int) (s : Int) : (Int → Int) × Int := ffW X s ((ff1 A X s).1 (13 + s)).toNat (ff1 A X s).2 (ff1 A X s).1
theorem ffL_ok {X : Int → Int} {k s m : Int} (hs : 0 ≤ s ∧ s < 3) (hm : 0 ≤ m ∧ m ≤ 10) : ∀ (n : Nat) (p gn : Int) (A : Int → Int), TB A → 0 ≤ gn → gn ≤ p → p + n = m → A (13 + s) = m - gn →
    TB (ffL X k s m n p gn A).1 ∧ FR A (ffL X k s m n p gn A).1 ∧ (ffL X k s m n p gn A).1 (13 + s) = m - (ffL X k s m n p gn A).2 ∧ gn ≤ (ffL X k s m n p gn A).2 ∧ (ffL X k s m n p gn A).2 ≤ m
  | 0, p, gn, A, hB, h0, h1, h2, h3 => by
    unfold ffL
    exact ⟨hB, FR.rf, h3, by omega, by omega⟩
  | n + 1, p, gn, A, hB, h0, h1, h2, h3 => by
    unfold ffL
    split
    · exact ffL_ok hs hm n (p + 1) gn A hB h0 (by omega) (by omega) h3
    · have q : 0 ≤ p - gn ∧ p - gn < A (13 + s) := by omega
      have := ffL_ok (X := X) (k := k) hs hm n (p + 1) (gn + 1) (pullA A s (p - gn) 4) (hB.pull hs q (by omega)) (by omega) (by omega) (by omega) (by rw [pullA_m hB hs q]; omega)
      exact ⟨this.1, (FR.pull hB hs q).tr this.2.1, this.2.2.1, by omega, this.2.2.2.2⟩
theorem ffW_ok {X : Int → Int} {s : Int} (hs : 0 ≤ s ∧ s < 3) : ∀ (n : Nat) (gn : Int) (A : Int → Int), TB A → A (13 + s) = n → 0 ≤ gn →
    TB (ffW X s n gn A).1 ∧ FR A (ffW X s n gn A).1 ∧ 0 ≤ (ffW X s n gn A).2 ∧ (ffW X s n gn A).2 ≤ gn + n
  | 0, gn, A, hB, h3, h0 => by
    unfold ffW
    exact ⟨hB, FR.rf, by omega, by omega⟩
  | n + 1, gn, A, hB, h3, h0 => by
    unfold ffW
    split
    · exact ⟨hB, FR.rf, by omega, by omega⟩
    · have q : 0 ≤ A (13 + s) - 1 ∧ A (13 + s) - 1 < A (13 + s) := by omega
      have := ffW_ok (X := X) hs n (gn + 1) (pullA A s (A (13 + s) - 1) 4) (hB.pull hs q (by omega)) (by rw [pullA_m hB hs q]; omega) (by omega)
      exact ⟨this.1, (FR.pull hB hs q).tr this.2.1, this.2.2.1, by omega⟩
theorem ff1_ok {A X : Int → Int} {s : Int} (hB : TB A) (hs : 0 ≤ s ∧ s < 3) : TB (ff1 A X s).1 ∧ FR A (ff1 A X s).1 ∧ (ff1 A X s).1 (13 + s) = A (13 + s) - (ff1 A X s).2 ∧ 0 ≤ (ff1 A X s).2 ∧ (ff1 A X s).2 ≤ A (13 + s) := by
  have hm := hB.2.2.2.2.2.1 (13 + s) (by omega) (by omega)
  unfold ff1
  split
  · exact ⟨hB, FR.rf, by dsimp only; omega, by dsimp only; omega, by dsimp only; omega⟩
  · exact ffL_ok hs hm _ 0 0 A hB (by omega) (by omega) (by omega) (by omega)
theorem ffA_ok {A X : Int → Int} {s : Int} (hB : TB A) (hs : 0 ≤ s ∧ s < 3) : TB (ffA A X s).1 ∧ FR A (ffA A X s).1 ∧ 0 ≤ (ffA A X s).2 ∧ (ffA A X s).2 ≤ 10 := by
  have hm := hB.2.2.2.2.2.1 (13 + s) (by omega) (by omega)
  have h1 := ff1_ok (X := X) hB hs
  unfold ffA
  have h2 := ffW_ok (X := X) hs ((ff1 A X s).1 (13 + s)).toNat (ff1 A X s).2 (ff1 A X s).1 h1.1 (by omega) h1.2.2.2.1
  exact ⟨h2.1, h1.2.1.tr h2.2.1, h2.2.2.1, by omega⟩
def fall0 (A X : Int → Int) : (Int → Int) × Int := ffA A X 0
def fall1 (A X : Int → Int) : (Int → Int) × Int := ((ffA (fall0 A X).1 X 1).1, (fall0 A X).2 + (ffA (fall0 A X).1 X 1).2)
def fallA (A X : Int → Int) : (Int → Int) × Int := ((ffA (fall1 A X).1 X 2).1, (fall1 A X).2 + (ffA (fall1 A X).1 X 2).2)
theorem fallA_ok {A X : Int → Int} (hB : TB A) : TB (fallA A X).1 ∧ FR A (fallA A X).1 ∧ 0 ≤ (fallA A X).2 ∧ (fallA A X).2 ≤ 30 := by
  have h0 := ffA_ok (X := X) (s := 0) hB (by omega)
  have h1 := ffA_ok (X := X) (s := 1) h0.1 (by omega)
  have h2 := ffA_ok (X := X) (s := 2) h1.1 (by omega)
  refine ⟨h2.1, (h0.2.1.tr h1.2.1).tr h2.2.1, ?_, ?_⟩
  · show 0 ≤ (ffA A X 0).2 + (ffA (ffA A X 0).1 X 1).2 + (ffA (ffA (ffA A X 0).1 X 1).1 X 2).2
    omega
  · show (ffA A X 0).2 + (ffA (ffA A X 0).1 X 1).2 + (ffA (ffA (ffA A X 0).1 X 1).1 X 2).2 ≤ 30
    omega
section TG
variable {g : jjG} {d : Nat} {T : jjT} {Q : jjQ}
theorem tw_isFalling {v : Int → Int → Int} {k s p m b : Int} (hT : PT T) (hV : PV v) (hS : TE v ∧ (0 ≤ k ∧ k = clA (v 540) (v 542) 1 0) ∧ (0 ≤ b ∧ b < 10) ∧ (0 ≤ s ∧ s ≤ 100) ∧ (0 ≤ p ∧ p ≤ 100) ∧ (0 ≤ m ∧ m ≤ 100)) (hQ : ∀ w, jk v w → (0 ≤ flA (v 540) (v 542) k s p m b ∧ flA (v 540) (v 542) k s p m b ≤ 1) → Q (.inl (some (vI (flA (v 540) (v 542) k s p m b)))) (w, T)) : jmet g (d + 4) 0 0 MX2_isFalling [vR 539, vI k, vI s, vI p, vI m, vI b] (v, T) Q := by
  obtain ⟨hE, hk, hb, hs, hp, hm⟩ := hS
  have hA := hE.1
  have hcl := clA_in hE (so := 1) (la := 0) (by omega)
  rw [← hk.2] at hcl
  have hk0 := hk.1
  clear hk
  have h2 := hcl.2.2.1
  obtain ⟨z, hz⟩ := hcl.2.2.2.2.2.1 (by omega) (nmF (fun _ => 0) (v 540) b s p m)
  have hok := (hcl.2.2.2.2.1 (by omega)).2
  have ef : flA (v 540) (v 542) k s p m b = z := ET_bd hz
  rw [ef] at hQ
  have h01 := rpn_bdT _ _ _ (fun _ h => absurd h (List.not_mem_nil)) hz z (List.mem_cons_self ..)
  have hz2 : rpn (nmF (v 545) (v 540) b s p m) (tcode (v 542) (v 540 6) k) ([], []) = some ([], [z]) := by
    rw [← hz]
    exact rpn_congr (nmF_ag h2) _ _ hok
  refine jmet_of (ls := [some (vR 539), some (vI k), some (vI s), some (vI p), some (vI m), some (vI b)]) sX2_isFalling rfl (by decide +kernel) (by decide) rfl (by simp [jent]) ?_
  refine jW_step ?_
  simp (disch := (first | decide | omega)) only [bX2_isFalling, jxs, hps, jtsw, jlsw, List.length_cons, List.length_nil, true_and, and_true, true_implies, false_implies, implies_true, not_true_eq_false, not_false_eq_true, false_and, and_false, if_true, if_false, or_true, true_or, or_false, false_or, Classical.not_not, and_self, Int.reduceAdd, Int.reduceMul, Int.reduceSub, Int.reduceNeg, Int.reduceLT, Int.reduceLE, Int.reduceEq, Int.reduceNe, Int.reduceToNat, Nat.reduceAdd, Nat.reduceMul, Nat.reduceSub, Nat.reduceLeDiff, Nat.reduceLT, Nat.reduceEqDiff, reduceIte, Nat.zero_le, Nat.le_refl, Nat.add_zero, Nat.zero_add, twT hT, twV hV]
  (repeat (refine And.intro (by (first | omega | assumption | trivial | (simp only [inI]; omega) | (simp only [inL]; omega) | (refine jb_01) | (exact jb_in))) ?_))
  refine ⟨0, 0, ⟨by omega, by omega⟩, tw_name hT (by (first | assumption | (repeat (first | assumption | refine PV.A ?_ (by decide) | refine PV.F ?_ ?_ | refine twR.up ?_ (by decide) | refine PV.r ?_)))) (by (first | omega | assumption | trivial | (simp only [inI]; omega) | (simp only [inL]; omega) | (refine jb_01) | (exact jb_in))) ?_⟩
  simp (disch := (first | decide | omega)) only [jxs, hps, jtsw, jlsw, List.length_cons, List.length_nil, true_and, and_true, true_implies, false_implies, implies_true, not_true_eq_false, not_false_eq_true, false_and, and_false, if_true, if_false, or_true, true_or, or_false, false_or, Classical.not_not, and_self, Int.reduceAdd, Int.reduceMul, Int.reduceSub, Int.reduceNeg, Int.reduceLT, Int.reduceLE, Int.reduceEq, Int.reduceNe, Int.reduceToNat, Nat.reduceAdd, Nat.reduceMul, Nat.reduceSub, Nat.reduceLeDiff, Nat.reduceLT, Nat.reduceEqDiff, reduceIte, Nat.zero_le, Nat.le_refl, Nat.add_zero, Nat.zero_add, twT hT, twV hV]
  (repeat (refine And.intro (by (first | omega | assumption | trivial | (simp only [inI]; omega) | (simp only [inL]; omega) | (refine jb_01) | (exact jb_in))) ?_))
  refine ⟨0, 0, ⟨by omega, by omega⟩, tw_work (s' := ([], [z])) hT (by (first | assumption | (repeat (first | assumption | refine PV.A ?_ (by decide) | refine PV.F ?_ ?_ | refine twR.up ?_ (by decide) | refine PV.r ?_)))) ?_ ?_⟩
  · refine ⟨jk.te (jk.up (Or.inl rfl)) hE, ?_, ?_, ?_, ?_⟩
    · simp (disch := omega) only [upA_ne]; omega
    · simp (disch := omega) only [upA_ne]; omega
    · simp (disch := omega) only [upA_ne, upA_eq]
      rw [h2]
      exact nmF_bd hA hb hs hp hm
    · simp (disch := omega) only [upA_ne, upA_eq]
      exact hz2
  intro va tr hva htr
  have hq := hQ _ (((jk.up (v := v) (f := nmF (v 545) (v 540) b s p m) (Or.inl rfl)).tr (jk.up (f := va) (Or.inr (Or.inl rfl)))).tr (jk.up (f := tr) (Or.inr (Or.inr rfl)))) h01
  have ez : tr 0 = z := htr.1
  simp (disch := (first | decide | omega)) only [jxs, hps, jtsw, jlsw, List.length_cons, List.length_nil, true_and, and_true, true_implies, false_implies, implies_true, not_true_eq_false, not_false_eq_true, false_and, and_false, if_true, if_false, or_true, true_or, or_false, false_or, Classical.not_not, and_self, Int.reduceAdd, Int.reduceMul, Int.reduceSub, Int.reduceNeg, Int.reduceLT, Int.reduceLE, Int.reduceEq, Int.reduceNe, Int.reduceToNat, Nat.reduceAdd, Nat.reduceMul, Nat.reduceSub, Nat.reduceLeDiff, Nat.reduceLT, Nat.reduceEqDiff, reduceIte, Nat.zero_le, Nat.le_refl, Nat.add_zero, Nat.zero_add, twT hT, twV hV, ez]
  (repeat (refine And.intro (by (first | omega | assumption | trivial | (simp only [inI]; omega) | (simp only [inL]; omega) | (refine jb_01) | (exact jb_in))) ?_))
  exact hq
theorem clA_fr {A A' X : Int → Int} {so la : Int} (h : FR A A') : clA A' X so la = clA A X so la := by
  unfold clA
  rw [h 6 (by omega)]
theorem tw_fallFrom_3 {s k m p : Int} {l6 : Option jjV} (hT : PT T) (hs : 0 ≤ s ∧ s < 3) : ∀ (n : Nat) (v : Int → Int → Int) (gn : Int), PV v → TE v → TW (v 540) → v 540 (13 + s) = n → 0 ≤ gn ∧ gn + n ≤ 20 →
    (∀ w, jka v (ffW (v 542) s n gn (v 540)).1 w → Q (.inl (some (vI (ffW (v 542) s n gn (v 540)).2))) (w, T)) → jW bX2_fallFrom (g, d + 5, 0, 0, Q) 3 [some (vR 539), some (vI s), some (vI k), some (vI m), some (vI gn), some (vI p)] [] (v, T) 0 0 := by
  intro n
  induction n with
  | zero =>
    intro v gn hV hE hW hm hg hQ
    have hw := hW (10 + s) (by omega) (by omega)
    refine jW_step ?_
    simp (disch := (first | decide | omega)) only [bX2_fallFrom, jxs, hps, jtsw, jlsw, List.length_cons, List.length_nil, true_and, and_true, true_implies, false_implies, implies_true, not_true_eq_false, not_false_eq_true, false_and, and_false, if_true, if_false, or_true, true_or, or_false, false_or, Classical.not_not, and_self, Int.reduceAdd, Int.reduceMul, Int.reduceSub, Int.reduceNeg, Int.reduceLT, Int.reduceLE, Int.reduceEq, Int.reduceNe, Int.reduceToNat, Nat.reduceAdd, Nat.reduceMul, Nat.reduceSub, Nat.reduceLeDiff, Nat.reduceLT, Nat.reduceEqDiff, reduceIte, Nat.zero_le, Nat.le_refl, Nat.add_zero, Nat.zero_add, twT hT, twV hV]
    (repeat (refine And.intro (by (first | omega | assumption | trivial | (simp only [inI]; omega) | (simp only [inL]; omega) | (refine jb_01) | (exact jb_in))) ?_))
    refine ⟨0, 0, ⟨by omega, by omega⟩, tw_fullOf hT hV ⟨hE, hs⟩ ?_⟩
    intro w hw2
    have e0 : fuA (v 540) (v 542) s = 0 := by
      unfold fuA
      rw [hm]
      rfl
    have hV := hw2.pv hV
    have ea := hw2.a
    rw [e0]
    simp (disch := (first | decide | omega)) only [jxs, hps, jtsw, jlsw, List.length_cons, List.length_nil, true_and, and_true, true_implies, false_implies, implies_true, not_true_eq_false, not_false_eq_true, false_and, and_false, if_true, if_false, or_true, true_or, or_false, false_or, Classical.not_not, and_self, Int.reduceAdd, Int.reduceMul, Int.reduceSub, Int.reduceNeg, Int.reduceLT, Int.reduceLE, Int.reduceEq, Int.reduceNe, Int.reduceToNat, Nat.reduceAdd, Nat.reduceMul, Nat.reduceSub, Nat.reduceLeDiff, Nat.reduceLT, Nat.reduceEqDiff, reduceIte, Nat.zero_le, Nat.le_refl, Nat.add_zero, Nat.zero_add, twT hT, twV hV, ea]
    (repeat (refine And.intro (by (first | omega | assumption | trivial | (simp only [inI]; omega) | (simp only [inL]; omega) | (refine jb_01) | (exact jb_in))) ?_))
    (try refine ⟨fun _ => ?_, fun h9 => (by exfalso; omega)⟩)
    (repeat (refine And.intro (by (first | omega | assumption | trivial | (simp only [inI]; omega) | (simp only [inL]; omega) | (refine jb_01) | (exact jb_in))) ?_))
    exact hQ w hw2.ka
  | succ n ih =>
    intro v gn hV hE hW hm hg hQ
    have hA := hE.1
    have q : 0 ≤ v 540 (13 + s) - 1 ∧ v 540 (13 + s) - 1 < v 540 (13 + s) := by omega
    have hm10 := hA.2.2.2.2.2.1 (13 + s) (by omega) (by omega)
    have he := hA.2.2.2.2.2.2 (16 + 10 * s + (v 540 (13 + s) - 1)) (by omega) (by omega)
    unfold ffW at hQ
    refine jW_step ?_
    simp (disch := (first | decide | omega)) only [bX2_fallFrom, jxs, hps, jtsw, jlsw, List.length_cons, List.length_nil, true_and, and_true, true_implies, false_implies, implies_true, not_true_eq_false, not_false_eq_true, false_and, and_false, if_true, if_false, or_true, true_or, or_false, false_or, Classical.not_not, and_self, Int.reduceAdd, Int.reduceMul, Int.reduceSub, Int.reduceNeg, Int.reduceLT, Int.reduceLE, Int.reduceEq, Int.reduceNe, Int.reduceToNat, Nat.reduceAdd, Nat.reduceMul, Nat.reduceSub, Nat.reduceLeDiff, Nat.reduceLT, Nat.reduceEqDiff, reduceIte, Nat.zero_le, Nat.le_refl, Nat.add_zero, Nat.zero_add, twT hT, twV hV]
    (repeat (refine And.intro (by (first | omega | assumption | trivial | (simp only [inI]; omega) | (simp only [inL]; omega) | (refine jb_01) | (exact jb_in))) ?_))
    refine ⟨0, 0, ⟨by omega, by omega⟩, tw_fullOf hT hV ⟨hE, hs⟩ ?_⟩
    intro w hw2
    have hE2 := hw2.te hE
    have hV := hw2.pv hV
    have ea := hw2.a
    have ex := hw2.x
    simp (disch := (first | decide | omega)) only [jxs, hps, jtsw, jlsw, List.length_cons, List.length_nil, true_and, and_true, true_implies, false_implies, implies_true, not_true_eq_false, not_false_eq_true, false_and, and_false, if_true, if_false, or_true, true_or, or_false, false_or, Classical.not_not, and_self, Int.reduceAdd, Int.reduceMul, Int.reduceSub, Int.reduceNeg, Int.reduceLT, Int.reduceLE, Int.reduceEq, Int.reduceNe, Int.reduceToNat, Nat.reduceAdd, Nat.reduceMul, Nat.reduceSub, Nat.reduceLeDiff, Nat.reduceLT, Nat.reduceEqDiff, reduceIte, Nat.zero_le, Nat.le_refl, Nat.add_zero, Nat.zero_add, twT hT, twV hV, ea]
    (repeat (refine And.intro (by (first | omega | assumption | trivial | (simp only [inI]; omega) | (simp only [inL]; omega) | (refine jb_01) | (exact jb_in))) ?_))
    refine ⟨fun h => ?_, fun h => ?_⟩
    · rw [if_pos h] at hQ
      (repeat (refine And.intro (by (first | omega | assumption | trivial | (simp only [inI]; omega) | (simp only [inL]; omega) | (refine jb_01) | (exact jb_in))) ?_))
      exact hQ w hw2.ka
    · rw [if_neg h] at hQ
      (repeat (refine And.intro (by (first | omega | assumption | trivial | (simp only [inI]; omega) | (simp only [inL]; omega) | (refine jb_01) | (exact jb_in))) ?_))
      refine ⟨0, 0, ⟨by omega, by omega⟩, tw_pull hT hV (by rw [ea]; omega) ?_⟩
      rw [ea]
      simp (disch := (first | decide | omega)) only [jxs, hps, jtsw, jlsw, List.length_cons, List.length_nil, true_and, and_true, true_implies, false_implies, implies_true, not_true_eq_false, not_false_eq_true, false_and, and_false, if_true, if_false, or_true, true_or, or_false, false_or, Classical.not_not, and_self, Int.reduceAdd, Int.reduceMul, Int.reduceSub, Int.reduceNeg, Int.reduceLT, Int.reduceLE, Int.reduceEq, Int.reduceNe, Int.reduceToNat, Nat.reduceAdd, Nat.reduceMul, Nat.reduceSub, Nat.reduceLeDiff, Nat.reduceLT, Nat.reduceEqDiff, reduceIte, Nat.zero_le, Nat.le_refl, Nat.add_zero, Nat.zero_add, twT hT, twV hV]
      (repeat (refine And.intro (by (first | omega | assumption | trivial | (simp only [inI]; omega) | (simp only [inL]; omega) | (refine jb_01) | (exact jb_in))) ?_))
      refine ih _ (gn + 1) (by (first | assumption | (repeat (first | assumption | refine PV.A ?_ (by decide) | refine PV.F ?_ ?_ | refine twR.up ?_ (by decide) | refine PV.r ?_)))) ?_ ?_ ?_ (by omega) ?_
      · exact (hw2.ka.up).te hE (hA.pull hs q (by omega)) ((FR.pull hA hs q) 5 (by omega))
      · rw [upA_eq]; exact (FR.pull hA hs q).tw hW
      · rw [upA_eq, pullA_m hA hs q]; omega
      · rw [upA_eq, upA_ne (by omega), ex]
        intro u hu
        exact hQ u ((hw2.ka.up).tr hu)
theorem tw_fallFrom_1 {s k m : Int} (hT : PT T) (hs : 0 ≤ s ∧ s < 3) (hk : 0 ≤ k) (hm : 0 ≤ m ∧ m ≤ 10) : ∀ (n : Nat) (v : Int → Int → Int) (p gn : Int), PV v → TE v → TW (v 540) → k = clA (v 540) (v 542) 1 0 → 0 ≤ gn → gn ≤ p → p + n = m → v 540 (13 + s) = m - gn →
    (∀ w, jka v (ffW (v 542) s ((ffL (v 542) k s m n p gn (v 540)).1 (13 + s)).toNat (ffL (v 542) k s m n p gn (v 540)).2 (ffL (v 542) k s m n p gn (v 540)).1).1 w → Q (.inl (some (vI (ffW (v 542) s ((ffL (v 542) k s m n p gn (v 540)).1 (13 + s)).toNat (ffL (v 542) k s m n p gn (v 540)).2 (ffL (v 542) k s m n p gn (v 540)).1).2))) (w, T)) →
    jW bX2_fallFrom (g, d + 5, 0, 0, Q) 1 [some (vR 539), some (vI s), some (vI k), some (vI m), some (vI gn), some (vI p)] [] (v, T) 0 0 := by
  intro n
  induction n with
  | zero =>
    intro v p gn hV hE hW hc h0 h1 h2 h3 hQ
    unfold ffL at hQ
    dsimp only at hQ
    have hm10 := hE.1.2.2.2.2.2.1 (13 + s) (by omega) (by omega)
    refine jW_step ?_
    simp (disch := (first | decide | omega)) only [bX2_fallFrom, jxs, hps, jtsw, jlsw, List.length_cons, List.length_nil, true_and, and_true, true_implies, false_implies, implies_true, not_true_eq_false, not_false_eq_true, false_and, and_false, if_true, if_false, or_true, true_or, or_false, false_or, Classical.not_not, and_self, Int.reduceAdd, Int.reduceMul, Int.reduceSub, Int.reduceNeg, Int.reduceLT, Int.reduceLE, Int.reduceEq, Int.reduceNe, Int.reduceToNat, Nat.reduceAdd, Nat.reduceMul, Nat.reduceSub, Nat.reduceLeDiff, Nat.reduceLT, Nat.reduceEqDiff, reduceIte, Nat.zero_le, Nat.le_refl, Nat.add_zero, Nat.zero_add, twT hT, twV hV]
    (try refine ⟨fun _ => ?_, fun h9 => (by exfalso; omega)⟩)
    exact tw_fallFrom_3 (l6 := none) hT hs (v 540 (13 + s)).toNat v gn hV hE hW (by omega) (by omega) hQ
  | succ n ih =>
    intro v p gn hV hE hW hc h0 h1 h2 h3 hQ
    have hA := hE.1
    unfold ffL at hQ
    have q : 0 ≤ p - gn ∧ p - gn < v 540 (13 + s) := by omega
    have he := hA.2.2.2.2.2.2 (16 + 10 * s + (p - gn)) (by omega) (by omega)
    refine jW_step ?_
    simp (disch := (first | decide | omega)) only [bX2_fallFrom, jxs, hps, jtsw, jlsw, List.length_cons, List.length_nil, true_and, and_true, true_implies, false_implies, implies_true, not_true_eq_false, not_false_eq_true, false_and, and_false, if_true, if_false, or_true, true_or, or_false, false_or, Classical.not_not, and_self, Int.reduceAdd, Int.reduceMul, Int.reduceSub, Int.reduceNeg, Int.reduceLT, Int.reduceLE, Int.reduceEq, Int.reduceNe, Int.reduceToNat, Nat.reduceAdd, Nat.reduceMul, Nat.reduceSub, Nat.reduceLeDiff, Nat.reduceLT, Nat.reduceEqDiff, reduceIte, Nat.zero_le, Nat.le_refl, Nat.add_zero, Nat.zero_add, twT hT, twV hV]
    (first | refine ⟨fun h9 => (by exfalso; omega), fun _ => ?_⟩ | intro _)
    (first | refine ⟨fun h9 => (by exfalso; omega), fun _ => ?_⟩ | intro _)
    (repeat (refine And.intro (by (first | omega | assumption | trivial | (simp only [inI]; omega) | (simp only [inL]; omega) | (refine jb_01) | (exact jb_in))) ?_))
    refine ⟨0, 0, ⟨by omega, by omega⟩, tw_bookAt hT (by (first | assumption | (repeat (first | assumption | refine PV.A ?_ (by decide) | refine PV.F ?_ ?_ | refine twR.up ?_ (by decide) | refine PV.r ?_)))) (by (first | omega | assumption | trivial | (simp only [inI]; omega) | (simp only [inL]; omega) | (refine jb_01) | (exact jb_in))) ?_⟩
    simp (disch := (first | decide | omega)) only [jxs, hps, jtsw, jlsw, List.length_cons, List.length_nil, true_and, and_true, true_implies, false_implies, implies_true, not_true_eq_false, not_false_eq_true, false_and, and_false, if_true, if_false, or_true, true_or, or_false, false_or, Classical.not_not, and_self, Int.reduceAdd, Int.reduceMul, Int.reduceSub, Int.reduceNeg, Int.reduceLT, Int.reduceLE, Int.reduceEq, Int.reduceNe, Int.reduceToNat, Nat.reduceAdd, Nat.reduceMul, Nat.reduceSub, Nat.reduceLeDiff, Nat.reduceLT, Nat.reduceEqDiff, reduceIte, Nat.zero_le, Nat.le_refl, Nat.add_zero, Nat.zero_add, twT hT, twV hV]
    (repeat (refine And.intro (by (first | omega | assumption | trivial | (simp only [inI]; omega) | (simp only [inL]; omega) | (refine jb_01) | (exact jb_in))) ?_))
    refine ⟨0, 0, ⟨by omega, by omega⟩, tw_isFalling hT hV ⟨hE, ⟨hk, hc⟩, by omega, by omega, by omega, by omega⟩ ?_⟩
    intro w hw2 h01
    have hE2 := hw2.te hE
    have hV := hw2.pv hV
    have ea := hw2.a
    have ex := hw2.x
    simp (disch := (first | decide | omega)) only [jxs, hps, jtsw, jlsw, List.length_cons, List.length_nil, true_and, and_true, true_implies, false_implies, implies_true, not_true_eq_false, not_false_eq_true, false_and, and_false, if_true, if_false, or_true, true_or, or_false, false_or, Classical.not_not, and_self, Int.reduceAdd, Int.reduceMul, Int.reduceSub, Int.reduceNeg, Int.reduceLT, Int.reduceLE, Int.reduceEq, Int.reduceNe, Int.reduceToNat, Nat.reduceAdd, Nat.reduceMul, Nat.reduceSub, Nat.reduceLeDiff, Nat.reduceLT, Nat.reduceEqDiff, reduceIte, Nat.zero_le, Nat.le_refl, Nat.add_zero, Nat.zero_add, twT hT, twV hV]
    refine ⟨fun h => ?_, fun h => ?_⟩
    · rw [if_neg h] at hQ
      (repeat (refine And.intro (by (first | omega | assumption | trivial | (simp only [inI]; omega) | (simp only [inL]; omega) | (refine jb_01) | (exact jb_in))) ?_))
      refine ⟨0, 0, ⟨by omega, by omega⟩, tw_pull hT hV (by rw [ea]; omega) ?_⟩
      rw [ea]
      simp (disch := (first | decide | omega)) only [jxs, hps, jtsw, jlsw, List.length_cons, List.length_nil, true_and, and_true, true_implies, false_implies, implies_true, not_true_eq_false, not_false_eq_true, false_and, and_false, if_true, if_false, or_true, true_or, or_false, false_or, Classical.not_not, and_self, Int.reduceAdd, Int.reduceMul, Int.reduceSub, Int.reduceNeg, Int.reduceLT, Int.reduceLE, Int.reduceEq, Int.reduceNe, Int.reduceToNat, Nat.reduceAdd, Nat.reduceMul, Nat.reduceSub, Nat.reduceLeDiff, Nat.reduceLT, Nat.reduceEqDiff, reduceIte, Nat.zero_le, Nat.le_refl, Nat.add_zero, Nat.zero_add, twT hT, twV hV]
      (repeat (refine And.intro (by (first | omega | assumption | trivial | (simp only [inI]; omega) | (simp only [inL]; omega) | (refine jb_01) | (exact jb_in))) ?_))
      refine jW_step ?_
      simp (disch := (first | decide | omega)) only [bX2_fallFrom, jxs, hps, jtsw, jlsw, List.length_cons, List.length_nil, true_and, and_true, true_implies, false_implies, implies_true, not_true_eq_false, not_false_eq_true, false_and, and_false, if_true, if_false, or_true, true_or, or_false, false_or, Classical.not_not, and_self, Int.reduceAdd, Int.reduceMul, Int.reduceSub, Int.reduceNeg, Int.reduceLT, Int.reduceLE, Int.reduceEq, Int.reduceNe, Int.reduceToNat, Nat.reduceAdd, Nat.reduceMul, Nat.reduceSub, Nat.reduceLeDiff, Nat.reduceLT, Nat.reduceEqDiff, reduceIte, Nat.zero_le, Nat.le_refl, Nat.add_zero, Nat.zero_add, twT hT, twV hV]
      (repeat (refine And.intro (by (first | omega | assumption | trivial | (simp only [inI]; omega) | (simp only [inL]; omega) | (refine jb_01) | (exact jb_in))) ?_))
      refine ih _ (p + 1) (gn + 1) (by (first | assumption | (repeat (first | assumption | refine PV.A ?_ (by decide) | refine PV.F ?_ ?_ | refine twR.up ?_ (by decide) | refine PV.r ?_)))) ?_ ?_ ?_ (by omega) (by omega) (by omega) ?_ ?_
      · exact (hw2.ka.up).te hE (hA.pull hs q (by omega)) ((FR.pull hA hs q) 5 (by omega))
      · rw [upA_eq]; exact (FR.pull hA hs q).tw hW
      · rw [upA_eq, upA_ne (by omega), ex, clA_fr (FR.pull hA hs q)]; exact hc
      · rw [upA_eq, pullA_m hA hs q]; omega
      · rw [upA_eq, upA_ne (by omega), ex]
        intro u hu
        exact hQ u ((hw2.ka.up).tr hu)
    · rw [if_pos h] at hQ
      refine jW_step ?_
      simp (disch := (first | decide | omega)) only [bX2_fallFrom, jxs, hps, jtsw, jlsw, List.length_cons, List.length_nil, true_and, and_true, true_implies, false_implies, implies_true, not_true_eq_false, not_false_eq_true, false_and, and_false, if_true, if_false, or_true, true_or, or_false, false_or, Classical.not_not, and_self, Int.reduceAdd, Int.reduceMul, Int.reduceSub, Int.reduceNeg, Int.reduceLT, Int.reduceLE, Int.reduceEq, Int.reduceNe, Int.reduceToNat, Nat.reduceAdd, Nat.reduceMul, Nat.reduceSub, Nat.reduceLeDiff, Nat.reduceLT, Nat.reduceEqDiff, reduceIte, Nat.zero_le, Nat.le_refl, Nat.add_zero, Nat.zero_add, twT hT, twV hV]
      (repeat (refine And.intro (by (first | omega | assumption | trivial | (simp only [inI]; omega) | (simp only [inL]; omega) | (refine jb_01) | (exact jb_in))) ?_))
      refine ih w (p + 1) gn hV hE2 (by rw [ea]; exact hW) (by rw [ea, ex]; exact hc) (by omega) (by omega) (by omega) (by rw [ea]; exact h3) ?_
      rw [ea, ex]
      intro u hu
      exact hQ u (hw2.ka.tr hu)
theorem tw_fallFrom {v : Int → Int → Int} {s : Int} (hT : PT T) (hV : PV v) (hS : TE v ∧ TW (v 540) ∧ (0 ≤ s ∧ s < 3)) (hQ : ∀ w, jka v (ffA (v 540) (v 542) s).1 w → Q (.inl (some (vI (ffA (v 540) (v 542) s).2))) (w, T)) : jmet g (d + 6) 0 0 MX2_fallFrom [vR 539, vI s] (v, T) Q := by
  obtain ⟨hE, hW, hs⟩ := hS
  have hm := hE.1.2.2.2.2.2.1 (13 + s) (by omega) (by omega)
  refine jmet_of (ls := [some (vR 539), some (vI s), none, none, none, none]) sX2_fallFrom rfl (by decide +kernel) (by decide) rfl (by simp [jent]) ?_
  unfold ffA ff1 at hQ
  refine jW_step ?_
  simp (disch := (first | decide | omega)) only [bX2_fallFrom, jxs, hps, jtsw, jlsw, List.length_cons, List.length_nil, true_and, and_true, true_implies, false_implies, implies_true, not_true_eq_false, not_false_eq_true, false_and, and_false, if_true, if_false, or_true, true_or, or_false, false_or, Classical.not_not, and_self, Int.reduceAdd, Int.reduceMul, Int.reduceSub, Int.reduceNeg, Int.reduceLT, Int.reduceLE, Int.reduceEq, Int.reduceNe, Int.reduceToNat, Nat.reduceAdd, Nat.reduceMul, Nat.reduceSub, Nat.reduceLeDiff, Nat.reduceLT, Nat.reduceEqDiff, reduceIte, Nat.zero_le, Nat.le_refl, Nat.add_zero, Nat.zero_add, twT hT, twV hV]
  (repeat (refine And.intro (by (first | omega | assumption | trivial | (simp only [inI]; omega) | (simp only [inL]; omega) | (refine jb_01) | (exact jb_in))) ?_))
  refine ⟨0, 0, ⟨by omega, by omega⟩, tw_clauseOf hT (by (first | assumption | (repeat (first | assumption | refine PV.A ?_ (by decide) | refine PV.F ?_ ?_ | refine twR.up ?_ (by decide) | refine PV.r ?_)))) (by (first | omega | assumption | trivial | (simp only [inI]; omega) | (simp only [inL]; omega) | (refine jb_01) | (exact jb_in))) ?_⟩
  simp (disch := (first | decide | omega)) only [jxs, hps, jtsw, jlsw, List.length_cons, List.length_nil, true_and, and_true, true_implies, false_implies, implies_true, not_true_eq_false, not_false_eq_true, false_and, and_false, if_true, if_false, or_true, true_or, or_false, false_or, Classical.not_not, and_self, Int.reduceAdd, Int.reduceMul, Int.reduceSub, Int.reduceNeg, Int.reduceLT, Int.reduceLE, Int.reduceEq, Int.reduceNe, Int.reduceToNat, Nat.reduceAdd, Nat.reduceMul, Nat.reduceSub, Nat.reduceLeDiff, Nat.reduceLT, Nat.reduceEqDiff, reduceIte, Nat.zero_le, Nat.le_refl, Nat.add_zero, Nat.zero_add, twT hT, twV hV]
  (repeat (refine And.intro (by (first | omega | assumption | trivial | (simp only [inI]; omega) | (simp only [inL]; omega) | (refine jb_01) | (exact jb_in))) ?_))
  by_cases hk : clA (v 540) (v 542) 1 0 < 0
  · rw [if_pos hk] at hQ
    dsimp only at hQ
    refine jW_step ?_
    simp (disch := (first | decide | omega)) only [bX2_fallFrom, jxs, hps, jtsw, jlsw, List.length_cons, List.length_nil, true_and, and_true, true_implies, false_implies, implies_true, not_true_eq_false, not_false_eq_true, false_and, and_false, if_true, if_false, or_true, true_or, or_false, false_or, Classical.not_not, and_self, Int.reduceAdd, Int.reduceMul, Int.reduceSub, Int.reduceNeg, Int.reduceLT, Int.reduceLE, Int.reduceEq, Int.reduceNe, Int.reduceToNat, Nat.reduceAdd, Nat.reduceMul, Nat.reduceSub, Nat.reduceLeDiff, Nat.reduceLT, Nat.reduceEqDiff, reduceIte, Nat.zero_le, Nat.le_refl, Nat.add_zero, Nat.zero_add, twT hT, twV hV]
    have fin := tw_fallFrom_3 (g := g) (d := d) (T := T) (Q := Q) (k := clA (v 540) (v 542) 1 0) (m := v 540 (13 + s)) (p := 0) (l6 := none) hT hs (v 540 (13 + s)).toNat v 0 hV hE hW (by omega) (by omega) hQ
    refine ⟨fun h => ?_, fun h => ?_⟩
    · exact fin
    · (try refine ⟨fun _ => ?_, fun h9 => (by exfalso; omega)⟩)
      exact fin
  · rw [if_neg hk] at hQ
    exact tw_fallFrom_1 hT hs (by omega) hm _ v 0 0 hV hE hW rfl (by omega) (by omega) (by omega) (by omega) hQ
theorem tw_fall {v : Int → Int → Int} (hT : PT T) (hV : PV v) (hS : TE v ∧ TW (v 540)) (hQ : ∀ w, jka v (fallA (v 540) (v 542)).1 w → Q (.inl (some (vI (fallA (v 540) (v 542)).2))) (w, T)) : jmet g (d + 7) 0 0 MX2_fall [vR 539] (v, T) Q := by
  obtain ⟨hE, hW⟩ := hS
  have k0 := ffA_ok (X := v 542) (s := 0) hE.1 (by omega)
  have k1 := ffA_ok (X := v 542) (s := 1) k0.1 (by omega)
  have k2 := ffA_ok (X := v 542) (s := 2) k1.1 (by omega)
  refine jmet_of (ls := [some (vR 539), none, none]) sX2_fall rfl (by decide +kernel) (by decide) rfl (by simp [jent]) ?_
  refine jW_step ?_
  simp (disch := (first | decide | omega)) only [bX2_fall, jxs, hps, jtsw, jlsw, List.length_cons, List.length_nil, true_and, and_true, true_implies, false_implies, implies_true, not_true_eq_false, not_false_eq_true, false_and, and_false, if_true, if_false, or_true, true_or, or_false, false_or, Classical.not_not, and_self, Int.reduceAdd, Int.reduceMul, Int.reduceSub, Int.reduceNeg, Int.reduceLT, Int.reduceLE, Int.reduceEq, Int.reduceNe, Int.reduceToNat, Nat.reduceAdd, Nat.reduceMul, Nat.reduceSub, Nat.reduceLeDiff, Nat.reduceLT, Nat.reduceEqDiff, reduceIte, Nat.zero_le, Nat.le_refl, Nat.add_zero, Nat.zero_add, twT hT, twV hV]
  refine jW_step ?_
  simp (disch := (first | decide | omega)) only [bX2_fall, jxs, hps, jtsw, jlsw, List.length_cons, List.length_nil, true_and, and_true, true_implies, false_implies, implies_true, not_true_eq_false, not_false_eq_true, false_and, and_false, if_true, if_false, or_true, true_or, or_false, false_or, Classical.not_not, and_self, Int.reduceAdd, Int.reduceMul, Int.reduceSub, Int.reduceNeg, Int.reduceLT, Int.reduceLE, Int.reduceEq, Int.reduceNe, Int.reduceToNat, Nat.reduceAdd, Nat.reduceMul, Nat.reduceSub, Nat.reduceLeDiff, Nat.reduceLT, Nat.reduceEqDiff, reduceIte, Nat.zero_le, Nat.le_refl, Nat.add_zero, Nat.zero_add, twT hT, twV hV]
  (repeat (refine And.intro (by (first | omega | assumption | trivial | (simp only [inI]; omega) | (simp only [inL]; omega) | (refine jb_01) | (exact jb_in))) ?_))
  refine ⟨0, 0, ⟨by omega, by omega⟩, tw_fallFrom hT hV ⟨hE, hW, by omega, by omega⟩ ?_⟩
  intro w0 h0
  have hV0 := h0.pv hV
  have hE0 := h0.te hE k0.1 (k0.2.1 5 (by omega))
  have hW0 := k0.2.1.tw hW
  simp (disch := (first | decide | omega)) only [jxs, hps, jtsw, jlsw, List.length_cons, List.length_nil, true_and, and_true, true_implies, false_implies, implies_true, not_true_eq_false, not_false_eq_true, false_and, and_false, if_true, if_false, or_true, true_or, or_false, false_or, Classical.not_not, and_self, Int.reduceAdd, Int.reduceMul, Int.reduceSub, Int.reduceNeg, Int.reduceLT, Int.reduceLE, Int.reduceEq, Int.reduceNe, Int.reduceToNat, Nat.reduceAdd, Nat.reduceMul, Nat.reduceSub, Nat.reduceLeDiff, Nat.reduceLT, Nat.reduceEqDiff, reduceIte, Nat.zero_le, Nat.le_refl, Nat.add_zero, Nat.zero_add, twT hT, twV hV]
  (repeat (refine And.intro (by (first | omega | assumption | trivial | (simp only [inI]; omega) | (simp only [inL]; omega) | (refine jb_01) | (exact jb_in))) ?_))
  refine jW_step ?_
  simp (disch := (first | decide | omega)) only [bX2_fall, jxs, hps, jtsw, jlsw, List.length_cons, List.length_nil, true_and, and_true, true_implies, false_implies, implies_true, not_true_eq_false, not_false_eq_true, false_and, and_false, if_true, if_false, or_true, true_or, or_false, false_or, Classical.not_not, and_self, Int.reduceAdd, Int.reduceMul, Int.reduceSub, Int.reduceNeg, Int.reduceLT, Int.reduceLE, Int.reduceEq, Int.reduceNe, Int.reduceToNat, Nat.reduceAdd, Nat.reduceMul, Nat.reduceSub, Nat.reduceLeDiff, Nat.reduceLT, Nat.reduceEqDiff, reduceIte, Nat.zero_le, Nat.le_refl, Nat.add_zero, Nat.zero_add, twT hT, twV hV]
  (repeat (refine And.intro (by (first | omega | assumption | trivial | (simp only [inI]; omega) | (simp only [inL]; omega) | (refine jb_01) | (exact jb_in))) ?_))
  refine ⟨0, 0, ⟨by omega, by omega⟩, tw_fallFrom hT hV0 ⟨hE0, by rw [h0.a]; exact hW0, by omega, by omega⟩ ?_⟩
  rw [h0.a, h0.x]
  intro w1 h1
  have hV1 := h1.pv hV0
  have hE1 := h1.te hE0 k1.1 (by rw [h0.a]; exact k1.2.1 5 (by omega))
  have hW1 := k1.2.1.tw hW0
  simp (disch := (first | decide | omega)) only [jxs, hps, jtsw, jlsw, List.length_cons, List.length_nil, true_and, and_true, true_implies, false_implies, implies_true, not_true_eq_false, not_false_eq_true, false_and, and_false, if_true, if_false, or_true, true_or, or_false, false_or, Classical.not_not, and_self, Int.reduceAdd, Int.reduceMul, Int.reduceSub, Int.reduceNeg, Int.reduceLT, Int.reduceLE, Int.reduceEq, Int.reduceNe, Int.reduceToNat, Nat.reduceAdd, Nat.reduceMul, Nat.reduceSub, Nat.reduceLeDiff, Nat.reduceLT, Nat.reduceEqDiff, reduceIte, Nat.zero_le, Nat.le_refl, Nat.add_zero, Nat.zero_add, twT hT, twV hV]
  (repeat (refine And.intro (by (first | omega | assumption | trivial | (simp only [inI]; omega) | (simp only [inL]; omega) | (refine jb_01) | (exact jb_in))) ?_))
  refine jW_step ?_
  simp (disch := (first | decide | omega)) only [bX2_fall, jxs, hps, jtsw, jlsw, List.length_cons, List.length_nil, true_and, and_true, true_implies, false_implies, implies_true, not_true_eq_false, not_false_eq_true, false_and, and_false, if_true, if_false, or_true, true_or, or_false, false_or, Classical.not_not, and_self, Int.reduceAdd, Int.reduceMul, Int.reduceSub, Int.reduceNeg, Int.reduceLT, Int.reduceLE, Int.reduceEq, Int.reduceNe, Int.reduceToNat, Nat.reduceAdd, Nat.reduceMul, Nat.reduceSub, Nat.reduceLeDiff, Nat.reduceLT, Nat.reduceEqDiff, reduceIte, Nat.zero_le, Nat.le_refl, Nat.add_zero, Nat.zero_add, twT hT, twV hV]
  (repeat (refine And.intro (by (first | omega | assumption | trivial | (simp only [inI]; omega) | (simp only [inL]; omega) | (refine jb_01) | (exact jb_in))) ?_))
  refine ⟨0, 0, ⟨by omega, by omega⟩, tw_fallFrom hT hV1 ⟨hE1, by rw [h1.a]; exact hW1, by omega, by omega⟩ ?_⟩
  rw [h1.a, h1.x, h0.x]
  intro w2 h2
  simp (disch := (first | decide | omega)) only [jxs, hps, jtsw, jlsw, List.length_cons, List.length_nil, true_and, and_true, true_implies, false_implies, implies_true, not_true_eq_false, not_false_eq_true, false_and, and_false, if_true, if_false, or_true, true_or, or_false, false_or, Classical.not_not, and_self, Int.reduceAdd, Int.reduceMul, Int.reduceSub, Int.reduceNeg, Int.reduceLT, Int.reduceLE, Int.reduceEq, Int.reduceNe, Int.reduceToNat, Nat.reduceAdd, Nat.reduceMul, Nat.reduceSub, Nat.reduceLeDiff, Nat.reduceLT, Nat.reduceEqDiff, reduceIte, Nat.zero_le, Nat.le_refl, Nat.add_zero, Nat.zero_add, twT hT, twV hV]
  (repeat (refine And.intro (by (first | omega | assumption | trivial | (simp only [inI]; omega) | (simp only [inL]; omega) | (refine jb_01) | (exact jb_in))) ?_))
  refine jW_step ?_
  simp (disch := (first | decide | omega)) only [bX2_fall, jxs, hps, jtsw, jlsw, List.length_cons, List.length_nil, true_and, and_true, true_implies, false_implies, implies_true, not_true_eq_false, not_false_eq_true, false_and, and_false, if_true, if_false, or_true, true_or, or_false, false_or, Classical.not_not, and_self, Int.reduceAdd, Int.reduceMul, Int.reduceSub, Int.reduceNeg, Int.reduceLT, Int.reduceLE, Int.reduceEq, Int.reduceNe, Int.reduceToNat, Nat.reduceAdd, Nat.reduceMul, Nat.reduceSub, Nat.reduceLeDiff, Nat.reduceLT, Nat.reduceEqDiff, reduceIte, Nat.zero_le, Nat.le_refl, Nat.add_zero, Nat.zero_add, twT hT, twV hV]
  (repeat (refine And.intro (by (first | omega | assumption | trivial | (simp only [inI]; omega) | (simp only [inL]; omega) | (refine jb_01) | (exact jb_in))) ?_))
  have hq := hQ w2 ((h0.tr h1).tr h2)
  have e : (fallA (v 540) (v 542)).2 = 0 + (ffA (v 540) (v 542) 0).2 + (ffA (ffA (v 540) (v 542) 0).1 (v 542) 1).2 + (ffA (ffA (ffA (v 540) (v 542) 0).1 (v 542) 1).1 (v 542) 2).2 := by
    unfold fallA fall1 fall0
    dsimp only
    omega
  rw [e] at hq
  simp only [Int.zero_add] at hq ⊢
  exact hq
end TG
