/-! ===== the reference: two change; what falls ===== -/
set_option maxRecDepth 100000
theorem TB.of {A A' : Int → Int} (h : TB A) (h0 : A' 0 = A 0) (h2 : A' 2 = A 2) (h3 : A' 3 = A 3) (h5 : A' 5 = A 5) (h6 : A' 6 = A 6) (hm : ∀ i, 13 ≤ i → i < 16 → 0 ≤ A' i ∧ A' i ≤ 10) (hp : ∀ i, 16 ≤ i → i < 106 → 0 ≤ A' i ∧ A' i ≤ 9) : TB A' := by
  unfold TB at h ⊢
  rw [h0, h2, h3, h5, h6]
  exact ⟨h.1, h.2.1, h.2.2.1, h.2.2.2.1, h.2.2.2.2.1, hm, hp⟩
theorem pullA_hi {A : Int → Int} {s p to i : Int} (h : i < 13 ∨ 106 ≤ i) (hs : 0 ≤ s ∧ s < 3) (hp : 0 ≤ p) (hm : A (13 + s) ≤ 10) (hb : 0 ≤ A (16 + 10 * s + p) ∧ A (16 + 10 * s + p) < 10) : pullA A s p to i = A i := by
  unfold pullA shl
  rw [if_neg (by omega), up1_ne (by omega), up1_ne (by omega)]
theorem TB.pull {A : Int → Int} (h : TB A) {s p to : Int} (hs : 0 ≤ s ∧ s < 3) (hp : 0 ≤ p ∧ p < A (13 + s)) (ht : 0 ≤ to ∧ to ≤ 9) : TB (pullA A s p to) := by
  have hm := h.2.2.2.2.2.1
  have he := h.2.2.2.2.2.2
  have hms := hm (13 + s) (by omega) (by omega)
  have hb := he (16 + 10 * s + p) (by omega) (by omega)
  refine h.of (pullA_hi (by omega) hs hp.1 (by omega) (by omega)) (pullA_hi (by omega) hs hp.1 (by omega) (by omega)) (pullA_hi (by omega) hs hp.1 (by omega) (by omega)) (pullA_hi (by omega) hs hp.1 (by omega) (by omega)) (pullA_hi (by omega) hs hp.1 (by omega) (by omega)) ?_ ?_
  · intro i h1 h2
    unfold pullA shl
    rw [if_neg (by omega)]
    by_cases e : i = 13 + s
    · subst e; rw [up1_eq]; omega
    · rw [up1_ne e, up1_ne (by omega)]; exact hm i h1 h2
  · intro i h1 h2
    unfold pullA shl
    have key : ∀ j, 16 ≤ j → j < 106 → 0 ≤ up1 (up1 A (46 + 6 * A (16 + 10 * s + p) + 5) to) (13 + s) (A (13 + s) - 1) j ∧ up1 (up1 A (46 + 6 * A (16 + 10 * s + p) + 5) to) (13 + s) (A (13 + s) - 1) j ≤ 9 := by
      intro j h3 h4
      rw [up1_ne (by omega)]
      by_cases e : j = 46 + 6 * A (16 + 10 * s + p) + 5
      · subst e; rw [up1_eq]; exact ht
      · rw [up1_ne e]; exact he j h3 h4
    split
    · exact key _ (by omega) (by omega)
    · exact key _ h1 h2
theorem TB.set {A : Int → Int} (h : TB A) {b s p : Int} (hs : 0 ≤ s ∧ s < 3) (hp : 0 ≤ p ∧ p ≤ A (13 + s)) (hm9 : A (13 + s) < 10) (hb : 0 ≤ b ∧ b < 10) : TB (setA A b s p) := by
  have hm := h.2.2.2.2.2.1
  have he := h.2.2.2.2.2.2
  have lo : ∀ i, i < 13 → setA A b s p i = A i := by
    intro i hi
    unfold setA shr
    rw [up1_ne (by omega), up1_ne (by omega), up1_ne (by omega), if_neg (by omega)]
  refine h.of (lo 0 (by omega)) (lo 2 (by omega)) (lo 3 (by omega)) (lo 5 (by omega)) (lo 6 (by omega)) ?_ ?_
  · intro i h1 h2
    unfold setA shr
    rw [up1_ne (by omega)]
    by_cases e : i = 13 + s
    · subst e; rw [up1_eq]; have := hm (13 + s) h1 h2; omega
    · rw [up1_ne e, up1_ne (by omega), if_neg (by omega)]; exact hm i h1 h2
  · intro i h1 h2
    unfold setA shr
    by_cases e : i = 46 + 6 * b + 5
    · subst e; rw [up1_eq]; omega
    · rw [up1_ne e, up1_ne (by omega)]
      by_cases e2 : i = 16 + 10 * s + p
      · subst e2; rw [up1_eq]; omega
      · rw [up1_ne e2]
        split
        · exact he _ (by omega) (by omega)
        · exact he _ h1 h2
theorem TB.exc {A : Int → Int} (h : TB A) {s p : Int} (hs : 0 ≤ s ∧ s < 3) (hp : 0 ≤ p ∧ p < 9) : TB (excA A s p) := by
  have hm := h.2.2.2.2.2.1
  have he := h.2.2.2.2.2.2
  have lo : ∀ i, i < 16 → excA A s p i = A i := by
    intro i hi
    unfold excA
    rw [up1_ne (by omega), up1_ne (by omega)]
  refine h.of (lo 0 (by omega)) (lo 2 (by omega)) (lo 3 (by omega)) (lo 5 (by omega)) (lo 6 (by omega)) ?_ ?_
  · intro i h1 h2
    rw [lo i h2]; exact hm i h1 h2
  · intro i h1 h2
    unfold excA
    by_cases e : i = 16 + 10 * s + (p + 1)
    · subst e; rw [up1_eq]; exact he _ (by omega) (by omega)
    · rw [up1_ne e]
      by_cases e2 : i = 16 + 10 * s + p
      · subst e2; rw [up1_eq]; exact he _ (by omega) (by omega)
      · rw [up1_ne e2]; exact he _ h1 h2
theorem wriA_lo {A : Int → Int} {b o s i : Int} (h9 : 0 ≤ A 9) (h : i < 1594) (hn : ¬ i = 9) : wriA A b o s i = A i := by
  unfold wriA
  rw [up1_ne hn, up1_ne (by omega), up1_ne (by omega), up1_ne (by omega), up1_ne (by omega)]
theorem TB.wri {A : Int → Int} (h : TB A) {b o s : Int} (h9 : 0 ≤ A 9) : TB (wriA A b o s) := by
  refine h.of (wriA_lo h9 (by omega) (by omega)) (wriA_lo h9 (by omega) (by omega)) (wriA_lo h9 (by omega) (by omega)) (wriA_lo h9 (by omega) (by omega)) (wriA_lo h9 (by omega) (by omega)) ?_ ?_
  · intro i h1 h2
    rw [wriA_lo h9 (by omega) (by omega)]; exact h.2.2.2.2.2.1 i h1 h2
  · intro i h1 h2
    rw [wriA_lo h9 (by omega) (by omega)]; exact h.2.2.2.2.2.2 i h1 h2
/-- the array a has become A', else only what is worked with differs -/
def jka (v : Int → Int → Int) (A' : Int → Int) (w : Int → Int → Int) : Prop := w 540 = A' ∧ ∀ a, a ≠ 540 → a ≠ 545 → a ≠ 546 → a ≠ 547 → w a = v a
theorem jk.ka {v w : Int → Int → Int} (h : jk v w) : jka v (v 540) w := ⟨h.a, fun a _ h2 h3 h4 => h a h2 h3 h4⟩
theorem jka.pv {v w : Int → Int → Int} {A' : Int → Int} (h : jka v A' w) (hV : PV v) : PV w := hV.fr (fun a ha => h.2 a (fun e => by subst e; revert ha; decide) (fun e => by subst e; revert ha; decide) (fun e => by subst e; revert ha; decide) (fun e => by subst e; revert ha; decide))
theorem jka.a {v w : Int → Int → Int} {A' : Int → Int} (h : jka v A' w) : w 540 = A' := h.1
theorem jka.x {v w : Int → Int → Int} {A' : Int → Int} (h : jka v A' w) : w 542 = v 542 := h.2 542 (by omega) (by omega) (by omega) (by omega)
theorem jka.o {v w : Int → Int → Int} {A' : Int → Int} (h : jka v A' w) : w 539 = v 539 := h.2 539 (by omega) (by omega) (by omega) (by omega)
theorem jka.tr {u v w : Int → Int → Int} {A' A'' : Int → Int} (h : jka u A' v) (h2 : jka v A'' w) : jka u A'' w := ⟨h2.1, fun a h3 h4 h5 h6 => (h2.2 a h3 h4 h5 h6).trans (h.2 a h3 h4 h5 h6)⟩
theorem jka.k {u v w : Int → Int → Int} {A' : Int → Int} (h : jka u A' v) (h2 : jk v w) : jka u A' w := ⟨h2.a.trans h.1, fun a h3 h4 h5 h6 => (h2 a h4 h5 h6).trans (h.2 a h3 h4 h5 h6)⟩
theorem jka.up {u v : Int → Int → Int} {A' A'' : Int → Int} (h : jka u A' v) : jka u A'' (upA v 540 A'') := ⟨upA_eq, fun a h3 h4 h5 h6 => (upA_ne h3).trans (h.2 a h3 h4 h5 h6)⟩
theorem jka.te {v w : Int → Int → Int} {A' : Int → Int} (h : jka v A' w) (hE : TE v) (hB : TB A') (h5 : A' 5 = v 540 5) : TE w := by
  unfold TE
  rw [h.a, h.x, h5]
  exact ⟨hB, hE.2⟩
theorem jka.rf {v : Int → Int → Int} : jka v (v 540) v := ⟨rfl, fun _ _ _ _ _ => rfl⟩
/-- two at a place -/
def chW1 (A X : Int → Int) (s l r : Int) : Int → Int := if dpA A X l r 1 = 0 then A else wriA A l r s
def chW (A X : Int → Int) (s l r : Int) : Int → Int := if dpA (chW1 A X s l r) X r l 0 = 0 then chW1 A X s l r else wriA (chW1 A X s l r) r l s
def chA (A X : Int → Int) (s p : Int) : Int → Int := if dcA A X (A (16 + 10 * s + p)) (A (16 + 10 * s + (p + 1))) = 0 then A else excA (chW A X s (A (16 + 10 * s + p)) (A (16 + 10 * s + (p + 1)))) s p
def chN (A X : Int → Int) (s p : Int) : Int := if dcA A X (A (16 + 10 * s + p)) (A (16 + 10 * s + (p + 1))) = 0 then 0 else 1
theorem chW1_TB {A X : Int → Int} {s l r : Int} (h : TB A) (h9 : 0 ≤ A 9) : TB (chW1 A X s l r) := by
  unfold chW1; split
  · exact h
  · exact h.wri h9
theorem chW1_9 {A X : Int → Int} {s l r : Int} : A 9 ≤ chW1 A X s l r 9 ∧ chW1 A X s l r 9 ≤ A 9 + 1 := by
  unfold chW1; split
  · omega
  · unfold wriA; rw [up1_eq]; omega
theorem chW1_lo {A X : Int → Int} {s l r i : Int} (h9 : 0 ≤ A 9) (h : i < 1594) (hn : ¬ i = 9) : chW1 A X s l r i = A i := by
  unfold chW1; split
  · rfl
  · exact wriA_lo h9 h hn
theorem chW_TB {A X : Int → Int} {s l r : Int} (h : TB A) (h9 : 0 ≤ A 9) : TB (chW A X s l r) := by
  have := chW1_9 (A := A) (X := X) (s := s) (l := l) (r := r)
  unfold chW; split
  · exact chW1_TB h h9
  · exact (chW1_TB h h9).wri (by omega)
theorem chW_9 {A X : Int → Int} {s l r : Int} : A 9 ≤ chW A X s l r 9 ∧ chW A X s l r 9 ≤ A 9 + 2 := by
  have := chW1_9 (A := A) (X := X) (s := s) (l := l) (r := r)
  unfold chW; split
  · omega
  · unfold wriA; rw [up1_eq]; omega
theorem chW_lo {A X : Int → Int} {s l r i : Int} (h9 : 0 ≤ A 9) (h : i < 1594) (hn : ¬ i = 9) : chW A X s l r i = A i := by
  have := chW1_9 (A := A) (X := X) (s := s) (l := l) (r := r)
  unfold chW; split
  · exact chW1_lo h9 h hn
  · rw [wriA_lo (by omega) h hn, chW1_lo h9 h hn]
theorem chA_TB {A X : Int → Int} {s p : Int} (h : TB A) (h9 : 0 ≤ A 9) (hs : 0 ≤ s ∧ s < 3) (hp : 0 ≤ p ∧ p < 9) : TB (chA A X s p) := by
  unfold chA; split
  · exact h
  · exact (chW_TB h h9).exc hs hp
theorem chA_lo {A X : Int → Int} {s p i : Int} (h9 : 0 ≤ A 9) (hs : 0 ≤ s ∧ s < 3) (hp : 0 ≤ p ∧ p < 9) (hi : i < 16 ∨ (46 ≤ i ∧ i < 1594)) (hn : ¬ i = 9) : chA A X s p i = A i := by
  unfold chA; split
  · rfl
  · unfold excA; rw [up1_ne (by omega), up1_ne (by omega), chW_lo h9 (by omega) hn]
theorem chA_9 {A X : Int → Int} {s p : Int} (hs : 0 ≤ s ∧ s < 3) (hp : 0 ≤ p ∧ p < 9) : A 9 ≤ chA A X s p 9 ∧ chA A X s p 9 ≤ A 9 + 2 := by
  unfold chA; split
  · omega
  · unfold excA; rw [up1_ne (by omega), up1_ne (by omega)]; exact chW_9
section TG
variable {g : jjG} {d : Nat} {T : jjT} {Q : jjQ}
theorem tw_changeAt {v : Int → Int → Int} {s p : Int} (hT : PT T) (hV : PV v) (hS : TE v ∧ (0 ≤ s ∧ s < 3) ∧ (0 ≤ p ∧ p < 9) ∧ (0 ≤ v 540 9 ∧ v 540 9 < 900000)) (hQ : ∀ w, jka v (chA (v 540) (v 542) s p) w → Q (.inl (some (vI (chN (v 540) (v 542) s p)))) (w, T)) : jmet g (d + 7) 0 0 MX2_changeAt [vR 539, vI s, vI p] (v, T) Q := by
  obtain ⟨hE, hs, hp, h9⟩ := hS
  have hA := hE.1
  have hl := hA.2.2.2.2.2.2 (16 + 10 * s + p) (by omega) (by omega)
  have hr := hA.2.2.2.2.2.2 (16 + 10 * s + (p + 1)) (by omega) (by omega)
  refine jmet_of (ls := [some (vR 539), some (vI s), some (vI p), none, none]) sX2_changeAt rfl (by decide +kernel) (by decide) rfl (by simp [jent]) ?_
  refine jW_step ?_
  simp (disch := (first | decide | omega)) only [bX2_changeAt, jxs, hps, jtsw, jlsw, List.length_cons, List.length_nil, true_and, and_true, true_implies, false_implies, implies_true, not_true_eq_false, not_false_eq_true, false_and, and_false, if_true, if_false, or_true, true_or, or_false, false_or, Classical.not_not, and_self, Int.reduceAdd, Int.reduceMul, Int.reduceSub, Int.reduceNeg, Int.reduceLT, Int.reduceLE, Int.reduceEq, Int.reduceNe, Int.reduceToNat, Nat.reduceAdd, Nat.reduceMul, Nat.reduceSub, Nat.reduceLeDiff, Nat.reduceLT, Nat.reduceEqDiff, reduceIte, Nat.zero_le, Nat.le_refl, Nat.add_zero, Nat.zero_add, twT hT, twV hV]
  (repeat (refine And.intro (by (first | omega | assumption | trivial | (simp only [inI]; omega) | (simp only [inL]; omega) | (refine jb_01) | (exact jb_in))) ?_))
  refine ⟨0, 0, ⟨by omega, by omega⟩, tw_bookAt hT (by (first | assumption | (repeat (first | assumption | refine PV.A ?_ (by decide) | refine PV.F ?_ ?_ | refine twR.up ?_ (by decide) | refine PV.r ?_)))) (by (first | omega | assumption | trivial | (simp only [inI]; omega) | (simp only [inL]; omega) | (refine jb_01) | (exact jb_in))) ?_⟩
  simp (disch := (first | decide | omega)) only [jxs, hps, jtsw, jlsw, List.length_cons, List.length_nil, true_and, and_true, true_implies, false_implies, implies_true, not_true_eq_false, not_false_eq_true, false_and, and_false, if_true, if_false, or_true, true_or, or_false, false_or, Classical.not_not, and_self, Int.reduceAdd, Int.reduceMul, Int.reduceSub, Int.reduceNeg, Int.reduceLT, Int.reduceLE, Int.reduceEq, Int.reduceNe, Int.reduceToNat, Nat.reduceAdd, Nat.reduceMul, Nat.reduceSub, Nat.reduceLeDiff, Nat.reduceLT, Nat.reduceEqDiff, reduceIte, Nat.zero_le, Nat.le_refl, Nat.add_zero, Nat.zero_add, twT hT, twV hV]
  (repeat (refine And.intro (by (first | omega | assumption | trivial | (simp only [inI]; omega) | (simp only [inL]; omega) | (refine jb_01) | (exact jb_in))) ?_))
  refine ⟨0, 0, ⟨by omega, by omega⟩, tw_bookAt hT (by (first | assumption | (repeat (first | assumption | refine PV.A ?_ (by decide) | refine PV.F ?_ ?_ | refine twR.up ?_ (by decide) | refine PV.r ?_)))) (by (first | omega | assumption | trivial | (simp only [inI]; omega) | (simp only [inL]; omega) | (refine jb_01) | (exact jb_in))) ?_⟩
  simp (disch := (first | decide | omega)) only [jxs, hps, jtsw, jlsw, List.length_cons, List.length_nil, true_and, and_true, true_implies, false_implies, implies_true, not_true_eq_false, not_false_eq_true, false_and, and_false, if_true, if_false, or_true, true_or, or_false, false_or, Classical.not_not, and_self, Int.reduceAdd, Int.reduceMul, Int.reduceSub, Int.reduceNeg, Int.reduceLT, Int.reduceLE, Int.reduceEq, Int.reduceNe, Int.reduceToNat, Nat.reduceAdd, Nat.reduceMul, Nat.reduceSub, Nat.reduceLeDiff, Nat.reduceLT, Nat.reduceEqDiff, reduceIte, Nat.zero_le, Nat.le_refl, Nat.add_zero, Nat.zero_add, twT hT, twV hV]
  (repeat (refine And.intro (by (first | omega | assumption | trivial | (simp only [inI]; omega) | (simp only [inL]; omega) | (refine jb_01) | (exact jb_in))) ?_))
  have e : chN (v 540) (v 542) s p = (if dcA (v 540) (v 542) (v 540 (16 + 10 * s + p)) (v 540 (16 + 10 * s + (p + 1))) = 0 then 0 else 1) := rfl
  have e' : chA (v 540) (v 542) s p = (if dcA (v 540) (v 542) (v 540 (16 + 10 * s + p)) (v 540 (16 + 10 * s + (p + 1))) = 0 then v 540 else excA (chW (v 540) (v 542) s (v 540 (16 + 10 * s + p)) (v 540 (16 + 10 * s + (p + 1)))) s p) := rfl
  rw [e, e'] at hQ
  generalize v 540 (16 + 10 * s + p) = l at *
  generalize v 540 (16 + 10 * s + (p + 1)) = r at *
  have w1 := chW1_9 (A := v 540) (X := v 542) (s := s) (l := l) (r := r)
  have w2 := chW_9 (A := v 540) (X := v 542) (s := s) (l := l) (r := r)
  have hB1 := chW1_TB (A := v 540) (X := v 542) (s := s) (l := l) (r := r) hA h9.1
  have hB2 := chW_TB (A := v 540) (X := v 542) (s := s) (l := l) (r := r) hA h9.1
  have f5 := chW1_lo (A := v 540) (X := v 542) (s := s) (l := l) (r := r) (i := 5) h9.1 (by omega) (by omega)
  refine ⟨0, 0, ⟨by omega, by omega⟩, tw_doChange hT hV ⟨hE, by omega, by omega⟩ ?_⟩
  intro w hw
  by_cases hd : dcA (v 540) (v 542) l r = 0
  · rw [if_pos hd, if_pos hd] at hQ
    simp (disch := (first | decide | omega)) only [jxs, hps, jtsw, jlsw, List.length_cons, List.length_nil, true_and, and_true, true_implies, false_implies, implies_true, not_true_eq_false, not_false_eq_true, false_and, and_false, if_true, if_false, or_true, true_or, or_false, false_or, Classical.not_not, and_self, Int.reduceAdd, Int.reduceMul, Int.reduceSub, Int.reduceNeg, Int.reduceLT, Int.reduceLE, Int.reduceEq, Int.reduceNe, Int.reduceToNat, Nat.reduceAdd, Nat.reduceMul, Nat.reduceSub, Nat.reduceLeDiff, Nat.reduceLT, Nat.reduceEqDiff, reduceIte, Nat.zero_le, Nat.le_refl, Nat.add_zero, Nat.zero_add, twT hT, twV hV, hd]
    (repeat (refine And.intro (by (first | omega | assumption | trivial | (simp only [inI]; omega) | (simp only [inL]; omega) | (refine jb_01) | (exact jb_in))) ?_))
    exact hQ w hw.ka
  · rw [if_neg hd, if_neg hd] at hQ
    have k2 : ∀ u, jka v (chW (v 540) (v 542) s l r) u → jW bX2_changeAt (g, d + 6, 0, 0, Q) 2 [some (vR 539), some (vI s), some (vI p), some (vI l), some (vI r)] [] (u, T) 0 0 := by
      intro u hu
      have hV := hu.pv hV
      refine jW_step ?_
      simp (disch := (first | decide | omega)) only [bX2_changeAt, jxs, hps, jtsw, jlsw, List.length_cons, List.length_nil, true_and, and_true, true_implies, false_implies, implies_true, not_true_eq_false, not_false_eq_true, false_and, and_false, if_true, if_false, or_true, true_or, or_false, false_or, Classical.not_not, and_self, Int.reduceAdd, Int.reduceMul, Int.reduceSub, Int.reduceNeg, Int.reduceLT, Int.reduceLE, Int.reduceEq, Int.reduceNe, Int.reduceToNat, Nat.reduceAdd, Nat.reduceMul, Nat.reduceSub, Nat.reduceLeDiff, Nat.reduceLT, Nat.reduceEqDiff, reduceIte, Nat.zero_le, Nat.le_refl, Nat.add_zero, Nat.zero_add, twT hT, twV hV]
      (repeat (refine And.intro (by (first | omega | assumption | trivial | (simp only [inI]; omega) | (simp only [inL]; omega) | (refine jb_01) | (exact jb_in))) ?_))
      refine ⟨0, 0, ⟨by omega, by omega⟩, tw_exchange hT hV ⟨by omega, by omega, by omega, by omega⟩ ?_⟩
      simp (disch := (first | decide | omega)) only [jxs, hps, jtsw, jlsw, List.length_cons, List.length_nil, true_and, and_true, true_implies, false_implies, implies_true, not_true_eq_false, not_false_eq_true, false_and, and_false, if_true, if_false, or_true, true_or, or_false, false_or, Classical.not_not, and_self, Int.reduceAdd, Int.reduceMul, Int.reduceSub, Int.reduceNeg, Int.reduceLT, Int.reduceLE, Int.reduceEq, Int.reduceNe, Int.reduceToNat, Nat.reduceAdd, Nat.reduceMul, Nat.reduceSub, Nat.reduceLeDiff, Nat.reduceLT, Nat.reduceEqDiff, reduceIte, Nat.zero_le, Nat.le_refl, Nat.add_zero, Nat.zero_add, twT hT, twV hV]
      (repeat (refine And.intro (by (first | omega | assumption | trivial | (simp only [inI]; omega) | (simp only [inL]; omega) | (refine jb_01) | (exact jb_in))) ?_))
      rw [hu.a]
      exact hQ _ hu.up
    have k1 : ∀ u, jka v (chW1 (v 540) (v 542) s l r) u → jW bX2_changeAt (g, d + 6, 0, 0, Q) 1 [some (vR 539), some (vI s), some (vI p), some (vI l), some (vI r)] [] (u, T) 0 0 := by
      intro u hu
      have hV := hu.pv hV
      have hE := hu.te hE hB1 f5
      have ea := hu.a
      have ex := hu.x
      refine jW_step ?_
      simp (disch := (first | decide | omega)) only [bX2_changeAt, jxs, hps, jtsw, jlsw, List.length_cons, List.length_nil, true_and, and_true, true_implies, false_implies, implies_true, not_true_eq_false, not_false_eq_true, false_and, and_false, if_true, if_false, or_true, true_or, or_false, false_or, Classical.not_not, and_self, Int.reduceAdd, Int.reduceMul, Int.reduceSub, Int.reduceNeg, Int.reduceLT, Int.reduceLE, Int.reduceEq, Int.reduceNe, Int.reduceToNat, Nat.reduceAdd, Nat.reduceMul, Nat.reduceSub, Nat.reduceLeDiff, Nat.reduceLT, Nat.reduceEqDiff, reduceIte, Nat.zero_le, Nat.le_refl, Nat.add_zero, Nat.zero_add, twT hT, twV hV]
      (repeat (refine And.intro (by (first | omega | assumption | trivial | (simp only [inI]; omega) | (simp only [inL]; omega) | (refine jb_01) | (exact jb_in))) ?_))
      refine ⟨0, 0, ⟨by omega, by omega⟩, tw_doesPush hT hV ⟨hE, by omega, by omega, by omega, by omega⟩ ?_⟩
      intro y hy
      rw [ea, ex]
      have ew : chW (v 540) (v 542) s l r = (if dpA (chW1 (v 540) (v 542) s l r) (v 542) r l 0 = 0 then chW1 (v 540) (v 542) s l r else wriA (chW1 (v 540) (v 542) s l r) r l s) := rfl
      have hVy := hy.pv hV
      have eya : y 540 = chW1 (v 540) (v 542) s l r := hy.a.trans ea
      simp (disch := (first | decide | omega)) only [jxs, hps, jtsw, jlsw, List.length_cons, List.length_nil, true_and, and_true, true_implies, false_implies, implies_true, not_true_eq_false, not_false_eq_true, false_and, and_false, if_true, if_false, or_true, true_or, or_false, false_or, Classical.not_not, and_self, Int.reduceAdd, Int.reduceMul, Int.reduceSub, Int.reduceNeg, Int.reduceLT, Int.reduceLE, Int.reduceEq, Int.reduceNe, Int.reduceToNat, Nat.reduceAdd, Nat.reduceMul, Nat.reduceSub, Nat.reduceLeDiff, Nat.reduceLT, Nat.reduceEqDiff, reduceIte, Nat.zero_le, Nat.le_refl, Nat.add_zero, Nat.zero_add, twT hT, twV hV]
      refine ⟨fun h => ?_, fun h => ?_⟩
      · rw [if_pos h] at ew
        exact k2 y (by rw [ew]; exact hu.k hy)
      · rw [if_neg h] at ew
        have hV := hVy
        (repeat (refine And.intro (by (first | omega | assumption | trivial | (simp only [inI]; omega) | (simp only [inL]; omega) | (refine jb_01) | (exact jb_in))) ?_))
        refine ⟨0, 0, ⟨by omega, by omega⟩, tw_write hT hV (by rw [eya]; omega) ?_⟩
        simp (disch := (first | decide | omega)) only [jxs, hps, jtsw, jlsw, List.length_cons, List.length_nil, true_and, and_true, true_implies, false_implies, implies_true, not_true_eq_false, not_false_eq_true, false_and, and_false, if_true, if_false, or_true, true_or, or_false, false_or, Classical.not_not, and_self, Int.reduceAdd, Int.reduceMul, Int.reduceSub, Int.reduceNeg, Int.reduceLT, Int.reduceLE, Int.reduceEq, Int.reduceNe, Int.reduceToNat, Nat.reduceAdd, Nat.reduceMul, Nat.reduceSub, Nat.reduceLeDiff, Nat.reduceLT, Nat.reduceEqDiff, reduceIte, Nat.zero_le, Nat.le_refl, Nat.add_zero, Nat.zero_add, twT hT, twV hV]
        refine k2 _ ?_
        rw [ew, eya]
        exact (hu.k hy).up
    simp (disch := (first | decide | omega)) only [jxs, hps, jtsw, jlsw, List.length_cons, List.length_nil, true_and, and_true, true_implies, false_implies, implies_true, not_true_eq_false, not_false_eq_true, false_and, and_false, if_true, if_false, or_true, true_or, or_false, false_or, Classical.not_not, and_self, Int.reduceAdd, Int.reduceMul, Int.reduceSub, Int.reduceNeg, Int.reduceLT, Int.reduceLE, Int.reduceEq, Int.reduceNe, Int.reduceToNat, Nat.reduceAdd, Nat.reduceMul, Nat.reduceSub, Nat.reduceLeDiff, Nat.reduceLT, Nat.reduceEqDiff, reduceIte, Nat.zero_le, Nat.le_refl, Nat.add_zero, Nat.zero_add, twT hT, twV hV]
    refine ⟨fun _ => ?_, fun h => absurd h hd⟩
    have hVw := hw.pv hV
    (repeat (refine And.intro (by (first | omega | assumption | trivial | (simp only [inI]; omega) | (simp only [inL]; omega) | (refine jb_01) | (exact jb_in))) ?_))
    refine ⟨0, 0, ⟨by omega, by omega⟩, tw_doesPush hT hVw ⟨hw.te hE, by omega, by omega, by omega, by omega⟩ ?_⟩
    intro y hy
    rw [hw.a, hw.x]
    have ew : chW1 (v 540) (v 542) s l r = (if dpA (v 540) (v 542) l r 1 = 0 then v 540 else wriA (v 540) l r s) := rfl
    have eya : y 540 = v 540 := hy.a.trans hw.a
    have hV := hy.pv hVw
    simp (disch := (first | decide | omega)) only [jxs, hps, jtsw, jlsw, List.length_cons, List.length_nil, true_and, and_true, true_implies, false_implies, implies_true, not_true_eq_false, not_false_eq_true, false_and, and_false, if_true, if_false, or_true, true_or, or_false, false_or, Classical.not_not, and_self, Int.reduceAdd, Int.reduceMul, Int.reduceSub, Int.reduceNeg, Int.reduceLT, Int.reduceLE, Int.reduceEq, Int.reduceNe, Int.reduceToNat, Nat.reduceAdd, Nat.reduceMul, Nat.reduceSub, Nat.reduceLeDiff, Nat.reduceLT, Nat.reduceEqDiff, reduceIte, Nat.zero_le, Nat.le_refl, Nat.add_zero, Nat.zero_add, twT hT, twV hV]
    refine ⟨fun h => ?_, fun h => ?_⟩
    · rw [if_pos h] at ew
      exact k1 y (by rw [ew]; exact hw.ka.k hy)
    · rw [if_neg h] at ew
      (repeat (refine And.intro (by (first | omega | assumption | trivial | (simp only [inI]; omega) | (simp only [inL]; omega) | (refine jb_01) | (exact jb_in))) ?_))
      refine ⟨0, 0, ⟨by omega, by omega⟩, tw_write hT hV (by rw [eya]; omega) ?_⟩
      simp (disch := (first | decide | omega)) only [jxs, hps, jtsw, jlsw, List.length_cons, List.length_nil, true_and, and_true, true_implies, false_implies, implies_true, not_true_eq_false, not_false_eq_true, false_and, and_false, if_true, if_false, or_true, true_or, or_false, false_or, Classical.not_not, and_self, Int.reduceAdd, Int.reduceMul, Int.reduceSub, Int.reduceNeg, Int.reduceLT, Int.reduceLE, Int.reduceEq, Int.reduceNe, Int.reduceToNat, Nat.reduceAdd, Nat.reduceMul, Nat.reduceSub, Nat.reduceLeDiff, Nat.reduceLT, Nat.reduceEqDiff, reduceIte, Nat.zero_le, Nat.le_refl, Nat.add_zero, Nat.zero_add, twT hT, twV hV]
      refine k1 _ ?_
      rw [ew, eya]
      exact (hw.ka.k hy).up
end TG
