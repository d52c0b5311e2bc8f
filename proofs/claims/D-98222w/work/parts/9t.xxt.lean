/-! ===== the class: filling, a book's place; the tape ===== -/
-- MODE N
set_option maxRecDepth 100000
section XG
variable {g : jjG} {d : Nat} {T : jjT} {Q : jjQ}
theorem xj_fill_1 {R z m : Int} (r1 : jok T R (-1)) (r2 : jln T R = m) (r3 : 400 ≤ R) (hm : 0 ≤ m ∧ m ≤ 1000) : ∀ (n : Nat) (k : Int) (v : Int → Int → Int), 0 ≤ k → k + n = m →
    Q (.inl none) (upA v R (fun i => if k ≤ i ∧ i < m then z else v R i), T) → jW bJ0_fill (g, d, 0, 0, Q) 1 [some (vR R), some (vI z), some (vI k), some (vI m)] [] (v, T) 0 0 := by
  intro n
  induction n with
  | zero =>
    intro k v hk hn hQ
    have e : (fun i => if k ≤ i ∧ i < m then z else v R i) = v R := by funext i; rw [if_neg (by omega)]
    rw [e, upA_id] at hQ
    refine jW_step ?_
    simp (disch := (first | decide | omega)) only [bJ0_fill, jxs, hps, jtsw, jlsw, List.length_cons, List.length_nil, true_and, and_true, true_implies, false_implies, implies_true, not_true_eq_false, not_false_eq_true, false_and, and_false, if_true, if_false, or_true, true_or, or_false, false_or, Classical.not_not, and_self, Int.reduceAdd, Int.reduceMul, Int.reduceSub, Int.reduceNeg, Int.reduceLT, Int.reduceLE, Int.reduceEq, Int.reduceNe, Int.reduceToNat, Nat.reduceAdd, Nat.reduceMul, Nat.reduceSub, Nat.reduceLeDiff, Nat.reduceLT, Nat.reduceEqDiff, reduceIte, Nat.zero_le, Nat.le_refl, Nat.add_zero, Nat.zero_add]
    (try refine ⟨fun _ => ?_, fun h9 => (by exfalso; omega)⟩)
    (repeat (refine And.intro (by (first | omega | assumption | trivial | (simp only [inI]; omega) | (simp only [inL]; omega) | (refine jb_01) | (exact jb_in))) ?_))
    exact hQ
  | succ n ih =>
    intro k v hk hn hQ
    refine jW_step ?_
    simp (disch := (first | decide | omega)) only [bJ0_fill, jxs, hps, jtsw, jlsw, List.length_cons, List.length_nil, true_and, and_true, true_implies, false_implies, implies_true, not_true_eq_false, not_false_eq_true, false_and, and_false, if_true, if_false, or_true, true_or, or_false, false_or, Classical.not_not, and_self, Int.reduceAdd, Int.reduceMul, Int.reduceSub, Int.reduceNeg, Int.reduceLT, Int.reduceLE, Int.reduceEq, Int.reduceNe, Int.reduceToNat, Nat.reduceAdd, Nat.reduceMul, Nat.reduceSub, Nat.reduceLeDiff, Nat.reduceLT, Nat.reduceEqDiff, reduceIte, Nat.zero_le, Nat.le_refl, Nat.add_zero, Nat.zero_add, r1, r2]
    (first | refine ⟨fun h9 => (by exfalso; omega), fun _ => ?_⟩ | intro _)
    (repeat (refine And.intro (by (first | omega | assumption | trivial | (simp only [inI]; omega) | (simp only [inL]; omega) | (refine jb_01) | (exact jb_in))) ?_))
    refine ih (k + 1) _ (by omega) (by omega) ?_
    rw [upA_same, upA_eq]
    have e : (fun i => if k + 1 ≤ i ∧ i < m then z else up1 (v R) k z i) = (fun i => if k ≤ i ∧ i < m then z else v R i) := by
      funext i
      by_cases h1 : i = k
      · subst h1; rw [if_neg (by omega), up1_eq, if_pos (by omega)]
      · rw [up1_ne h1]
        by_cases h2 : k ≤ i ∧ i < m
        · rw [if_pos h2, if_pos (by omega)]
        · rw [if_neg h2, if_neg (by omega)]
    rw [e]
    exact hQ
theorem xj_fill {R z m : Int} {v : Int → Int → Int} (r1 : jok T R (-1)) (r2 : jln T R = m) (r3 : 400 ≤ R) (hm : 0 ≤ m ∧ m ≤ 1000) (hQ : Q (.inl none) (upA v R (fun i => if 0 ≤ i ∧ i < m then z else v R i), T)) : jmet g (d + 1) 0 0 MJ0_fill [vR R, vI z] (v, T) Q := by
  refine jmet_of (ls := [some (vR R), some (vI z), none, none]) sJ0_fill rfl (by decide +kernel) (by decide) rfl (by simp [jent]) ?_
  refine jW_step ?_
  simp (disch := (first | decide | omega)) only [bJ0_fill, jxs, hps, jtsw, jlsw, List.length_cons, List.length_nil, true_and, and_true, true_implies, false_implies, implies_true, not_true_eq_false, not_false_eq_true, false_and, and_false, if_true, if_false, or_true, true_or, or_false, false_or, Classical.not_not, and_self, Int.reduceAdd, Int.reduceMul, Int.reduceSub, Int.reduceNeg, Int.reduceLT, Int.reduceLE, Int.reduceEq, Int.reduceNe, Int.reduceToNat, Nat.reduceAdd, Nat.reduceMul, Nat.reduceSub, Nat.reduceLeDiff, Nat.reduceLT, Nat.reduceEqDiff, reduceIte, Nat.zero_le, Nat.le_refl, Nat.add_zero, Nat.zero_add, r1, r2]
  exact xj_fill_1 r1 r2 r3 hm m.toNat 0 v (by omega) (by omega) hQ
/-- the first place of a book -/
def pwF (f : Int → Int) (b : Int) : Nat → Int → Int
  | 0, k => k
  | n + 1, k => if f k = b then k else pwF f b n (k + 1)
theorem xw_placeIn_1 {R b m : Int} {v : Int → Int → Int} (r1 : jok T R (-1)) (r2 : m ≤ jln T R) (hm : m ≤ 10) : ∀ (n : Nat) (k : Int), 0 ≤ k → k + n = m → (∃ q, (k ≤ q ∧ q < m) ∧ v R q = b) →
    Q (.inl (some (vI (pwF (v R) b n k)))) (v, T) → jW bX0_placeIn (g, d, 0, 0, Q) 1 [some (vR R), some (vI b), some (vI k)] [] (v, T) 0 0 := by
  intro n
  induction n with
  | zero =>
    intro k hk hn hx hQ
    obtain ⟨q, q1, q2⟩ := hx
    omega
  | succ n ih =>
    intro k hk hn hx hQ
    obtain ⟨q, q1, q2⟩ := hx
    unfold pwF at hQ
    refine jW_step ?_
    simp (disch := (first | decide | omega)) only [bX0_placeIn, jxs, hps, jtsw, jlsw, List.length_cons, List.length_nil, true_and, and_true, true_implies, false_implies, implies_true, not_true_eq_false, not_false_eq_true, false_and, and_false, if_true, if_false, or_true, true_or, or_false, false_or, Classical.not_not, and_self, Int.reduceAdd, Int.reduceMul, Int.reduceSub, Int.reduceNeg, Int.reduceLT, Int.reduceLE, Int.reduceEq, Int.reduceNe, Int.reduceToNat, Nat.reduceAdd, Nat.reduceMul, Nat.reduceSub, Nat.reduceLeDiff, Nat.reduceLT, Nat.reduceEqDiff, reduceIte, Nat.zero_le, Nat.le_refl, Nat.add_zero, Nat.zero_add, r1]
    (repeat (refine And.intro (by (first | omega | assumption | trivial | (simp only [inI]; omega) | (simp only [inL]; omega) | (refine jb_01) | (exact jb_in))) ?_))
    refine ⟨fun h => ?_, fun h => ?_⟩
    · rw [if_pos h] at hQ
      (repeat (refine And.intro (by (first | omega | assumption | trivial | (simp only [inI]; omega) | (simp only [inL]; omega) | (refine jb_01) | (exact jb_in))) ?_))
      exact hQ
    · rw [if_neg h] at hQ
      (repeat (refine And.intro (by (first | omega | assumption | trivial | (simp only [inI]; omega) | (simp only [inL]; omega) | (refine jb_01) | (exact jb_in))) ?_))
      refine ih (k + 1) (by omega) (by omega) ⟨q, ⟨?_, q1.2⟩, q2⟩ hQ
      have : q ≠ k := fun e => h (by rw [← e]; exact q2)
      omega
theorem xw_placeIn {R b m : Int} {v : Int → Int → Int} (r1 : jok T R (-1)) (r2 : m ≤ jln T R) (hm : 0 ≤ m ∧ m ≤ 10) (hx : ∃ q, (0 ≤ q ∧ q < m) ∧ v R q = b) (hQ : Q (.inl (some (vI (pwF (v R) b m.toNat 0)))) (v, T)) : jmet g (d + 1) 0 0 MX0_placeIn [vR R, vI b] (v, T) Q := by
  refine jmet_of (ls := [some (vR R), some (vI b), none]) sX0_placeIn rfl (by decide +kernel) (by decide) rfl (by simp [jent]) ?_
  refine jW_step ?_
  simp (disch := (first | decide | omega)) only [bX0_placeIn, jxs, hps, jtsw, jlsw, List.length_cons, List.length_nil, true_and, and_true, true_implies, false_implies, implies_true, not_true_eq_false, not_false_eq_true, false_and, and_false, if_true, if_false, or_true, true_or, or_false, false_or, Classical.not_not, and_self, Int.reduceAdd, Int.reduceMul, Int.reduceSub, Int.reduceNeg, Int.reduceLT, Int.reduceLE, Int.reduceEq, Int.reduceNe, Int.reduceToNat, Nat.reduceAdd, Nat.reduceMul, Nat.reduceSub, Nat.reduceLeDiff, Nat.reduceLT, Nat.reduceEqDiff, reduceIte, Nat.zero_le, Nat.le_refl, Nat.add_zero, Nat.zero_add]
  exact xw_placeIn_1 r1 r2 hm.2 m.toNat 0 (by omega) (by omega) hx hQ
end XG
/-- a byte with its sign -/
def sgn (b : Int) : Int := if b < 128 then b else b - 256
theorem byt_bd {x k : Int} : 0 ≤ byt x k ∧ byt x k ≤ 255 := by unfold byt; omega
theorem sgn_bd {x k : Int} : -128 ≤ sgn (byt x k) ∧ sgn (byt x k) ≤ 127 := by
  have := byt_bd (x := x) (k := k)
  unfold sgn
  split <;> omega
theorem sgn_byt {x k : Int} (hx : inI x) (h0 : 0 ≤ k) (h1 : k < 32) : jbyte (jshr x k) = sgn (byt x k) := by
  rw [jshr_div hx h0 h1]
  have p : 1 ≤ (2 : Int) ^ k.toNat := by
    have : 0 < (2 : Nat) ^ k.toNat := Nat.pow_pos (by omega)
    have e : ((2 : Int) ^ k.toNat) = ((2 ^ k.toNat : Nat) : Int) := by norm_cast
    omega
  have i1 : inI (x / 2 ^ k.toNat) := by
    obtain ⟨x1, x2⟩ := hx
    generalize (2 : Int) ^ k.toNat = y at *
    exact ⟨Int.le_ediv_of_mul_le (by omega) (by omega), Int.ediv_lt_of_lt_mul (by omega) (by omega)⟩
  rw [jbyte_eq i1]
  unfold sgn byt Int.bmod
  dsimp only
  split <;> split <;> omega
def fox (f : Int → Int) (t x : Int) : Int → Int := up1 (up1 (up1 (up1 f t (sgn (byt x 24))) (t + 1) (sgn (byt x 16))) (t + 1 + 1) (sgn (byt x 8))) (t + 1 + 1 + 1) (sgn (byt x 0))
def fedX (f : Int → Int) (t a b c e h : Int) : Int → Int := fox (fox (fox (fox (fox f t a) (t + 4) b) (t + 8) c) (t + 12) e) (t + 16) h
/-- two tapes that say the same up to a place -/
def TPE (f f' : Int → Int) (t : Int) : Prop := ∀ i, 0 ≤ i → i < t → f i = sgn (f' i) ∧ (0 ≤ f' i ∧ f' i ≤ 255)
theorem TPE.fo {f f' : Int → Int} {t x : Int} (h : TPE f f' t) : TPE (fox f t x) (fou f' t x) (t + 4) := by
  intro i i0 i1
  unfold fox fou up1
  by_cases e3 : i = t + 1 + 1 + 1
  · rw [if_pos e3, if_pos e3]; exact ⟨rfl, byt_bd⟩
  · rw [if_neg e3, if_neg e3]
    by_cases e2 : i = t + 1 + 1
    · rw [if_pos e2, if_pos e2]; exact ⟨rfl, byt_bd⟩
    · rw [if_neg e2, if_neg e2]
      by_cases e1 : i = t + 1
      · rw [if_pos e1, if_pos e1]; exact ⟨rfl, byt_bd⟩
      · rw [if_neg e1, if_neg e1]
        by_cases e0 : i = t
        · rw [if_pos e0, if_pos e0]; exact ⟨rfl, byt_bd⟩
        · rw [if_neg e0, if_neg e0]; exact h i i0 (by omega)
theorem TPE.fed {f f' : Int → Int} {t a b c e h : Int} (q : TPE f f' t) : TPE (fedX f t a b c e h) (fedT f' t a b c e h) (t + 20) := by
  have q2 := (q.fo (x := a)).fo (x := b)
  rw [show t + 4 + 4 = t + 8 by omega] at q2
  have q3 := q2.fo (x := c)
  rw [show t + 8 + 4 = t + 12 by omega] at q3
  have q4 := q3.fo (x := e)
  rw [show t + 12 + 4 = t + 16 by omega] at q4
  have q5 := q4.fo (x := h)
  rw [show t + 16 + 4 = t + 20 by omega] at q5
  exact q5
theorem TPE.le {f f' : Int → Int} {t u : Int} (q : TPE f f' t) (h : u ≤ t) : TPE f f' u := fun i i0 i1 => q i i0 (by omega)
