/-! ===== the reference: rank; a shelf's set ===== -/
set_option maxRecDepth 100000
theorem LAID.oel {A X : Int → Int} {w : Int → Int → Int} {s : Int} (h0 : 0 ≤ A 0 ∧ A 0 ≤ 10) (h : LAID w (elZ (A 0) s).2 (elZ (A 0) s).1 (tbS A X s)) (hC : CH A X (w 548)) : OEL w (elZ (A 0) s).2 (tbS A X s) := by
  have sp := elZ_sp (N := A 0) (s := s) h0.1
  have tg := hC.tag h0.2
  refine ⟨h.1, fun x x0 x1 => ?_, fun x y x0 x1 y0 y1 => ⟨?_, cgA_01⟩⟩
  · rw [h.2.2.1 x x0 x1]; have := sp.1 x x0 x1; omega
  · rw [h.2.2.1 x x0 x1, h.2.2.1 y y0 y1]
    have e := tbE_at (c := tbl A X) (el := (elZ (A 0) s).1) (x := x) (y := y) (by omega)
    have a := sp.1 x x0 x1
    have b := sp.1 y y0 y1
    exact (tg _ _ a.1 a.2 b.1 b.2).trans e.symm
section TG
variable {g : jjG} {d : Nat} {T : jjT} {Q : jjQ}
theorem tw_rank_2 {l1 pl m : Int} {v : Int → Int → Int} {c el : Int → Int} (hT : PT T) (hV : PV v) (hO : OEL v m c) (hL : LAID v m el c) (hm : 0 ≤ m ∧ m ≤ 6) (hp : 0 ≤ pl ∧ pl < m) : ∀ (r : Nat) (n : Int), 0 ≤ n → n + r = fac m →
    ((rkF c m r n < 0 → Q (.inl (some (vI (-1)))) (v, T)) ∧ (¬ rkF c m r n < 0 → Q (.inl (some (vI (el (dec m (rkF c m r n) pl))))) (v, T))) →
    jW bX2_rank (g, d + 8, 0, 0, Q) 2 [some (vR 539), some (vI l1), some (vI pl), some (vI n)] [] (v, T) 0 0 := by
  have hf := fac_bd hm.2
  obtain ⟨w34, w35, w54, w51, wF⟩ := hL
  intro r
  induction r with
  | zero =>
    intro n hn hr hQ
    unfold rkF at hQ
    refine jW_step ?_
    simp (disch := (first | decide | omega)) only [bX2_rank, jxs, hps, jtsw, jlsw, List.length_cons, List.length_nil, true_and, and_true, true_implies, false_implies, implies_true, not_true_eq_false, not_false_eq_true, false_and, and_false, if_true, if_false, or_true, true_or, or_false, false_or, Classical.not_not, and_self, Int.reduceAdd, Int.reduceMul, Int.reduceSub, Int.reduceNeg, Int.reduceLT, Int.reduceLE, Int.reduceEq, Int.reduceNe, Int.reduceToNat, Nat.reduceAdd, Nat.reduceMul, Nat.reduceSub, Nat.reduceLeDiff, Nat.reduceLT, Nat.reduceEqDiff, reduceIte, Nat.zero_le, Nat.le_refl, Nat.add_zero, Nat.zero_add, twT hT, twV hV, w35]
    (repeat (refine And.intro (by (first | omega | assumption | trivial | (simp only [inI]; omega) | (simp only [inL]; omega) | (refine jb_01) | (exact jb_in))) ?_))
    (try refine ⟨fun _ => ?_, fun h9 => (by exfalso; omega)⟩)
    (repeat (refine And.intro (by (first | omega | assumption | trivial | (simp only [inI]; omega) | (simp only [inL]; omega) | (refine jb_01) | (exact jb_in))) ?_))
    exact hQ.1 (by omega)
  | succ r ih =>
    intro n hn hr hQ
    unfold rkF at hQ
    refine jW_step ?_
    simp (disch := (first | decide | omega)) only [bX2_rank, jxs, hps, jtsw, jlsw, List.length_cons, List.length_nil, true_and, and_true, true_implies, false_implies, implies_true, not_true_eq_false, not_false_eq_true, false_and, and_false, if_true, if_false, or_true, true_or, or_false, false_or, Classical.not_not, and_self, Int.reduceAdd, Int.reduceMul, Int.reduceSub, Int.reduceNeg, Int.reduceLT, Int.reduceLE, Int.reduceEq, Int.reduceNe, Int.reduceToNat, Nat.reduceAdd, Nat.reduceMul, Nat.reduceSub, Nat.reduceLeDiff, Nat.reduceLT, Nat.reduceEqDiff, reduceIte, Nat.zero_le, Nat.le_refl, Nat.add_zero, Nat.zero_add, twT hT, twV hV, w35]
    (repeat (refine And.intro (by (first | omega | assumption | trivial | (simp only [inI]; omega) | (simp only [inL]; omega) | (refine jb_01) | (exact jb_in))) ?_))
    (first | refine ⟨fun h9 => (by exfalso; omega), fun _ => ?_⟩ | intro _)
    refine ⟨0, 0, ⟨by omega, by omega⟩, tw_isRank hT hV ⟨hO, hm, ⟨hn, by omega⟩, w51⟩ ?_⟩
    simp (disch := (first | decide | omega)) only [jxs, hps, jtsw, jlsw, List.length_cons, List.length_nil, true_and, and_true, true_implies, false_implies, implies_true, not_true_eq_false, not_false_eq_true, false_and, and_false, if_true, if_false, or_true, true_or, or_false, false_or, Classical.not_not, and_self, Int.reduceAdd, Int.reduceMul, Int.reduceSub, Int.reduceNeg, Int.reduceLT, Int.reduceLE, Int.reduceEq, Int.reduceNe, Int.reduceToNat, Nat.reduceAdd, Nat.reduceMul, Nat.reduceSub, Nat.reduceLeDiff, Nat.reduceLT, Nat.reduceEqDiff, reduceIte, Nat.zero_le, Nat.le_refl, Nat.add_zero, Nat.zero_add, twT hT, twV hV]
    refine ⟨fun h => ?_, fun h => ?_⟩
    · rw [if_pos h] at hQ
      (repeat (refine And.intro (by (first | omega | assumption | trivial | (simp only [inI]; omega) | (simp only [inL]; omega) | (refine jb_01) | (exact jb_in))) ?_))
      exact ih (n + 1) (by omega) (by omega) hQ
    · rw [if_neg h] at hQ
      have e1 := w51 n pl (by omega) (by omega) (by omega) (by omega)
      have db := (dec_st hm (n := n) (p := pl) ⟨by omega, by omega⟩ ⟨by omega, by omega⟩).2.2.1
      have e2 := w54 (dec m n pl) db.1 db.2
      (repeat (refine And.intro (by (first | omega | assumption | trivial | (simp only [inI]; omega) | (simp only [inL]; omega) | (refine jb_01) | (exact jb_in))) ?_))
      rw [e1]
      (repeat (refine And.intro (by (first | omega | assumption | trivial | (simp only [inI]; omega) | (simp only [inL]; omega) | (refine jb_01) | (exact jb_in))) ?_))
      rw [e2]
      exact hQ.2 (by omega)
theorem tw_rank {v : Int → Int → Int} {s pl : Int} (hT : PT T) (hV : PV v) (hS : TE v) (hQ : ∀ u, jko v u → Q (.inl (some (vI (rnkA (v 540) (v 542) s pl)))) (u, T)) : jmet g (d + 9) 0 0 MX2_rank [vR 539, vI s, vI pl] (v, T) Q := by
  have hE := hS
  have h0 := hE.1.1
  unfold rnkA at hQ
  refine jmet_of (ls := [some (vR 539), some (vI s), some (vI pl), none]) sX2_rank rfl (by decide +kernel) (by decide) rfl (by simp [jent]) ?_
  refine jW_step ?_
  simp (disch := (first | decide | omega)) only [bX2_rank, jxs, hps, jtsw, jlsw, List.length_cons, List.length_nil, true_and, and_true, true_implies, false_implies, implies_true, not_true_eq_false, not_false_eq_true, false_and, and_false, if_true, if_false, or_true, true_or, or_false, false_or, Classical.not_not, and_self, Int.reduceAdd, Int.reduceMul, Int.reduceSub, Int.reduceNeg, Int.reduceLT, Int.reduceLE, Int.reduceEq, Int.reduceNe, Int.reduceToNat, Nat.reduceAdd, Nat.reduceMul, Nat.reduceSub, Nat.reduceLeDiff, Nat.reduceLT, Nat.reduceEqDiff, reduceIte, Nat.zero_le, Nat.le_refl, Nat.add_zero, Nat.zero_add, twT hT, twV hV]
  refine ⟨0, 0, ⟨by omega, by omega⟩, tw_isSet hT hV h0 ⟨fun h => ?_, fun h => ?_⟩⟩
  · unfold setC at h
    rw [if_pos h] at hQ
    have sm := setC_m h0 h
    have hb : 0 ≤ bc s ∧ bc s ≤ 6 := ⟨by omega, h.2⟩
    simp (disch := (first | decide | omega)) only [jxs, hps, jtsw, jlsw, List.length_cons, List.length_nil, true_and, and_true, true_implies, false_implies, implies_true, not_true_eq_false, not_false_eq_true, false_and, and_false, if_true, if_false, or_true, true_or, or_false, false_or, Classical.not_not, and_self, Int.reduceAdd, Int.reduceMul, Int.reduceSub, Int.reduceNeg, Int.reduceLT, Int.reduceLE, Int.reduceEq, Int.reduceNe, Int.reduceToNat, Nat.reduceAdd, Nat.reduceMul, Nat.reduceSub, Nat.reduceLeDiff, Nat.reduceLT, Nat.reduceEqDiff, reduceIte, Nat.zero_le, Nat.le_refl, Nat.add_zero, Nat.zero_add, twT hT, twV hV]
    refine ⟨0, 0, ⟨by omega, by omega⟩, tw_bits hT hV sm.1 ?_⟩
    simp (disch := (first | decide | omega)) only [jxs, hps, jtsw, jlsw, List.length_cons, List.length_nil, true_and, and_true, true_implies, false_implies, implies_true, not_true_eq_false, not_false_eq_true, false_and, and_false, if_true, if_false, or_true, true_or, or_false, false_or, Classical.not_not, and_self, Int.reduceAdd, Int.reduceMul, Int.reduceSub, Int.reduceNeg, Int.reduceLT, Int.reduceLE, Int.reduceEq, Int.reduceNe, Int.reduceToNat, Nat.reduceAdd, Nat.reduceMul, Nat.reduceSub, Nat.reduceLeDiff, Nat.reduceLT, Nat.reduceEqDiff, reduceIte, Nat.zero_le, Nat.le_refl, Nat.add_zero, Nat.zero_add, twT hT, twV hV]
    (repeat (refine And.intro (by (first | omega | assumption | trivial | (simp only [inI]; omega) | (simp only [inL]; omega) | (refine jb_01) | (exact jb_in))) ?_))
    refine ⟨0, 0, ⟨by omega, by omega⟩, tw_isIn hT (by (first | assumption | (repeat (first | assumption | refine PV.A ?_ (by decide) | refine PV.F ?_ ?_ | refine twR.up ?_ (by decide) | refine PV.r ?_)))) (by (first | omega | assumption | trivial | (simp only [inI]; omega) | (simp only [inL]; omega) | (refine jb_01) | (exact jb_in))) ?_⟩
    simp (disch := (first | decide | omega)) only [jxs, hps, jtsw, jlsw, List.length_cons, List.length_nil, true_and, and_true, true_implies, false_implies, implies_true, not_true_eq_false, not_false_eq_true, false_and, and_false, if_true, if_false, or_true, true_or, or_false, false_or, Classical.not_not, and_self, Int.reduceAdd, Int.reduceMul, Int.reduceSub, Int.reduceNeg, Int.reduceLT, Int.reduceLE, Int.reduceEq, Int.reduceNe, Int.reduceToNat, Nat.reduceAdd, Nat.reduceMul, Nat.reduceSub, Nat.reduceLeDiff, Nat.reduceLT, Nat.reduceEqDiff, reduceIte, Nat.zero_le, Nat.le_refl, Nat.add_zero, Nat.zero_add, twT hT, twV hV]
    refine ⟨fun h2 => ?_, fun h2 => ?_⟩
    · rw [if_pos h2] at hQ
      refine ⟨0, 0, ⟨by omega, by omega⟩, tw_laySet hT hV ⟨hE, sm.1, sm.2.2.2⟩ ?_⟩
      intro w hw jw hC
      have hVw := jw.pv hV
      have hO := hw.oel h0 hC
      have m0 := sm.2.2
      have hpl : 0 ≤ pl ∧ pl < (elZ (v 540 0) s).2 := by rw [sm.2.1]; omega
      have hf := fac_bd m0.2
      unfold rnkS at hQ
      simp (disch := (first | decide | omega)) only [jxs, hps, jtsw, jlsw, List.length_cons, List.length_nil, true_and, and_true, true_implies, false_implies, implies_true, not_true_eq_false, not_false_eq_true, false_and, and_false, if_true, if_false, or_true, true_or, or_false, false_or, Classical.not_not, and_self, Int.reduceAdd, Int.reduceMul, Int.reduceSub, Int.reduceNeg, Int.reduceLT, Int.reduceLE, Int.reduceEq, Int.reduceNe, Int.reduceToNat, Nat.reduceAdd, Nat.reduceMul, Nat.reduceSub, Nat.reduceLeDiff, Nat.reduceLT, Nat.reduceEqDiff, reduceIte, Nat.zero_le, Nat.le_refl, Nat.add_zero, Nat.zero_add, twT hT, twV hV]
      refine tw_rank_2 hT hVw hO hw m0 hpl (fac (elZ (v 540 0) s).2).toNat 0 (by omega) (by omega) ⟨fun q => ?_, fun q => ?_⟩
      · rw [if_pos q] at hQ
        exact hQ w jw
      · rw [if_neg q] at hQ
        exact hQ w jw
    · rw [if_neg h2] at hQ
      refine jW_step ?_
      simp (disch := (first | decide | omega)) only [bX2_rank, jxs, hps, jtsw, jlsw, List.length_cons, List.length_nil, true_and, and_true, true_implies, false_implies, implies_true, not_true_eq_false, not_false_eq_true, false_and, and_false, if_true, if_false, or_true, true_or, or_false, false_or, Classical.not_not, and_self, Int.reduceAdd, Int.reduceMul, Int.reduceSub, Int.reduceNeg, Int.reduceLT, Int.reduceLE, Int.reduceEq, Int.reduceNe, Int.reduceToNat, Nat.reduceAdd, Nat.reduceMul, Nat.reduceSub, Nat.reduceLeDiff, Nat.reduceLT, Nat.reduceEqDiff, reduceIte, Nat.zero_le, Nat.le_refl, Nat.add_zero, Nat.zero_add, twT hT, twV hV]
      (repeat (refine And.intro (by (first | omega | assumption | trivial | (simp only [inI]; omega) | (simp only [inL]; omega) | (refine jb_01) | (exact jb_in))) ?_))
      exact hQ v jko.rf
  · unfold setC at h
    rw [if_neg h] at hQ
    simp (disch := (first | decide | omega)) only [jxs, hps, jtsw, jlsw, List.length_cons, List.length_nil, true_and, and_true, true_implies, false_implies, implies_true, not_true_eq_false, not_false_eq_true, false_and, and_false, if_true, if_false, or_true, true_or, or_false, false_or, Classical.not_not, and_self, Int.reduceAdd, Int.reduceMul, Int.reduceSub, Int.reduceNeg, Int.reduceLT, Int.reduceLE, Int.reduceEq, Int.reduceNe, Int.reduceToNat, Nat.reduceAdd, Nat.reduceMul, Nat.reduceSub, Nat.reduceLeDiff, Nat.reduceLT, Nat.reduceEqDiff, reduceIte, Nat.zero_le, Nat.le_refl, Nat.add_zero, Nat.zero_add, twT hT, twV hV]
    refine jW_step ?_
    simp (disch := (first | decide | omega)) only [bX2_rank, jxs, hps, jtsw, jlsw, List.length_cons, List.length_nil, true_and, and_true, true_implies, false_implies, implies_true, not_true_eq_false, not_false_eq_true, false_and, and_false, if_true, if_false, or_true, true_or, or_false, false_or, Classical.not_not, and_self, Int.reduceAdd, Int.reduceMul, Int.reduceSub, Int.reduceNeg, Int.reduceLT, Int.reduceLE, Int.reduceEq, Int.reduceNe, Int.reduceToNat, Nat.reduceAdd, Nat.reduceMul, Nat.reduceSub, Nat.reduceLeDiff, Nat.reduceLT, Nat.reduceEqDiff, reduceIte, Nat.zero_le, Nat.le_refl, Nat.add_zero, Nat.zero_add, twT hT, twV hV]
    (repeat (refine And.intro (by (first | omega | assumption | trivial | (simp only [inI]; omega) | (simp only [inL]; omega) | (refine jb_01) | (exact jb_in))) ?_))
    exact hQ v jko.rf
end TG
/-- bits of a set with one more -/
theorem jor_bits {x b : Int} (hx : 0 ≤ x ∧ x < 1024) (hb : 0 ≤ b ∧ b < 10) : (0 ≤ jor x (2 ^ b.toNat) ∧ jor x (2 ^ b.toNat) < 1024) ∧ ∀ j : Nat, jor x (2 ^ b.toNat) / 2 ^ j % 2 = if (j : Int) = b then 1 else x / 2 ^ j % 2 := by
  have pb := pow_bd (n := b) (by omega)
  obtain ⟨n, rfl⟩ : ∃ n : Nat, x = n := ⟨x.toNat, by omega⟩
  obtain ⟨k, rfl⟩ : ∃ k : Nat, b = k := ⟨b.toNat, by omega⟩
  have ek : ((k : Int)).toNat = k := by omega
  rw [ek] at pb ⊢
  have e0 : (2 : Int) ^ k = ((2 ^ k : Nat) : Int) := by norm_cast
  have hk : 2 ^ k < 1024 := by
    have : 2 ^ k ≤ 2 ^ 9 := Nat.pow_le_pow_right (by omega) (by omega)
    omega
  rw [e0, jor_nat (by omega) (by omega)]
  have hl : n ||| 2 ^ k < 2 ^ 10 := Nat.or_lt_two_pow (by omega) hk
  refine ⟨by omega, fun j => ?_⟩
  have e1 : ((n ||| 2 ^ k : Nat) : Int) / 2 ^ j % 2 = (((n ||| 2 ^ k) / 2 ^ j % 2 : Nat) : Int) := by norm_cast
  have e2 : ((n : Nat) : Int) / 2 ^ j % 2 = ((n / 2 ^ j % 2 : Nat) : Int) := by norm_cast
  rw [e1, e2]
  have t1 := Nat.testBit_or n (2 ^ k) j
  rw [Nat.testBit_eq_decide_div_mod_eq, Nat.testBit_eq_decide_div_mod_eq, Nat.testBit_two_pow] at t1
  by_cases hj : k = j
  · subst hj
    rw [if_pos rfl]
    simp at t1
    omega
  · rw [if_neg (by omega)]
    have hd : decide (k = j) = false := by simp [hj]
    rw [hd, Bool.or_false] at t1
    have := Nat.mod_two_eq_zero_or_one ((n ||| 2 ^ k) / 2 ^ j)
    have := Nat.mod_two_eq_zero_or_one (n / 2 ^ j)
    by_cases q : n / 2 ^ j % 2 = 1
    · have : (n ||| 2 ^ k) / 2 ^ j % 2 = 1 := by simpa [q] using t1
      omega
    · have : ¬ (n ||| 2 ^ k) / 2 ^ j % 2 = 1 := by simpa [q] using t1
      omega
/-- the set of a shelf's books -/
def shsF (A : Int → Int) (s : Int) : Nat → Int → Int → Int
  | 0, _, x => x
  | n + 1, p, x => shsF A s n (p + 1) (jor x (2 ^ (A (16 + 10 * s + p)).toNat))
def shsA (A : Int → Int) (s : Int) : Int := shsF A s (A (13 + s)).toNat 0 0
theorem bcF_or {x b : Int} (hx : 0 ≤ x ∧ x < 1024) (hb : 0 ≤ b ∧ b < 10) (h0 : x / 2 ^ b.toNat % 2 = 0) : ∀ n : Nat, bcF (jor x (2 ^ b.toNat)) n = bcF x n + (if b < n then 1 else 0)
  | 0 => by unfold bcF; rw [if_neg (by omega)]; omega
  | n + 1 => by
    have e := (jor_bits hx hb).2 n
    unfold bcF
    rw [bcF_or hx hb h0 n, e]
    by_cases q : (n : Int) = b
    · have : n = b.toNat := by omega
      rw [if_pos q, if_neg (by omega), if_pos (by omega), this, h0]
      try omega
    · rw [if_neg q]
      by_cases q2 : b < n
      · rw [if_pos q2, if_pos (by omega)]; omega
      · rw [if_neg q2, if_neg (by omega)]; omega
/-- what a shelf's set holds -/
theorem shsF_sp {A : Int → Int} {s N : Int} (hN : N ≤ 10) (h1 : ∀ p, 0 ≤ p → p < A (13 + s) → 0 ≤ A (16 + 10 * s + p) ∧ A (16 + 10 * s + p) < N) (h2 : ∀ p q, 0 ≤ p → p < A (13 + s) → 0 ≤ q → q < A (13 + s) → A (16 + 10 * s + p) = A (16 + 10 * s + q) → p = q) :
    ∀ (n : Nat) (p x : Int), 0 ≤ p → p + n = A (13 + s) → (0 ≤ x ∧ x < 1024) → (∀ j : Nat, x / 2 ^ j % 2 = 1 ↔ ∃ q, (0 ≤ q ∧ q < p) ∧ A (16 + 10 * s + q) = j) → bc x = p →
    (0 ≤ shsF A s n p x ∧ shsF A s n p x < 1024) ∧ (∀ j : Nat, shsF A s n p x / 2 ^ j % 2 = 1 ↔ ∃ q, (0 ≤ q ∧ q < A (13 + s)) ∧ A (16 + 10 * s + q) = j) ∧ bc (shsF A s n p x) = A (13 + s)
  | 0, p, x, hp, hn, hx, hb, hc => by
    unfold shsF
    rw [show A (13 + s) = p by omega]
    exact ⟨hx, hb, hc⟩
  | n + 1, p, x, hp, hn, hx, hb, hc => by
    unfold shsF
    have a := h1 p hp (by omega)
    have jb := jor_bits hx (b := A (16 + 10 * s + p)) (by omega)
    have un : x / 2 ^ (A (16 + 10 * s + p)).toNat % 2 = 0 := by
      have : ¬ x / 2 ^ (A (16 + 10 * s + p)).toNat % 2 = 1 := by
        intro e
        obtain ⟨q, q1, q2⟩ := (hb _).1 e
        have := h2 q p q1.1 (by omega) hp (by omega) (by omega)
        omega
      omega
    refine shsF_sp hN h1 h2 n (p + 1) _ (by omega) (by omega) jb.1 (fun j => ?_) ?_
    · rw [jb.2 j]
      by_cases e : (j : Int) = A (16 + 10 * s + p)
      · rw [if_pos e]
        exact ⟨fun _ => ⟨p, by omega, e.symm⟩, fun _ => rfl⟩
      · rw [if_neg e, hb j]
        constructor
        · rintro ⟨q, q1, q2⟩
          exact ⟨q, by omega, q2⟩
        · rintro ⟨q, q1, q2⟩
          refine ⟨q, ⟨q1.1, ?_⟩, q2⟩
          by_cases e2 : q = p
          · rw [e2] at q2; omega
          · omega
    · have := bcF_or hx (b := A (16 + 10 * s + p)) (by omega) un 10
      unfold bc at hc ⊢
      rw [this, hc, if_pos (by omega)]
