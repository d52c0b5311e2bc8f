/-! ===== the class: the next token ===== -/
-- MODE N
set_option maxRecDepth 100000
theorem TKN.st {v : Int → Int → Int} {T : jjT} {tk : Int} {B : Int → Int} {n k k' : Nat} {o kd : Int} {f : Int → Int} (h : TKN v T tk B n k o kd) (e : ∀ j, j ≠ 2 → j ≠ 3 → j ≠ 4 → j ≠ 5 → f j = v tk j) (h2 : f 2 = k') (hk : k' ≤ n) (h5 : 0 ≤ f 5 ∧ f 5 ≤ 99999) : TKN (upA v tk f) T tk B n k' o kd := by
  obtain ⟨⟨a1, a2⟩, ⟨b1, b2, b3, b4, b5⟩, _, ⟨c1, c2⟩, d1, d2, d3, d4⟩ := h
  refine ⟨⟨a1, a2⟩, ⟨?_, ?_, ?_, ?_, ?_⟩, ?_, ⟨c1, hk⟩, d1, ?_, ?_, d4⟩
  · rw [upA_eq, e 0 (by decide) (by decide) (by decide) (by decide)]; exact b1
  · rw [upA_eq, e 1 (by decide) (by decide) (by decide) (by decide)]; exact b2
  · rw [upA_eq]; exact h2
  · rw [upA_eq, e 6 (by decide) (by decide) (by decide) (by decide)]; exact b4
  · rw [upA_eq, e 7 (by decide) (by decide) (by decide) (by decide)]; exact b5
  · rw [upA_eq]; exact h5
  · rw [upA_ne (by omega)]; exact d2
  · exact d3.fr (fun a _ a4 => upA_ne (by omega)) (fun _ _ _ => rfl) (by omega)
def sgF (c : Int) : Nat → Int
  | 0 => 302
  | k + 1 => if li0 SGL k = c then c else sgF c k
theorem sgF_11 {c : Int} : sgF c 11 = if isS c then c else 302 := by
  by_cases h : isS c
  · rw [if_pos h]
    have h2 : c = 60 ∨ c = 62 ∨ c = 61 ∨ c = 35 ∨ c = 43 ∨ c = 45 ∨ c = 42 ∨ c = 47 ∨ c = 40 ∨ c = 41 ∨ c = 59 := by
      unfold isS SGL at h
      simpa using h
    rcases h2 with h2 | h2 | h2 | h2 | h2 | h2 | h2 | h2 | h2 | h2 | h2 <;> rw [h2] <;> decide
  · rw [if_neg h]
    have key : ∀ k : Nat, k ≤ 11 → sgF c k = 302 := by
      intro k
      induction k with
      | zero => intro _; rfl
      | succ k ih =>
        intro hk
        unfold sgF
        rw [if_neg (fun e => h ?_)]
        · exact ih (by omega)
        · have q : ∀ i : Fin 11, li0 SGL ((i.val : Nat) : Int) ∈ SGL := by decide
          have := q ⟨k, by omega⟩
          dsimp only at this
          rw [e] at this
          exact this
    exact key 11 (Nat.le_refl _)
theorem WD_ch {w : Nat} (hw : w < 29) : (WD w).length < 1000 ∧ ∀ i : Nat, i < (WD w).length → 0 ≤ li0 (WD w) i ∧ li0 (WD w) i < 128 := by
  have key : ∀ w : Fin 29, (WD w.val).length < 1000 ∧ ∀ i : Fin 8, 0 ≤ li0 (WD w.val) ((i.val : Nat) : Int) ∧ li0 (WD w.val) ((i.val : Nat) : Int) < 128 := by decide
  have k2 : ∀ w : Fin 29, (WD w.val).length < 8 := by decide
  have a := key ⟨w, hw⟩
  have b := k2 ⟨w, hw⟩
  dsimp only at a b
  exact ⟨a.1, fun i hi => a.2 ⟨i, by omega⟩⟩
section XG
variable {g : jjG} {d : Nat} {T : jjT} {Q : jjQ} {tk : Int} {B : Int → Int} {n : Nat} {o kd : Int}
theorem xw_nx_0 : ∀ (r k : Nat) (v : Int → Int → Int), r = n - k → TKN v T tk B n k o kd →
    (∀ w, (∀ a, a ≠ tk → w a = v a) → TKN w T tk B n (wsF B n r k) o kd → jW bX3_next (g, d, 0, 0, Q) 2 [some (vR tk), none, none] [] (w, T) 0 0) →
    jW bX3_next (g, d, 0, 0, Q) 0 [some (vR tk), none, none] [] (v, T) 0 0 := by
  intro r
  induction r with
  | zero =>
    intro k v hr hN hQ
    obtain ⟨⟨t0, t2⟩, ⟨f0, f1, f2, f6, f7⟩, f5, ⟨n1, n2⟩, ⟨t1, l1⟩, tb, ho, hT2⟩ := id hN
    refine jW_step ?_
    simp (disch := (first | decide | omega)) only [bX3_next, jxs, hps, jtsw, jlsw, List.length_cons, List.length_nil, true_and, and_true, true_implies, false_implies, implies_true, not_true_eq_false, not_false_eq_true, false_and, and_false, if_true, if_false, or_true, true_or, or_false, false_or, Classical.not_not, and_self, Int.reduceAdd, Int.reduceMul, Int.reduceSub, Int.reduceNeg, Int.reduceLT, Int.reduceLE, Int.reduceEq, Int.reduceNe, Int.reduceToNat, Nat.reduceAdd, Nat.reduceMul, Nat.reduceSub, Nat.reduceLeDiff, Nat.reduceLT, Nat.reduceEqDiff, reduceIte, Nat.zero_le, Nat.le_refl, Nat.add_zero, Nat.zero_add, t0, f0, f1, f2]
    (try refine ⟨fun _ => ?_, fun h9 => (by exfalso; omega)⟩)
    exact hQ v (fun _ _ => rfl) hN
  | succ r ih =>
    intro k v hr hN hQ
    obtain ⟨⟨t0, t2⟩, ⟨f0, f1, f2, f6, f7⟩, f5, ⟨n1, n2⟩, ⟨t1, l1⟩, tb, ho, hT2⟩ := id hN
    have hk : k < n := by omega
    obtain ⟨et, eb⟩ := tb k hk
    unfold wsF at hQ
    have k1 : (B k = 32 ∨ B k = 10) → jW bX3_next (g, d, 0, 0, Q) 1 [some (vR tk), none, none] [] (v, T) 0 0 := by
      intro c
      rw [if_pos ⟨hk, c⟩] at hQ
      refine jW_step ?_
      simp (disch := (first | decide | omega)) only [bX3_next, jxs, hps, jtsw, jlsw, List.length_cons, List.length_nil, true_and, and_true, true_implies, false_implies, implies_true, not_true_eq_false, not_false_eq_true, false_and, and_false, if_true, if_false, or_true, true_or, or_false, false_or, Classical.not_not, and_self, Int.reduceAdd, Int.reduceMul, Int.reduceSub, Int.reduceNeg, Int.reduceLT, Int.reduceLE, Int.reduceEq, Int.reduceNe, Int.reduceToNat, Nat.reduceAdd, Nat.reduceMul, Nat.reduceSub, Nat.reduceLeDiff, Nat.reduceLT, Nat.reduceEqDiff, reduceIte, Nat.zero_le, Nat.le_refl, Nat.add_zero, Nat.zero_add, t0, f2]
      (repeat (refine And.intro (by (first | omega | assumption | trivial | (simp only [inI]; omega) | (simp only [inL]; omega) | (refine jb_01) | (exact jb_in))) ?_))
      refine ih (k + 1) _ (by omega) (hN.st (fun j j2 _ _ _ => up1_ne j2) (by rw [up1_eq]; omega) (by omega) (by rw [up1_ne (by decide)]; exact f5)) (fun w w1 w2 => hQ w (fun a ha => (w1 a ha).trans (upA_ne ha)) w2)
    have k2 : ¬ (B k = 32 ∨ B k = 10) → jW bX3_next (g, d, 0, 0, Q) 2 [some (vR tk), none, none] [] (v, T) 0 0 := by
      intro c
      rw [if_neg (fun q => c q.2)] at hQ
      exact hQ v (fun _ _ => rfl) hN
    refine jW_step ?_
    simp (disch := (first | decide | omega)) only [bX3_next, jxs, hps, jtsw, jlsw, List.length_cons, List.length_nil, true_and, and_true, true_implies, false_implies, implies_true, not_true_eq_false, not_false_eq_true, false_and, and_false, if_true, if_false, or_true, true_or, or_false, false_or, Classical.not_not, and_self, Int.reduceAdd, Int.reduceMul, Int.reduceSub, Int.reduceNeg, Int.reduceLT, Int.reduceLE, Int.reduceEq, Int.reduceNe, Int.reduceToNat, Nat.reduceAdd, Nat.reduceMul, Nat.reduceSub, Nat.reduceLeDiff, Nat.reduceLT, Nat.reduceEqDiff, reduceIte, Nat.zero_le, Nat.le_refl, Nat.add_zero, Nat.zero_add, t0, f0, f1, f2, t1, l1, et]
    (first | refine ⟨fun h9 => (by exfalso; omega), fun _ => ?_⟩ | intro _)
    (repeat (refine And.intro (by (first | omega | assumption | trivial | (simp only [inI]; omega) | (simp only [inL]; omega) | (refine jb_01) | (exact jb_in))) ?_))
    rw [sgn_eq eb (by decide), sgn_eq eb (by decide)]
    refine ⟨fun h => ?_, fun h => ?_⟩
    · exact k1 (Or.inl h)
    · (repeat (refine And.intro (by (first | omega | assumption | trivial | (simp only [inI]; omega) | (simp only [inL]; omega) | (refine jb_01) | (exact jb_in))) ?_))
      refine ⟨fun h2 => ?_, fun h2 => ?_⟩
      · exact k2 (by omega)
      · exact k1 (by omega)
theorem xw_nx_3 : ∀ (r k : Nat) (v : Int → Int → Int), r = n - k → TKN v T tk B n k o kd →
    (∀ w, (∀ a, a ≠ tk → w a = v a) → TKN w T tk B n (leF B n r k) o kd → w tk 3 = v tk 3 → jW bX3_next (g, d + 1, 0, 0, Q) 4 [some (vR tk), none, none] [] (w, T) 0 0) →
    jW bX3_next (g, d + 1, 0, 0, Q) 3 [some (vR tk), none, none] [] (v, T) 0 0 := by
  intro r
  induction r with
  | zero =>
    intro k v hr hN hQ
    obtain ⟨⟨t0, t2⟩, ⟨f0, f1, f2, f6, f7⟩, f5, ⟨n1, n2⟩, ⟨t1, l1⟩, tb, ho, hT2⟩ := id hN
    refine jW_step ?_
    simp (disch := (first | decide | omega)) only [bX3_next, jxs, hps, jtsw, jlsw, List.length_cons, List.length_nil, true_and, and_true, true_implies, false_implies, implies_true, not_true_eq_false, not_false_eq_true, false_and, and_false, if_true, if_false, or_true, true_or, or_false, false_or, Classical.not_not, and_self, Int.reduceAdd, Int.reduceMul, Int.reduceSub, Int.reduceNeg, Int.reduceLT, Int.reduceLE, Int.reduceEq, Int.reduceNe, Int.reduceToNat, Nat.reduceAdd, Nat.reduceMul, Nat.reduceSub, Nat.reduceLeDiff, Nat.reduceLT, Nat.reduceEqDiff, reduceIte, Nat.zero_le, Nat.le_refl, Nat.add_zero, Nat.zero_add, t0, f0, f1, f2]
    (try refine ⟨fun _ => ?_, fun h9 => (by exfalso; omega)⟩)
    exact hQ v (fun _ _ => rfl) hN rfl
  | succ r ih =>
    intro k v hr hN hQ
    obtain ⟨⟨t0, t2⟩, ⟨f0, f1, f2, f6, f7⟩, f5, ⟨n1, n2⟩, ⟨t1, l1⟩, tb, ho, hT2⟩ := id hN
    have hk : k < n := by omega
    obtain ⟨et, eb⟩ := tb k hk
    unfold leF at hQ
    refine jW_step ?_
    simp (disch := (first | decide | omega)) only [bX3_next, jxs, hps, jtsw, jlsw, List.length_cons, List.length_nil, true_and, and_true, true_implies, false_implies, implies_true, not_true_eq_false, not_false_eq_true, false_and, and_false, if_true, if_false, or_true, true_or, or_false, false_or, Classical.not_not, and_self, Int.reduceAdd, Int.reduceMul, Int.reduceSub, Int.reduceNeg, Int.reduceLT, Int.reduceLE, Int.reduceEq, Int.reduceNe, Int.reduceToNat, Nat.reduceAdd, Nat.reduceMul, Nat.reduceSub, Nat.reduceLeDiff, Nat.reduceLT, Nat.reduceEqDiff, reduceIte, Nat.zero_le, Nat.le_refl, Nat.add_zero, Nat.zero_add, t0, f0, f1, f2, t1, l1, et]
    (first | refine ⟨fun h9 => (by exfalso; omega), fun _ => ?_⟩ | intro _)
    (repeat (refine And.intro (by (first | omega | assumption | trivial | (simp only [inI]; omega) | (simp only [inL]; omega) | (refine jb_01) | (exact jb_in))) ?_))
    refine ⟨0, 0, ⟨by omega, by omega⟩, xw_isLetter ?_⟩
    by_cases c : isL (B k)
    · rw [if_pos ⟨hk, c⟩] at hQ
      rw [if_pos ((sgn_isL eb).2 c)]
      simp (disch := (first | decide | omega)) only [jxs, hps, jtsw, jlsw, List.length_cons, List.length_nil, true_and, and_true, true_implies, false_implies, implies_true, not_true_eq_false, not_false_eq_true, false_and, and_false, if_true, if_false, or_true, true_or, or_false, false_or, Classical.not_not, and_self, Int.reduceAdd, Int.reduceMul, Int.reduceSub, Int.reduceNeg, Int.reduceLT, Int.reduceLE, Int.reduceEq, Int.reduceNe, Int.reduceToNat, Nat.reduceAdd, Nat.reduceMul, Nat.reduceSub, Nat.reduceLeDiff, Nat.reduceLT, Nat.reduceEqDiff, reduceIte, Nat.zero_le, Nat.le_refl, Nat.add_zero, Nat.zero_add, t0, f2]
      (repeat (refine And.intro (by (first | omega | assumption | trivial | (simp only [inI]; omega) | (simp only [inL]; omega) | (refine jb_01) | (exact jb_in))) ?_))
      refine ih (k + 1) _ (by omega) (hN.st (fun j j2 _ _ _ => up1_ne j2) (by rw [up1_eq]; omega) (by omega) (by rw [up1_ne (by decide)]; exact f5)) (fun w w1 w2 w3 => hQ w (fun a ha => (w1 a ha).trans (upA_ne ha)) w2 ?_)
      rw [w3, upA_eq, up1_ne (by decide)]
    · rw [if_neg (fun q => c q.2)] at hQ
      rw [if_neg (fun q => c ((sgn_isL eb).1 q))]
      simp (disch := (first | decide | omega)) only [jxs, hps, jtsw, jlsw, List.length_cons, List.length_nil, true_and, and_true, true_implies, false_implies, implies_true, not_true_eq_false, not_false_eq_true, false_and, and_false, if_true, if_false, or_true, true_or, or_false, false_or, Classical.not_not, and_self, Int.reduceAdd, Int.reduceMul, Int.reduceSub, Int.reduceNeg, Int.reduceLT, Int.reduceLE, Int.reduceEq, Int.reduceNe, Int.reduceToNat, Nat.reduceAdd, Nat.reduceMul, Nat.reduceSub, Nat.reduceLeDiff, Nat.reduceLT, Nat.reduceEqDiff, reduceIte, Nat.zero_le, Nat.le_refl, Nat.add_zero, Nat.zero_add]
      exact hQ v (fun _ _ => rfl) hN rfl
theorem xw_nx_7 : ∀ (r k : Nat) (x : Int) (v : Int → Int → Int), r = n - k → TKN v T tk B n k o kd → v tk 5 = x →
    (∀ w, (∀ a, a ≠ tk → w a = v a) → TKN w T tk B n (diF B n r k x).1 o kd → w tk 5 = (diF B n r k x).2 → w tk 3 = v tk 3 → w tk 4 = v tk 4 → jW bX3_next (g, d + 1, 0, 0, Q) 12 [some (vR tk), none, none] [] (w, T) 0 0) →
    jW bX3_next (g, d + 1, 0, 0, Q) 7 [some (vR tk), none, none] [] (v, T) 0 0 := by
  intro r
  induction r with
  | zero =>
    intro k x v hr hN hx hQ
    obtain ⟨⟨t0, t2⟩, ⟨f0, f1, f2, f6, f7⟩, f5, ⟨n1, n2⟩, ⟨t1, l1⟩, tb, ho, hT2⟩ := id hN
    refine jW_step ?_
    simp (disch := (first | decide | omega)) only [bX3_next, jxs, hps, jtsw, jlsw, List.length_cons, List.length_nil, true_and, and_true, true_implies, false_implies, implies_true, not_true_eq_false, not_false_eq_true, false_and, and_false, if_true, if_false, or_true, true_or, or_false, false_or, Classical.not_not, and_self, Int.reduceAdd, Int.reduceMul, Int.reduceSub, Int.reduceNeg, Int.reduceLT, Int.reduceLE, Int.reduceEq, Int.reduceNe, Int.reduceToNat, Nat.reduceAdd, Nat.reduceMul, Nat.reduceSub, Nat.reduceLeDiff, Nat.reduceLT, Nat.reduceEqDiff, reduceIte, Nat.zero_le, Nat.le_refl, Nat.add_zero, Nat.zero_add, t0, f0, f1, f2]
    (try refine ⟨fun _ => ?_, fun h9 => (by exfalso; omega)⟩)
    exact hQ v (fun _ _ => rfl) hN hx rfl rfl
  | succ r ih =>
    intro k x v hr hN hx hQ
    obtain ⟨⟨t0, t2⟩, ⟨f0, f1, f2, f6, f7⟩, f5, ⟨n1, n2⟩, ⟨t1, l1⟩, tb, ho, hT2⟩ := id hN
    have hk : k < n := by omega
    obtain ⟨et, eb⟩ := tb k hk
    rw [hx] at f5
    unfold diF at hQ
    refine jW_step ?_
    simp (disch := (first | decide | omega)) only [bX3_next, jxs, hps, jtsw, jlsw, List.length_cons, List.length_nil, true_and, and_true, true_implies, false_implies, implies_true, not_true_eq_false, not_false_eq_true, false_and, and_false, if_true, if_false, or_true, true_or, or_false, false_or, Classical.not_not, and_self, Int.reduceAdd, Int.reduceMul, Int.reduceSub, Int.reduceNeg, Int.reduceLT, Int.reduceLE, Int.reduceEq, Int.reduceNe, Int.reduceToNat, Nat.reduceAdd, Nat.reduceMul, Nat.reduceSub, Nat.reduceLeDiff, Nat.reduceLT, Nat.reduceEqDiff, reduceIte, Nat.zero_le, Nat.le_refl, Nat.add_zero, Nat.zero_add, t0, f0, f1, f2, t1, l1, et]
    (first | refine ⟨fun h9 => (by exfalso; omega), fun _ => ?_⟩ | intro _)
    (repeat (refine And.intro (by (first | omega | assumption | trivial | (simp only [inI]; omega) | (simp only [inL]; omega) | (refine jb_01) | (exact jb_in))) ?_))
    refine ⟨0, 0, ⟨by omega, by omega⟩, xw_isDigit ?_⟩
    by_cases c : isD (B k)
    · have ee : sgn (B k) = B k := sgn_lo eb (Or.inr (Or.inl c))
      have cc := id c
      unfold isD at cc
      rw [if_pos ⟨hk, c⟩] at hQ
      rw [if_pos ((sgn_isD eb).2 c)]
      rw [ee] at et
      simp (disch := (first | decide | omega)) only [jxs, hps, jtsw, jlsw, List.length_cons, List.length_nil, true_and, and_true, true_implies, false_implies, implies_true, not_true_eq_false, not_false_eq_true, false_and, and_false, if_true, if_false, or_true, true_or, or_false, false_or, Classical.not_not, and_self, Int.reduceAdd, Int.reduceMul, Int.reduceSub, Int.reduceNeg, Int.reduceLT, Int.reduceLE, Int.reduceEq, Int.reduceNe, Int.reduceToNat, Nat.reduceAdd, Nat.reduceMul, Nat.reduceSub, Nat.reduceLeDiff, Nat.reduceLT, Nat.reduceEqDiff, reduceIte, Nat.zero_le, Nat.le_refl, Nat.add_zero, Nat.zero_add, t0, f0, f2, t1, l1, et, hx]
      (repeat (refine And.intro (by (first | omega | assumption | trivial | (simp only [inI]; omega) | (simp only [inL]; omega) | (refine jb_01) | (exact jb_in))) ?_))
      refine ⟨0, 0, ⟨by omega, by omega⟩, xj_min2 ?_ ⟨⟨by omega, by omega⟩, ⟨by omega, by omega⟩⟩⟩
      have mb := m9_bd (x := 10 * x + B k - 48) (by omega)
      have me : (if 10 * x + B k - 48 < 99999 then 10 * x + B k - 48 else 99999) = m9 (10 * x + B k - 48) := rfl
      rw [me]
      generalize m9 (10 * x + B k - 48) = y at *
      simp (disch := (first | decide | omega)) only [jxs, hps, jtsw, jlsw, List.length_cons, List.length_nil, true_and, and_true, true_implies, false_implies, implies_true, not_true_eq_false, not_false_eq_true, false_and, and_false, if_true, if_false, or_true, true_or, or_false, false_or, Classical.not_not, and_self, Int.reduceAdd, Int.reduceMul, Int.reduceSub, Int.reduceNeg, Int.reduceLT, Int.reduceLE, Int.reduceEq, Int.reduceNe, Int.reduceToNat, Nat.reduceAdd, Nat.reduceMul, Nat.reduceSub, Nat.reduceLeDiff, Nat.reduceLT, Nat.reduceEqDiff, reduceIte, Nat.zero_le, Nat.le_refl, Nat.add_zero, Nat.zero_add, t0, f2]
      (repeat (refine And.intro (by (first | omega | assumption | trivial | (simp only [inI]; omega) | (simp only [inL]; omega) | (refine jb_01) | (exact jb_in))) ?_))
      refine ih (k + 1) y _ (by omega) (hN.st (fun j j2 _ _ j5 => by rw [up1_ne j2, up1_ne j5]) (by rw [up1_eq]; omega) (by omega) (by rw [up1_ne (by decide), up1_eq]; exact mb)) (by rw [upA_eq, up1_ne (by decide), up1_eq]) (fun w w1 w2 w3 w4 w5 => hQ w (fun a ha => (w1 a ha).trans (upA_ne ha)) w2 w3 ?_ ?_)
      · rw [w4, upA_eq, up1_ne (by decide), up1_ne (by decide)]
      · rw [w5, upA_eq, up1_ne (by decide), up1_ne (by decide)]
    · rw [if_neg (fun q => c q.2)] at hQ
      rw [if_neg (fun q => c ((sgn_isD eb).1 q))]
      simp (disch := (first | decide | omega)) only [jxs, hps, jtsw, jlsw, List.length_cons, List.length_nil, true_and, and_true, true_implies, false_implies, implies_true, not_true_eq_false, not_false_eq_true, false_and, and_false, if_true, if_false, or_true, true_or, or_false, false_or, Classical.not_not, and_self, Int.reduceAdd, Int.reduceMul, Int.reduceSub, Int.reduceNeg, Int.reduceLT, Int.reduceLE, Int.reduceEq, Int.reduceNe, Int.reduceToNat, Nat.reduceAdd, Nat.reduceMul, Nat.reduceSub, Nat.reduceLeDiff, Nat.reduceLT, Nat.reduceEqDiff, reduceIte, Nat.zero_le, Nat.le_refl, Nat.add_zero, Nat.zero_add]
      exact hQ v (fun _ _ => rfl) hN hx rfl rfl
theorem xw_isWord {s : Int} {l : List Int} {p e : Nat} {v : Int → Int → Int} (hN : TKN v T tk B n e o kd) (hp : v tk 3 = p) (hpe : p ≤ e) (hS : STR v T s l) (hl : l.length < 1000 ∧ ∀ i : Nat, i < l.length → 0 ≤ li0 l i ∧ li0 l i < 128)
    (hQ : Q (.inl (some (vI (if mtW B p e l then 1 else 0)))) (v, T)) : jmet g (d + 5) 0 0 MX3_isWord [vR tk, vR s] (v, T) Q := by
  obtain ⟨⟨t0, t2⟩, ⟨f0, f1, f2, f6, f7⟩, f5, ⟨n1, n2⟩, ⟨t1, l1⟩, tb, ho, hT2⟩ := id hN
  have h16 := hS.1.1
  have lp : ∀ (r i : Nat), i + r = l.length → (e : Int) - p = l.length → (∀ j : Nat, j < i → B ((p : Int) + j) = li0 l j) → jW bX3_isWord (g, d + 4, 0, 0, Q) 1 [some (vR tk), some (vR s), some (vI (i : Int))] [] (v, T) 0 0 := by
    intro r
    induction r with
    | zero =>
      intro i hi he hj
      rw [if_pos ⟨he, fun j hj2 => hj j (by omega)⟩] at hQ
      refine jW_step ?_
      simp (disch := (first | decide | omega)) only [bX3_isWord, jxs, hps, jtsw, jlsw, List.length_cons, List.length_nil, true_and, and_true, true_implies, false_implies, implies_true, not_true_eq_false, not_false_eq_true, false_and, and_false, if_true, if_false, or_true, true_or, or_false, false_or, Classical.not_not, and_self, Int.reduceAdd, Int.reduceMul, Int.reduceSub, Int.reduceNeg, Int.reduceLT, Int.reduceLE, Int.reduceEq, Int.reduceNe, Int.reduceToNat, Nat.reduceAdd, Nat.reduceMul, Nat.reduceSub, Nat.reduceLeDiff, Nat.reduceLT, Nat.reduceEqDiff, reduceIte, Nat.zero_le, Nat.le_refl, Nat.add_zero, Nat.zero_add, h16]
      refine ⟨0, 0, ⟨by omega, by omega⟩, xj_length (d := d + 2) hS hl.1 ?_⟩
      simp (disch := (first | decide | omega)) only [jxs, hps, jtsw, jlsw, List.length_cons, List.length_nil, true_and, and_true, true_implies, false_implies, implies_true, not_true_eq_false, not_false_eq_true, false_and, and_false, if_true, if_false, or_true, true_or, or_false, false_or, Classical.not_not, and_self, Int.reduceAdd, Int.reduceMul, Int.reduceSub, Int.reduceNeg, Int.reduceLT, Int.reduceLE, Int.reduceEq, Int.reduceNe, Int.reduceToNat, Nat.reduceAdd, Nat.reduceMul, Nat.reduceSub, Nat.reduceLeDiff, Nat.reduceLT, Nat.reduceEqDiff, reduceIte, Nat.zero_le, Nat.le_refl, Nat.add_zero, Nat.zero_add]
      (try refine ⟨fun _ => ?_, fun h9 => (by exfalso; omega)⟩)
      (repeat (refine And.intro (by (first | omega | assumption | trivial | (simp only [inI]; omega) | (simp only [inL]; omega) | (refine jb_01) | (exact jb_in))) ?_))
      exact hQ
    | succ r ih =>
      intro i hi he hj
      obtain ⟨et, eb⟩ := tb (p + i) (by omega)
      have ez : (((p + i : Nat)) : Int) = (p : Int) + i := by omega
      rw [ez] at et eb
      have hc := hl.2 i (by omega)
      refine jW_step ?_
      simp (disch := (first | decide | omega)) only [bX3_isWord, jxs, hps, jtsw, jlsw, List.length_cons, List.length_nil, true_and, and_true, true_implies, false_implies, implies_true, not_true_eq_false, not_false_eq_true, false_and, and_false, if_true, if_false, or_true, true_or, or_false, false_or, Classical.not_not, and_self, Int.reduceAdd, Int.reduceMul, Int.reduceSub, Int.reduceNeg, Int.reduceLT, Int.reduceLE, Int.reduceEq, Int.reduceNe, Int.reduceToNat, Nat.reduceAdd, Nat.reduceMul, Nat.reduceSub, Nat.reduceLeDiff, Nat.reduceLT, Nat.reduceEqDiff, reduceIte, Nat.zero_le, Nat.le_refl, Nat.add_zero, Nat.zero_add, h16]
      refine ⟨0, 0, ⟨by omega, by omega⟩, xj_length (d := d + 2) hS hl.1 ?_⟩
      simp (disch := (first | decide | omega)) only [jxs, hps, jtsw, jlsw, List.length_cons, List.length_nil, true_and, and_true, true_implies, false_implies, implies_true, not_true_eq_false, not_false_eq_true, false_and, and_false, if_true, if_false, or_true, true_or, or_false, false_or, Classical.not_not, and_self, Int.reduceAdd, Int.reduceMul, Int.reduceSub, Int.reduceNeg, Int.reduceLT, Int.reduceLE, Int.reduceEq, Int.reduceNe, Int.reduceToNat, Nat.reduceAdd, Nat.reduceMul, Nat.reduceSub, Nat.reduceLeDiff, Nat.reduceLT, Nat.reduceEqDiff, reduceIte, Nat.zero_le, Nat.le_refl, Nat.add_zero, Nat.zero_add, t0, f0, hp, t1, l1, et, h16]
      (first | refine ⟨fun h9 => (by exfalso; omega), fun _ => ?_⟩ | intro _)
      (repeat (refine And.intro (by (first | omega | assumption | trivial | (simp only [inI]; omega) | (simp only [inL]; omega) | (refine jb_01) | (exact jb_in))) ?_))
      refine ⟨0, 0, ⟨by omega, by omega⟩, xj_charAt hS ⟨by omega, by omega⟩ hc ?_⟩
      simp (disch := (first | decide | omega)) only [jxs, hps, jtsw, jlsw, List.length_cons, List.length_nil, true_and, and_true, true_implies, false_implies, implies_true, not_true_eq_false, not_false_eq_true, false_and, and_false, if_true, if_false, or_true, true_or, or_false, false_or, Classical.not_not, and_self, Int.reduceAdd, Int.reduceMul, Int.reduceSub, Int.reduceNeg, Int.reduceLT, Int.reduceLE, Int.reduceEq, Int.reduceNe, Int.reduceToNat, Nat.reduceAdd, Nat.reduceMul, Nat.reduceSub, Nat.reduceLeDiff, Nat.reduceLT, Nat.reduceEqDiff, reduceIte, Nat.zero_le, Nat.le_refl, Nat.add_zero, Nat.zero_add]
      rw [sgn_eq eb hc]
      refine ⟨fun h => ?_, fun h => ?_⟩
      · (repeat (refine And.intro (by (first | omega | assumption | trivial | (simp only [inI]; omega) | (simp only [inL]; omega) | (refine jb_01) | (exact jb_in))) ?_))
        refine ih (i + 1) (by omega) he (fun j hj2 => ?_)
        by_cases q : j = i
        · rw [q]; exact h
        · exact hj j (by omega)
      · rw [if_neg (fun q => h (q.2 i (by omega)))] at hQ
        (repeat (refine And.intro (by (first | omega | assumption | trivial | (simp only [inI]; omega) | (simp only [inL]; omega) | (refine jb_01) | (exact jb_in))) ?_))
        exact hQ
  refine jmet_of (ls := [some (vR tk), some (vR s), none]) sX3_isWord rfl (by decide +kernel) (by decide) rfl (by simp [jent]) ?_
  refine jW_step ?_
  simp (disch := (first | decide | omega)) only [bX3_isWord, jxs, hps, jtsw, jlsw, List.length_cons, List.length_nil, true_and, and_true, true_implies, false_implies, implies_true, not_true_eq_false, not_false_eq_true, false_and, and_false, if_true, if_false, or_true, true_or, or_false, false_or, Classical.not_not, and_self, Int.reduceAdd, Int.reduceMul, Int.reduceSub, Int.reduceNeg, Int.reduceLT, Int.reduceLE, Int.reduceEq, Int.reduceNe, Int.reduceToNat, Nat.reduceAdd, Nat.reduceMul, Nat.reduceSub, Nat.reduceLeDiff, Nat.reduceLT, Nat.reduceEqDiff, reduceIte, Nat.zero_le, Nat.le_refl, Nat.add_zero, Nat.zero_add, t0, f2, hp, h16]
  (repeat (refine And.intro (by (first | omega | assumption | trivial | (simp only [inI]; omega) | (simp only [inL]; omega) | (refine jb_01) | (exact jb_in))) ?_))
  refine ⟨0, 0, ⟨by omega, by omega⟩, xj_length (d := d + 2) hS hl.1 ?_⟩
  simp (disch := (first | decide | omega)) only [jxs, hps, jtsw, jlsw, List.length_cons, List.length_nil, true_and, and_true, true_implies, false_implies, implies_true, not_true_eq_false, not_false_eq_true, false_and, and_false, if_true, if_false, or_true, true_or, or_false, false_or, Classical.not_not, and_self, Int.reduceAdd, Int.reduceMul, Int.reduceSub, Int.reduceNeg, Int.reduceLT, Int.reduceLE, Int.reduceEq, Int.reduceNe, Int.reduceToNat, Nat.reduceAdd, Nat.reduceMul, Nat.reduceSub, Nat.reduceLeDiff, Nat.reduceLT, Nat.reduceEqDiff, reduceIte, Nat.zero_le, Nat.le_refl, Nat.add_zero, Nat.zero_add]
  refine ⟨fun h => ?_, fun h => ?_⟩
  · exact lp l.length 0 (by omega) h (fun j hj => by omega)
  · rw [if_neg (fun q => h q.1)] at hQ
    (repeat (refine And.intro (by (first | omega | assumption | trivial | (simp only [inI]; omega) | (simp only [inL]; omega) | (refine jb_01) | (exact jb_in))) ?_))
    exact hQ
theorem xw_nx_5 {p e : Nat} (hpe : p ≤ e) : ∀ (r w : Nat) (v : Int → Int → Int), w + r = 29 → TKN v T tk B n e o kd → v tk 3 = p → v tk 4 = wdF B p e w →
    (∀ u l1, (∀ a, a ≠ tk → u a = v a) → TKN u T tk B n e o kd → u tk 3 = p → u tk 4 = wdF B p e 29 → jW bX3_next (g, d + 5, 0, 0, Q) 12 [some (vR tk), l1, none] [] (u, T) 0 0) →
    jW bX3_next (g, d + 5, 0, 0, Q) 5 [some (vR tk), some (vI (w : Int)), none] [] (v, T) 0 0 := by
  intro r
  induction r with
  | zero =>
    intro w v hw hN h3 h4 hQ
    obtain ⟨⟨t0, t2⟩, ⟨f0, f1, f2, f6, f7⟩, f5, ⟨n1, n2⟩, ⟨t1, l1⟩, tb, ho, hT2⟩ := id hN
    obtain ⟨⟨w1, w2⟩, w3, _⟩ := id ho
    have ew : w = 29 := by omega
    subst ew
    refine jW_step ?_
    simp (disch := (first | decide | omega)) only [bX3_next, jxs, hps, jtsw, jlsw, List.length_cons, List.length_nil, true_and, and_true, true_implies, false_implies, implies_true, not_true_eq_false, not_false_eq_true, false_and, and_false, if_true, if_false, or_true, true_or, or_false, false_or, Classical.not_not, and_self, Int.reduceAdd, Int.reduceMul, Int.reduceSub, Int.reduceNeg, Int.reduceLT, Int.reduceLE, Int.reduceEq, Int.reduceNe, Int.reduceToNat, Nat.reduceAdd, Nat.reduceMul, Nat.reduceSub, Nat.reduceLeDiff, Nat.reduceLT, Nat.reduceEqDiff, reduceIte, Nat.zero_le, Nat.le_refl, Nat.add_zero, Nat.zero_add, w1, w2]
    (try refine ⟨fun _ => ?_, fun h9 => (by exfalso; omega)⟩)
    exact hQ v _ (fun _ _ => rfl) hN h3 h4
  | succ r ih =>
    intro w v hw hN h3 h4 hQ
    obtain ⟨⟨t0, t2⟩, ⟨f0, f1, f2, f6, f7⟩, f5, ⟨n1, n2⟩, ⟨t1, l1⟩, tb, ho, hT2⟩ := id hN
    obtain ⟨⟨w1, w2⟩, w3, _⟩ := id ho
    have k6 : ∀ u, (∀ a, a ≠ tk → u a = v a) → TKN u T tk B n e o kd → u tk 3 = p → u tk 4 = wdF B p e (w + 1) → jW bX3_next (g, d + 5, 0, 0, Q) 6 [some (vR tk), some (vI (w : Int)), none] [] (u, T) 0 0 := by
      intro u u1 u2 u3 u4
      refine jW_step ?_
      simp (disch := (first | decide | omega)) only [bX3_next, jxs, hps, jtsw, jlsw, List.length_cons, List.length_nil, true_and, and_true, true_implies, false_implies, implies_true, not_true_eq_false, not_false_eq_true, false_and, and_false, if_true, if_false, or_true, true_or, or_false, false_or, Classical.not_not, and_self, Int.reduceAdd, Int.reduceMul, Int.reduceSub, Int.reduceNeg, Int.reduceLT, Int.reduceLE, Int.reduceEq, Int.reduceNe, Int.reduceToNat, Nat.reduceAdd, Nat.reduceMul, Nat.reduceSub, Nat.reduceLeDiff, Nat.reduceLT, Nat.reduceEqDiff, reduceIte, Nat.zero_le, Nat.le_refl, Nat.add_zero, Nat.zero_add]
      (repeat (refine And.intro (by (first | omega | assumption | trivial | (simp only [inI]; omega) | (simp only [inL]; omega) | (refine jb_01) | (exact jb_in))) ?_))
      have := ih (w + 1) u (by omega) u2 u3 u4 (fun y l1 y1 y2 y3 y4 => hQ y l1 (fun a ha => (y1 a ha).trans (u1 a ha)) y2 y3 y4)
      rwa [show ((w + 1 : Nat) : Int) = (w : Int) + 1 by omega] at this
    refine jW_step ?_
    simp (disch := (first | decide | omega)) only [bX3_next, jxs, hps, jtsw, jlsw, List.length_cons, List.length_nil, true_and, and_true, true_implies, false_implies, implies_true, not_true_eq_false, not_false_eq_true, false_and, and_false, if_true, if_false, or_true, true_or, or_false, false_or, Classical.not_not, and_self, Int.reduceAdd, Int.reduceMul, Int.reduceSub, Int.reduceNeg, Int.reduceLT, Int.reduceLE, Int.reduceEq, Int.reduceNe, Int.reduceToNat, Nat.reduceAdd, Nat.reduceMul, Nat.reduceSub, Nat.reduceLeDiff, Nat.reduceLT, Nat.reduceEqDiff, reduceIte, Nat.zero_le, Nat.le_refl, Nat.add_zero, Nat.zero_add, w1, w2, t0]
    (first | refine ⟨fun h9 => (by exfalso; omega), fun _ => ?_⟩ | intro _)
    (repeat (refine And.intro (by (first | omega | assumption | trivial | (simp only [inI]; omega) | (simp only [inL]; omega) | (refine jb_01) | (exact jb_in))) ?_))
    refine ⟨0, 0, ⟨by omega, by omega⟩, xw_isWord hN h3 hpe (w3 w (by omega)) (WD_ch (by omega)) ?_⟩
    by_cases c : mtW B p e (WD w)
    · rw [if_pos c]
      simp (disch := (first | decide | omega)) only [jxs, hps, jtsw, jlsw, List.length_cons, List.length_nil, true_and, and_true, true_implies, false_implies, implies_true, not_true_eq_false, not_false_eq_true, false_and, and_false, if_true, if_false, or_true, true_or, or_false, false_or, Classical.not_not, and_self, Int.reduceAdd, Int.reduceMul, Int.reduceSub, Int.reduceNeg, Int.reduceLT, Int.reduceLE, Int.reduceEq, Int.reduceNe, Int.reduceToNat, Nat.reduceAdd, Nat.reduceMul, Nat.reduceSub, Nat.reduceLeDiff, Nat.reduceLT, Nat.reduceEqDiff, reduceIte, Nat.zero_le, Nat.le_refl, Nat.add_zero, Nat.zero_add, t0]
      (repeat (refine And.intro (by (first | omega | assumption | trivial | (simp only [inI]; omega) | (simp only [inL]; omega) | (refine jb_01) | (exact jb_in))) ?_))
      refine k6 _ (fun a ha => upA_ne ha) (hN.st (fun j _ _ j4 _ => up1_ne j4) (by rw [up1_ne (by decide)]; exact f2) n2 (by rw [up1_ne (by decide)]; exact f5)) (by rw [upA_eq, up1_ne (by decide)]; exact h3) ?_
      rw [upA_eq, up1_eq]
      unfold wdF
      rw [if_pos c]
    · rw [if_neg c]
      simp (disch := (first | decide | omega)) only [jxs, hps, jtsw, jlsw, List.length_cons, List.length_nil, true_and, and_true, true_implies, false_implies, implies_true, not_true_eq_false, not_false_eq_true, false_and, and_false, if_true, if_false, or_true, true_or, or_false, false_or, Classical.not_not, and_self, Int.reduceAdd, Int.reduceMul, Int.reduceSub, Int.reduceNeg, Int.reduceLT, Int.reduceLE, Int.reduceEq, Int.reduceNe, Int.reduceToNat, Nat.reduceAdd, Nat.reduceMul, Nat.reduceSub, Nat.reduceLeDiff, Nat.reduceLT, Nat.reduceEqDiff, reduceIte, Nat.zero_le, Nat.le_refl, Nat.add_zero, Nat.zero_add]
      refine k6 v (fun _ _ => rfl) hN h3 ?_
      unfold wdF
      rw [if_neg c]
      exact h4
theorem xw_nx_8 {e : Nat} {c p : Int} : ∀ (r k : Nat) (v : Int → Int → Int), k + r = 11 → TKN v T tk B n e o kd → v tk 3 = p → v tk 4 = sgF c k → inI c →
    (∀ u l2, (∀ a, a ≠ tk → u a = v a) → TKN u T tk B n e o kd → u tk 3 = p → u tk 4 = sgF c 11 → ((c = 60 ∨ c = 62) → jW bX3_next (g, d + 5, 0, 0, Q) 10 [some (vR tk), some (vI c), l2] [] (u, T) 0 0) ∧ (¬ (c = 60 ∨ c = 62) → jW bX3_next (g, d + 5, 0, 0, Q) 12 [some (vR tk), some (vI c), l2] [] (u, T) 0 0)) →
    jW bX3_next (g, d + 5, 0, 0, Q) 8 [some (vR tk), some (vI c), some (vI (k : Int))] [] (v, T) 0 0 := by
  intro r
  induction r with
  | zero =>
    intro k v hk hN h3 h4 hc hQ
    obtain ⟨⟨t0, t2⟩, ⟨f0, f1, f2, f6, f7⟩, f5, ⟨n1, n2⟩, ⟨t1, l1⟩, tb, ho, hT2⟩ := id hN
    obtain ⟨_, _, w4, _⟩ := id ho
    have w16 := w4.1.1
    have ek : k = 11 := by omega
    subst ek
    have q := hQ v (some (vI ((11 : Nat) : Int))) (fun _ _ => rfl) hN h3 h4
    refine jW_step ?_
    simp (disch := (first | decide | omega)) only [bX3_next, jxs, hps, jtsw, jlsw, List.length_cons, List.length_nil, true_and, and_true, true_implies, false_implies, implies_true, not_true_eq_false, not_false_eq_true, false_and, and_false, if_true, if_false, or_true, true_or, or_false, false_or, Classical.not_not, and_self, Int.reduceAdd, Int.reduceMul, Int.reduceSub, Int.reduceNeg, Int.reduceLT, Int.reduceLE, Int.reduceEq, Int.reduceNe, Int.reduceToNat, Nat.reduceAdd, Nat.reduceMul, Nat.reduceSub, Nat.reduceLeDiff, Nat.reduceLT, Nat.reduceEqDiff, reduceIte, Nat.zero_le, Nat.le_refl, Nat.add_zero, Nat.zero_add, w16]
    refine ⟨0, 0, ⟨by omega, by omega⟩, xj_length (d := d + 3) w4 (by decide) ?_⟩
    have el : (SGL.length : Int) = 11 := by decide
    rw [el]
    simp (disch := (first | decide | omega)) only [jxs, hps, jtsw, jlsw, List.length_cons, List.length_nil, true_and, and_true, true_implies, false_implies, implies_true, not_true_eq_false, not_false_eq_true, false_and, and_false, if_true, if_false, or_true, true_or, or_false, false_or, Classical.not_not, and_self, Int.reduceAdd, Int.reduceMul, Int.reduceSub, Int.reduceNeg, Int.reduceLT, Int.reduceLE, Int.reduceEq, Int.reduceNe, Int.reduceToNat, Nat.reduceAdd, Nat.reduceMul, Nat.reduceSub, Nat.reduceLeDiff, Nat.reduceLT, Nat.reduceEqDiff, reduceIte, Nat.zero_le, Nat.le_refl, Nat.add_zero, Nat.zero_add]
    (try refine ⟨fun _ => ?_, fun h9 => (by exfalso; omega)⟩)
    refine ⟨fun h => ?_, fun h => ?_⟩
    · exact q.1 (Or.inl h)
    · refine ⟨fun h2 => ?_, fun h2 => ?_⟩
      · exact q.2 (by omega)
      · exact q.1 (by omega)
  | succ r ih =>
    intro k v hk hN h3 h4 hc hQ
    obtain ⟨⟨t0, t2⟩, ⟨f0, f1, f2, f6, f7⟩, f5, ⟨n1, n2⟩, ⟨t1, l1⟩, tb, ho, hT2⟩ := id hN
    obtain ⟨_, _, w4, _⟩ := id ho
    have w16 := w4.1.1
    have el : (SGL.length : Int) = 11 := by decide
    have hz : 0 ≤ li0 SGL k ∧ li0 SGL k < 128 := by
      have key : ∀ i : Fin 11, 0 ≤ li0 SGL ((i.val : Nat) : Int) ∧ li0 SGL ((i.val : Nat) : Int) < 128 := by decide
      exact key ⟨k, by omega⟩
    have k9 : ∀ u, (∀ a, a ≠ tk → u a = v a) → TKN u T tk B n e o kd → u tk 3 = p → u tk 4 = sgF c (k + 1) → jW bX3_next (g, d + 5, 0, 0, Q) 9 [some (vR tk), some (vI c), some (vI (k : Int))] [] (u, T) 0 0 := by
      intro u u1 u2 u3 u4
      refine jW_step ?_
      simp (disch := (first | decide | omega)) only [bX3_next, jxs, hps, jtsw, jlsw, List.length_cons, List.length_nil, true_and, and_true, true_implies, false_implies, implies_true, not_true_eq_false, not_false_eq_true, false_and, and_false, if_true, if_false, or_true, true_or, or_false, false_or, Classical.not_not, and_self, Int.reduceAdd, Int.reduceMul, Int.reduceSub, Int.reduceNeg, Int.reduceLT, Int.reduceLE, Int.reduceEq, Int.reduceNe, Int.reduceToNat, Nat.reduceAdd, Nat.reduceMul, Nat.reduceSub, Nat.reduceLeDiff, Nat.reduceLT, Nat.reduceEqDiff, reduceIte, Nat.zero_le, Nat.le_refl, Nat.add_zero, Nat.zero_add]
      (repeat (refine And.intro (by (first | omega | assumption | trivial | (simp only [inI]; omega) | (simp only [inL]; omega) | (refine jb_01) | (exact jb_in))) ?_))
      have := ih (k + 1) u (by omega) u2 u3 u4 hc (fun y l2 y1 y2 y3 y4 => hQ y l2 (fun a ha => (y1 a ha).trans (u1 a ha)) y2 y3 y4)
      rwa [show ((k + 1 : Nat) : Int) = (k : Int) + 1 by omega] at this
    refine jW_step ?_
    simp (disch := (first | decide | omega)) only [bX3_next, jxs, hps, jtsw, jlsw, List.length_cons, List.length_nil, true_and, and_true, true_implies, false_implies, implies_true, not_true_eq_false, not_false_eq_true, false_and, and_false, if_true, if_false, or_true, true_or, or_false, false_or, Classical.not_not, and_self, Int.reduceAdd, Int.reduceMul, Int.reduceSub, Int.reduceNeg, Int.reduceLT, Int.reduceLE, Int.reduceEq, Int.reduceNe, Int.reduceToNat, Nat.reduceAdd, Nat.reduceMul, Nat.reduceSub, Nat.reduceLeDiff, Nat.reduceLT, Nat.reduceEqDiff, reduceIte, Nat.zero_le, Nat.le_refl, Nat.add_zero, Nat.zero_add, w16]
    refine ⟨0, 0, ⟨by omega, by omega⟩, xj_length (d := d + 3) w4 (by decide) ?_⟩
    rw [el]
    simp (disch := (first | decide | omega)) only [jxs, hps, jtsw, jlsw, List.length_cons, List.length_nil, true_and, and_true, true_implies, false_implies, implies_true, not_true_eq_false, not_false_eq_true, false_and, and_false, if_true, if_false, or_true, true_or, or_false, false_or, Classical.not_not, and_self, Int.reduceAdd, Int.reduceMul, Int.reduceSub, Int.reduceNeg, Int.reduceLT, Int.reduceLE, Int.reduceEq, Int.reduceNe, Int.reduceToNat, Nat.reduceAdd, Nat.reduceMul, Nat.reduceSub, Nat.reduceLeDiff, Nat.reduceLT, Nat.reduceEqDiff, reduceIte, Nat.zero_le, Nat.le_refl, Nat.add_zero, Nat.zero_add, w16]
    (first | refine ⟨fun h9 => (by exfalso; omega), fun _ => ?_⟩ | intro _)
    refine ⟨0, 0, ⟨by omega, by omega⟩, xj_charAt (d := d + 1) w4 ⟨by omega, by omega⟩ hz ?_⟩
    simp (disch := (first | decide | omega)) only [jxs, hps, jtsw, jlsw, List.length_cons, List.length_nil, true_and, and_true, true_implies, false_implies, implies_true, not_true_eq_false, not_false_eq_true, false_and, and_false, if_true, if_false, or_true, true_or, or_false, false_or, Classical.not_not, and_self, Int.reduceAdd, Int.reduceMul, Int.reduceSub, Int.reduceNeg, Int.reduceLT, Int.reduceLE, Int.reduceEq, Int.reduceNe, Int.reduceToNat, Nat.reduceAdd, Nat.reduceMul, Nat.reduceSub, Nat.reduceLeDiff, Nat.reduceLT, Nat.reduceEqDiff, reduceIte, Nat.zero_le, Nat.le_refl, Nat.add_zero, Nat.zero_add, t0]
    refine ⟨fun h => ?_, fun h => ?_⟩
    · refine k9 v (fun _ _ => rfl) hN h3 ?_
      unfold sgF
      rw [if_neg h]
      exact h4
    · (repeat (refine And.intro (by (first | omega | assumption | trivial | (simp only [inI]; omega) | (simp only [inL]; omega) | (refine jb_01) | (exact jb_in))) ?_))
      refine k9 _ (fun a ha => upA_ne ha) (hN.st (fun j _ _ j4 _ => up1_ne j4) (by rw [up1_ne (by decide)]; exact f2) n2 (by rw [up1_ne (by decide)]; exact f5)) (by rw [upA_eq, up1_ne (by decide)]; exact h3) ?_
      rw [upA_eq, up1_eq]
      unfold sgF
      rw [if_pos (by omega)]
theorem xw_next {k : Nat} {v : Int → Int → Int} (hN : TKN v T tk B n k o kd) (hQ : ∀ w, (∀ a, a ≠ tk → w a = v a) → TKS w T tk B n k o kd → Q (.inl none) (w, T)) : jmet g (d + 6) 0 0 MX3_next [vR tk] (v, T) Q := by
  have hkn := hN.2.2.2.1.2
  refine jmet_of (ls := [some (vR tk), none, none]) sX3_next rfl (by decide +kernel) (by decide) rfl (by simp [jent]) ?_
  refine xw_nx_0 (d := d + 5) (n - k) k v rfl hN ?_
  intro w w1 w2
  have pb := pl_bd (B := B) hkn
  have w2' : TKN w T tk B n (pl B n k) o kd := w2
  have fin : ∀ u l1 l2, (∀ a, a ≠ tk → u a = v a) → TKN u T tk B n (nxT B n k) o kd → u tk 3 = (pl B n k : Int) → u tk 4 = stT B n k → (stT B n k = 300 → u tk 5 = nuT B n k) → jW bX3_next (g, d + 5, 0, 0, Q) 12 [some (vR tk), l1, l2] [] (u, T) 0 0 := by
    intro u l1 l2 u1 u2 u3 u4 u5
    refine jW_step ?_
    simp (disch := (first | decide | omega)) only [bX3_next, jxs, hps, jtsw, jlsw, List.length_cons, List.length_nil, true_and, and_true, true_implies, false_implies, implies_true, not_true_eq_false, not_false_eq_true, false_and, and_false, if_true, if_false, or_true, true_or, or_false, false_or, Classical.not_not, and_self, Int.reduceAdd, Int.reduceMul, Int.reduceSub, Int.reduceNeg, Int.reduceLT, Int.reduceLE, Int.reduceEq, Int.reduceNe, Int.reduceToNat, Nat.reduceAdd, Nat.reduceMul, Nat.reduceSub, Nat.reduceLeDiff, Nat.reduceLT, Nat.reduceEqDiff, reduceIte, Nat.zero_le, Nat.le_refl, Nat.add_zero, Nat.zero_add]
    (repeat (refine And.intro (by (first | omega | assumption | trivial | (simp only [inI]; omega) | (simp only [inL]; omega) | (refine jb_01) | (exact jb_in))) ?_))
    exact hQ u u1 ⟨u2, u3, u4, u5, hkn⟩
  clear w2
  unfold nxT stT nuT tkA at fin
  generalize pl B n k = p at *
  obtain ⟨⟨t0, t2⟩, ⟨f0, f1, f2, f6, f7⟩, f5, ⟨n1, n2⟩, ⟨t1, l1⟩, tb, ho, hT2⟩ := id w2'
  have hNp : TKN (upA w tk (up1 (w tk) 3 p)) T tk B n p o kd := w2'.st (fun j _ j3 _ _ => up1_ne j3) (by rw [up1_ne (by decide)]; exact f2) n2 (by rw [up1_ne (by decide)]; exact f5)
  have up : ∀ a, a ≠ tk → (upA w tk (up1 (w tk) 3 p)) a = v a := fun a ha => (upA_ne ha).trans (w1 a ha)
  have u3 : (upA w tk (up1 (w tk) 3 p)) tk 3 = p := by rw [upA_eq, up1_eq]
  refine jW_step ?_
  simp (disch := (first | decide | omega)) only [bX3_next, jxs, hps, jtsw, jlsw, List.length_cons, List.length_nil, true_and, and_true, true_implies, false_implies, implies_true, not_true_eq_false, not_false_eq_true, false_and, and_false, if_true, if_false, or_true, true_or, or_false, false_or, Classical.not_not, and_self, Int.reduceAdd, Int.reduceMul, Int.reduceSub, Int.reduceNeg, Int.reduceLT, Int.reduceLE, Int.reduceEq, Int.reduceNe, Int.reduceToNat, Nat.reduceAdd, Nat.reduceMul, Nat.reduceSub, Nat.reduceLeDiff, Nat.reduceLT, Nat.reduceEqDiff, reduceIte, Nat.zero_le, Nat.le_refl, Nat.add_zero, Nat.zero_add, t0, f0, f1, f2]
  (repeat (refine And.intro (by (first | omega | assumption | trivial | (simp only [inI]; omega) | (simp only [inL]; omega) | (refine jb_01) | (exact jb_in))) ?_))
  generalize upA w tk (up1 (w tk) 3 (p : Int)) = u at *
  have tbw := tb
  clear f5 tb ho
  obtain ⟨-, ⟨g0, g1, g2, g6, g7⟩, g5, -, -, tb, ho, -⟩ := id hNp
  by_cases c : p < n
  · rw [if_pos c] at fin
    obtain ⟨et, eb⟩ := tb p c
    have etw := (tbw p c).1
    (try refine ⟨fun _ => ?_, fun h9 => (by exfalso; omega)⟩)
    simp (disch := (first | decide | omega)) only [jxs, hps, jtsw, jlsw, List.length_cons, List.length_nil, true_and, and_true, true_implies, false_implies, implies_true, not_true_eq_false, not_false_eq_true, false_and, and_false, if_true, if_false, or_true, true_or, or_false, false_or, Classical.not_not, and_self, Int.reduceAdd, Int.reduceMul, Int.reduceSub, Int.reduceNeg, Int.reduceLT, Int.reduceLE, Int.reduceEq, Int.reduceNe, Int.reduceToNat, Nat.reduceAdd, Nat.reduceMul, Nat.reduceSub, Nat.reduceLeDiff, Nat.reduceLT, Nat.reduceEqDiff, reduceIte, Nat.zero_le, Nat.le_refl, Nat.add_zero, Nat.zero_add, t0, g0, g2, t1, l1, et, etw]
    (repeat (refine And.intro (by (first | omega | assumption | trivial | (simp only [inI]; omega) | (simp only [inL]; omega) | (refine jb_01) | (exact jb_in))) ?_))
    refine ⟨0, 0, ⟨by omega, by omega⟩, xw_isLetter (d := d + 4) ?_⟩
    by_cases c1 : isL (B p)
    · rw [if_pos c1] at fin
      rw [if_pos ((sgn_isL eb).2 c1)]
      simp (disch := (first | decide | omega)) only [jxs, hps, jtsw, jlsw, List.length_cons, List.length_nil, true_and, and_true, true_implies, false_implies, implies_true, not_true_eq_false, not_false_eq_true, false_and, and_false, if_true, if_false, or_true, true_or, or_false, false_or, Classical.not_not, and_self, Int.reduceAdd, Int.reduceMul, Int.reduceSub, Int.reduceNeg, Int.reduceLT, Int.reduceLE, Int.reduceEq, Int.reduceNe, Int.reduceToNat, Nat.reduceAdd, Nat.reduceMul, Nat.reduceSub, Nat.reduceLeDiff, Nat.reduceLT, Nat.reduceEqDiff, reduceIte, Nat.zero_le, Nat.le_refl, Nat.add_zero, Nat.zero_add]
      refine xw_nx_3 (d := d + 4) (n - p) p u rfl hNp ?_
      intro y y1 y2 y3
      have lb := leF_bd (B := B) (n := n) (n - p) p
      obtain ⟨-, ⟨-, -, m2, -, -⟩, m5, -, -, -, -, -⟩ := id y2
      refine jW_step ?_
      simp (disch := (first | decide | omega)) only [bX3_next, jxs, hps, jtsw, jlsw, List.length_cons, List.length_nil, true_and, and_true, true_implies, false_implies, implies_true, not_true_eq_false, not_false_eq_true, false_and, and_false, if_true, if_false, or_true, true_or, or_false, false_or, Classical.not_not, and_self, Int.reduceAdd, Int.reduceMul, Int.reduceSub, Int.reduceNeg, Int.reduceLT, Int.reduceLE, Int.reduceEq, Int.reduceNe, Int.reduceToNat, Nat.reduceAdd, Nat.reduceMul, Nat.reduceSub, Nat.reduceLeDiff, Nat.reduceLT, Nat.reduceEqDiff, reduceIte, Nat.zero_le, Nat.le_refl, Nat.add_zero, Nat.zero_add, t0]
      (repeat (refine And.intro (by (first | omega | assumption | trivial | (simp only [inI]; omega) | (simp only [inL]; omega) | (refine jb_01) | (exact jb_in))) ?_))
      refine xw_nx_5 (p := p) lb.1 29 0 _ rfl (y2.st (fun j _ _ j4 _ => up1_ne j4) (by rw [up1_ne (by decide)]; exact m2) (lb.2 n2) (by rw [up1_ne (by decide)]; exact m5)) (by rw [upA_eq, up1_ne (by decide), y3]; exact u3) (by rw [upA_eq, up1_eq]; rfl) ?_
      intro x l1 x1 x2 x3 x4
      refine fin x l1 none (fun a ha => by rw [x1 a ha, upA_ne ha, y1 a ha, up a ha]) x2 x3 x4 (fun q => ?_)
      have wb := wdF_bd (B := B) (p := p) (e := leF B n (n - p) p) 29
      dsimp only at q
      omega
    · rw [if_neg c1] at fin
      rw [if_neg (fun q => c1 ((sgn_isL eb).1 q))]
      simp (disch := (first | decide | omega)) only [jxs, hps, jtsw, jlsw, List.length_cons, List.length_nil, true_and, and_true, true_implies, false_implies, implies_true, not_true_eq_false, not_false_eq_true, false_and, and_false, if_true, if_false, or_true, true_or, or_false, false_or, Classical.not_not, and_self, Int.reduceAdd, Int.reduceMul, Int.reduceSub, Int.reduceNeg, Int.reduceLT, Int.reduceLE, Int.reduceEq, Int.reduceNe, Int.reduceToNat, Nat.reduceAdd, Nat.reduceMul, Nat.reduceSub, Nat.reduceLeDiff, Nat.reduceLT, Nat.reduceEqDiff, reduceIte, Nat.zero_le, Nat.le_refl, Nat.add_zero, Nat.zero_add, t0, g0, g2, t1, l1, et, etw]
      (repeat (refine And.intro (by (first | omega | assumption | trivial | (simp only [inI]; omega) | (simp only [inL]; omega) | (refine jb_01) | (exact jb_in))) ?_))
      refine ⟨0, 0, ⟨by omega, by omega⟩, xw_isDigit (d := d + 4) ?_⟩
      by_cases c2 : isD (B p)
      · rw [if_pos c2] at fin
        rw [if_pos ((sgn_isD eb).2 c2)]
        simp (disch := (first | decide | omega)) only [jxs, hps, jtsw, jlsw, List.length_cons, List.length_nil, true_and, and_true, true_implies, false_implies, implies_true, not_true_eq_false, not_false_eq_true, false_and, and_false, if_true, if_false, or_true, true_or, or_false, false_or, Classical.not_not, and_self, Int.reduceAdd, Int.reduceMul, Int.reduceSub, Int.reduceNeg, Int.reduceLT, Int.reduceLE, Int.reduceEq, Int.reduceNe, Int.reduceToNat, Nat.reduceAdd, Nat.reduceMul, Nat.reduceSub, Nat.reduceLeDiff, Nat.reduceLT, Nat.reduceEqDiff, reduceIte, Nat.zero_le, Nat.le_refl, Nat.add_zero, Nat.zero_add, t0]
        (repeat (refine And.intro (by (first | omega | assumption | trivial | (simp only [inI]; omega) | (simp only [inL]; omega) | (refine jb_01) | (exact jb_in))) ?_))
        refine xw_nx_7 (d := d + 4) (n - p) p 0 _ rfl (hNp.st (fun j _ _ j4 j5 => by rw [up1_ne j5, up1_ne j4]) (by rw [up1_ne (by decide), up1_ne (by decide)]; exact g2) n2 (by rw [up1_eq]; omega)) (by rw [upA_eq, up1_eq]) ?_
        intro x x1 x2 x3 x4 x5
        refine fin x none none (fun a ha => by rw [x1 a ha, upA_ne ha, up a ha]) x2 ?_ ?_ (fun _ => x3)
        · rw [x4, upA_eq, up1_ne (by decide), up1_ne (by decide)]; exact u3
        · rw [x5, upA_eq, up1_ne (by decide), up1_eq]
      · rw [if_neg c2] at fin
        rw [if_neg (fun q => c2 ((sgn_isD eb).1 q))]
        simp (disch := (first | decide | omega)) only [jxs, hps, jtsw, jlsw, List.length_cons, List.length_nil, true_and, and_true, true_implies, false_implies, implies_true, not_true_eq_false, not_false_eq_true, false_and, and_false, if_true, if_false, or_true, true_or, or_false, false_or, Classical.not_not, and_self, Int.reduceAdd, Int.reduceMul, Int.reduceSub, Int.reduceNeg, Int.reduceLT, Int.reduceLE, Int.reduceEq, Int.reduceNe, Int.reduceToNat, Nat.reduceAdd, Nat.reduceMul, Nat.reduceSub, Nat.reduceLeDiff, Nat.reduceLT, Nat.reduceEqDiff, reduceIte, Nat.zero_le, Nat.le_refl, Nat.add_zero, Nat.zero_add, t0, g0, g2, t1, l1, et, etw]
        (repeat (refine And.intro (by (first | omega | assumption | trivial | (simp only [inI]; omega) | (simp only [inL]; omega) | (refine jb_01) | (exact jb_in))) ?_))
        have ie : inI (sgn (B p)) := by unfold sgn; split <;> exact ⟨by omega, by omega⟩
        refine xw_nx_8 (c := sgn (B p)) (p := p) (e := p + 1) 11 0 _ rfl (hNp.st (fun j j2 _ j4 _ => by rw [up1_ne j4, up1_ne j2]) (by rw [up1_ne (by decide), up1_eq]; omega) (by omega) (by rw [up1_ne (by decide), up1_ne (by decide)]; exact g5)) (by rw [upA_eq, up1_ne (by decide), up1_ne (by decide)]; exact u3) (by rw [upA_eq, up1_eq]; rfl) ie ?_
        intro x l2 x1 x2 x3 x4
        have xa : ∀ a, a ≠ tk → x a = v a := fun a ha => by rw [x1 a ha, upA_ne ha, up a ha]
        have es : sgF (sgn (B p)) 11 = if isS (B p) then B p else 302 := by
          rw [sgF_11]
          by_cases q : isS (B p)
          · have b := SGL_bd q
            rw [sgn_lo eb (Or.inr (Or.inr (by omega))), if_pos q]
          · rw [if_neg q, if_neg (fun q2 => ?_)]
            have b := SGL_bd q2
            have : sgn (B p) = B p := by unfold sgn at b ⊢; split at b <;> (first | rw [if_pos (by assumption)] | omega)
            rw [this] at q2
            exact q q2
        rw [es] at x4
        have e6 : sgn (B p) = 60 ↔ B p = 60 := sgn_eq eb (by decide)
        have e7 : sgn (B p) = 62 ↔ B p = 62 := sgn_eq eb (by decide)
        have sne : ∀ z : Int, z = (if isS (B p) then B p else 302) → z ≠ 300 := by
          intro z hz
          rw [hz]
          split
          · rename_i q
            have := SGL_bd q
            omega
          · decide
        refine ⟨fun q => ?_, fun q => ?_⟩
        · rw [e6, e7] at q
          have n10 : ¬ (p + 1 < n ∧ B ((p + 1 : Nat)) = 61) → jW bX3_next (g, d + 5, 0, 0, Q) 12 [some (vR tk), some (vI (sgn (B p))), l2] [] (x, T) 0 0 := by
            intro h
            rw [if_neg (fun q2 => h q2.2)] at fin
            exact fin x _ _ xa x2 x3 x4 (fun q2 => (sne _ rfl q2).elim)
          obtain ⟨-, ⟨h0, h1, h2, h6, h7⟩, h5, -, -, tbx, -, -⟩ := id x2
          by_cases c3 : p + 1 < n
          · obtain ⟨et2, eb2⟩ := tbx (p + 1) c3
            refine jW_step ?_
            simp (disch := (first | decide | omega)) only [bX3_next, jxs, hps, jtsw, jlsw, List.length_cons, List.length_nil, true_and, and_true, true_implies, false_implies, implies_true, not_true_eq_false, not_false_eq_true, false_and, and_false, if_true, if_false, or_true, true_or, or_false, false_or, Classical.not_not, and_self, Int.reduceAdd, Int.reduceMul, Int.reduceSub, Int.reduceNeg, Int.reduceLT, Int.reduceLE, Int.reduceEq, Int.reduceNe, Int.reduceToNat, Nat.reduceAdd, Nat.reduceMul, Nat.reduceSub, Nat.reduceLeDiff, Nat.reduceLT, Nat.reduceEqDiff, reduceIte, Nat.zero_le, Nat.le_refl, Nat.add_zero, Nat.zero_add, t0, h0, h1, h2, t1, l1, et2]
            (first | refine ⟨fun h9 => (by exfalso; omega), fun _ => ?_⟩ | intro _)
            (repeat (refine And.intro (by (first | omega | assumption | trivial | (simp only [inI]; omega) | (simp only [inL]; omega) | (refine jb_01) | (exact jb_in))) ?_))
            rw [sgn_eq eb2 (by decide)]
            refine ⟨fun c4 => ?_, fun c4 => ?_⟩
            · exact n10 (fun q2 => c4 q2.2)
            · have c5 : B ((p + 1 : Nat)) = 61 := by omega
              rw [if_pos ⟨q, c3, c5⟩] at fin
              have k11 : ∀ z, z = (if B p = 60 then (303 : Int) else 304) → jW bX3_next (g, d + 5, 0, 0, Q) 11 [some (vR tk), some (vI (sgn (B p))), l2] [vI z, vR tk] (x, T) 0 0 := by
                intro z hz
                have zi : inI z := by rw [hz]; split <;> exact ⟨by omega, by omega⟩
                refine jW_step ?_
                simp (disch := (first | decide | omega)) only [bX3_next, jxs, hps, jtsw, jlsw, List.length_cons, List.length_nil, true_and, and_true, true_implies, false_implies, implies_true, not_true_eq_false, not_false_eq_true, false_and, and_false, if_true, if_false, or_true, true_or, or_false, false_or, Classical.not_not, and_self, Int.reduceAdd, Int.reduceMul, Int.reduceSub, Int.reduceNeg, Int.reduceLT, Int.reduceLE, Int.reduceEq, Int.reduceNe, Int.reduceToNat, Nat.reduceAdd, Nat.reduceMul, Nat.reduceSub, Nat.reduceLeDiff, Nat.reduceLT, Nat.reduceEqDiff, reduceIte, Nat.zero_le, Nat.le_refl, Nat.add_zero, Nat.zero_add, t0, h2]
                (repeat (refine And.intro (by (first | omega | assumption | trivial | (simp only [inI]; omega) | (simp only [inL]; omega) | (refine jb_01) | (exact jb_in))) ?_))
                refine fin _ _ _ (fun a ha => (upA_ne ha).trans (xa a ha)) (x2.st (fun j j2 _ j4 _ => by rw [up1_ne j2, up1_ne j4]) (by rw [up1_eq]; dsimp only; omega) (by dsimp only; omega) (by rw [up1_ne (by decide), up1_ne (by decide)]; exact h5)) (by rw [upA_eq, up1_ne (by decide), up1_ne (by decide)]; exact x3) (by rw [upA_eq, up1_ne (by decide), up1_eq]; exact hz) (fun q2 => ?_)
                dsimp only at q2
                split at q2 <;> omega
              rw [e6]
              refine ⟨fun c6 => ?_, fun c6 => ?_⟩
              · exact k11 304 (by rw [if_neg c6])
              · exact k11 303 (by rw [if_pos (by omega)])
          · have hnp : (n : Int) ≤ (p + 1 : Nat) := by omega
            refine jW_step ?_
            simp (disch := (first | decide | omega)) only [bX3_next, jxs, hps, jtsw, jlsw, List.length_cons, List.length_nil, true_and, and_true, true_implies, false_implies, implies_true, not_true_eq_false, not_false_eq_true, false_and, and_false, if_true, if_false, or_true, true_or, or_false, false_or, Classical.not_not, and_self, Int.reduceAdd, Int.reduceMul, Int.reduceSub, Int.reduceNeg, Int.reduceLT, Int.reduceLE, Int.reduceEq, Int.reduceNe, Int.reduceToNat, Nat.reduceAdd, Nat.reduceMul, Nat.reduceSub, Nat.reduceLeDiff, Nat.reduceLT, Nat.reduceEqDiff, reduceIte, Nat.zero_le, Nat.le_refl, Nat.add_zero, Nat.zero_add, t0, h0, h1, h2]
            (try refine ⟨fun _ => ?_, fun h9 => (by exfalso; omega)⟩)
            exact n10 (fun q2 => c3 q2.1)
        · rw [e6, e7] at q
          rw [if_neg (fun q2 => q q2.1)] at fin
          exact fin x _ _ xa x2 x3 x4 (fun q2 => (sne _ rfl q2).elim)
  · rw [if_neg c] at fin
    (first | refine ⟨fun h9 => (by exfalso; omega), fun _ => ?_⟩ | intro _)
    (repeat (refine And.intro (by (first | omega | assumption | trivial | (simp only [inI]; omega) | (simp only [inL]; omega) | (refine jb_01) | (exact jb_in))) ?_))
    refine fin _ none none (fun a ha => (upA_ne ha).trans (w1 a ha)) (w2'.st (fun j _ j3 j4 _ => by rw [up1_ne j4, up1_ne j3]) (by rw [up1_ne (by decide), up1_ne (by decide)]; exact f2) n2 (by rw [up1_ne (by decide), up1_ne (by decide)]; exact w2'.2.2.1)) (by rw [upA_eq, up1_ne (by decide), up1_eq]) (by rw [upA_eq, up1_eq]) (fun q => ?_)
    dsimp only at q
    omega
end XG
