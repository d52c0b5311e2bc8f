/-! ===== the class: standing, round ===== -/
-- MODE X
set_option maxRecDepth 100000
theorem lrZ_bd {A : Int → Int} {s wo : Int} (hB : TB A) (hH : SH A) (hs : 0 ≤ s ∧ s < 3) : RN (lrZ A s wo).1 (lrZ A s wo).2 (A 0) ∧ (0 ≤ (lrZ A s wo).2 ∧ (lrZ A s wo).2 ≤ 10) := by
  have hm := hB.2.2.2.2.2.1 (13 + s) (by omega) (by omega)
  have q := lrF_cg (wo := wo) hB hH hs rfl (A (13 + s)).toNat 0 0 (fun _ => 0) (fun _ => 0) (by omega) (by omega) (by omega) (fun i h0 h1 => by omega) (fun i h0 h1 => by omega)
  have ez : lrZ A s wo = lrF A s wo (A (13 + s)).toNat 0 0 (fun _ => 0) := rfl
  rw [ez]
  refine ⟨q.2.2.1, q.2.2.2.1, ?_⟩
  have := q.2.2.2.2
  omega
theorem rouA_eq {A X : Int → Int} {s len : Int} (hB : TB A) (hH : SH A) (h1 : 0 ≤ A 1) (hs : 0 ≤ s ∧ s ≤ 2) : rouA A X s len = rouC (tbl A X) (lrZ A s (-1)).2 (A 1) (lrZ A s (-1)).1 len := by
  have zb := lrZ_bd hB hH (s := s) (wo := -1) ⟨hs.1, by omega⟩
  unfold rouA
  rw [if_pos hs]
  exact rouC_eq h1 zb.2 hB.1.2 zb.1
section XG
variable {g : jjG} {d : Nat} {T : jjT} {Q : jjQ} {A X : Int → Int}
theorem xw_standing_1 {x m p : Int} {v : Int → Int → Int} (hT : PT T) (hV : PV v) (hv : v 400 10 = m) (hR : RO (v 524) m) (hp : p = 0 ∨ p = 1) (hQ : Q (.inl (some (vL (p * 10 ^ m.toNat + rnF (v 524) m.toNat)))) (v, T)) : ∀ (n k : Nat), m = ((k + n : Nat) : Int) →
    jW bX0_standing (g, d, 0, 0, Q) 1 [some (vR 400), some (vI x), some (vL (p * 10 ^ k + rnF (v 524) k)), none, some (vI (k : Int))] [] (v, T) 0 0 := by
  have h1 := hR.1
  intro n
  induction n with
  | zero =>
    intro k hk
    rw [show m.toNat = k by omega] at hQ
    refine jW_step ?_
    simp (disch := (first | decide | omega)) only [bX0_standing, jxs, hps, jtsw, jlsw, List.length_cons, List.length_nil, true_and, and_true, true_implies, false_implies, implies_true, not_true_eq_false, not_false_eq_true, false_and, and_false, if_true, if_false, or_true, true_or, or_false, false_or, Classical.not_not, and_self, Int.reduceAdd, Int.reduceMul, Int.reduceSub, Int.reduceNeg, Int.reduceLT, Int.reduceLE, Int.reduceEq, Int.reduceNe, Int.reduceToNat, Nat.reduceAdd, Nat.reduceMul, Nat.reduceSub, Nat.reduceLeDiff, Nat.reduceLT, Nat.reduceEqDiff, reduceIte, Nat.zero_le, Nat.le_refl, Nat.add_zero, Nat.zero_add, xwT hT, xwV hV, hv]
    (try refine ⟨fun _ => ?_, fun h9 => (by exfalso; omega)⟩)
    (repeat (refine And.intro (by (first | omega | assumption | trivial | (simp only [inI]; omega) | (simp only [inL]; omega) | (refine jb_01) | (exact jb_in))) ?_))
    exact hQ
  | succ n ih =>
    intro k hk
    have b := rnF_bd hR k (by omega)
    have c := pow10_bd (n := k) (by omega)
    have f := hR.2 k (by omega) (by omega)
    have e : p * (10 : Int) ^ (k + 1) = p * 10 ^ k * 10 := by rw [Int.pow_succ, Int.mul_assoc]
    have nx := ih (k + 1) (by omega)
    have e2 : rnF (v 524) (k + 1) = 10 * rnF (v 524) k + v 524 k := rfl
    rw [e, e2] at nx
    have pb : 0 ≤ p * 10 ^ k ∧ p * 10 ^ k ≤ 10000000000 := by
      rcases hp with h | h
      · rw [h]; omega
      · rw [h]; omega
    generalize p * (10 : Int) ^ k = y at *
    generalize rnF (v 524) k = z at *
    refine jW_step ?_
    simp (disch := (first | decide | omega)) only [bX0_standing, jxs, hps, jtsw, jlsw, List.length_cons, List.length_nil, true_and, and_true, true_implies, false_implies, implies_true, not_true_eq_false, not_false_eq_true, false_and, and_false, if_true, if_false, or_true, true_or, or_false, false_or, Classical.not_not, and_self, Int.reduceAdd, Int.reduceMul, Int.reduceSub, Int.reduceNeg, Int.reduceLT, Int.reduceLE, Int.reduceEq, Int.reduceNe, Int.reduceToNat, Nat.reduceAdd, Nat.reduceMul, Nat.reduceSub, Nat.reduceLeDiff, Nat.reduceLT, Nat.reduceEqDiff, reduceIte, Nat.zero_le, Nat.le_refl, Nat.add_zero, Nat.zero_add, xwT hT, xwV hV, hv]
    (first | refine ⟨fun h9 => (by exfalso; omega), fun _ => ?_⟩ | intro _)
    (repeat (refine And.intro (by (first | omega | assumption | trivial | (simp only [inI]; omega) | (simp only [inL]; omega) | (refine jb_01) | (exact jb_in))) ?_))
    rw [show 10 * (y + z) + v 524 k = y * 10 + (10 * z + v 524 k) by omega]
    exact nx
theorem xw_standing {x m : Int} {v : Int → Int → Int} (hT : PT T) (hV : PV v) (hv : v 400 10 = m) (hR : RO (v 524) m) (hx : 0 ≤ x) (hQ : Q (.inl (some (vL (x % 2 * 10 ^ m.toNat + rnF (v 524) m.toNat)))) (v, T)) : jmet g (d + 1) 0 0 MX0_standing [vR 400, vI x] (v, T) Q := by
  refine jmet_of (ls := [some (vR 400), some (vI x), none, none, none]) sX0_standing rfl (by decide +kernel) (by decide) rfl (by simp [jent]) ?_
  have h1 := hR.1
  have t := xw_standing_1 (g := g) (d := d) (x := x) hT hV hv hR (p := x % 2) (by omega) hQ m.toNat 0 (by omega)
  rw [show x % 2 * (10 : Int) ^ 0 + rnF (v 524) 0 = x % 2 by unfold rnF; omega] at t
  refine jW_step ?_
  simp (disch := (first | decide | omega)) only [bX0_standing, jxs, hps, jtsw, jlsw, List.length_cons, List.length_nil, true_and, and_true, true_implies, false_implies, implies_true, not_true_eq_false, not_false_eq_true, false_and, and_false, if_true, if_false, or_true, true_or, or_false, false_or, Classical.not_not, and_self, Int.reduceAdd, Int.reduceMul, Int.reduceSub, Int.reduceNeg, Int.reduceLT, Int.reduceLE, Int.reduceEq, Int.reduceNe, Int.reduceToNat, Nat.reduceAdd, Nat.reduceMul, Nat.reduceSub, Nat.reduceLeDiff, Nat.reduceLT, Nat.reduceEqDiff, reduceIte, Nat.zero_le, Nat.le_refl, Nat.add_zero, Nat.zero_add, xwT hT, xwV hV]
  (repeat (refine And.intro (by (first | omega | assumption | trivial | (simp only [inI]; omega) | (simp only [inL]; omega) | (refine jb_01) | (exact jb_in))) ?_))
  exact t
theorem xw_round_3 {S : Int → Int} {s len n : Int} {v : Int → Int → Int} (hT : PT T) (hV : PV v) (hn : 0 ≤ n ∧ n ≤ 500) (hs : ∀ k, 0 ≤ k → k ≤ n → v 525 k = S k) (hb : ∀ k, 0 ≤ k → 0 ≤ S k ∧ S k ≤ 20000000000) : ∀ (r : Nat) (k : Int), 0 ≤ k → k + r = n →
    (∀ z, seA S n r k = some z → Q (.inl (some (vI (if len = 0 then z else n - z)))) (v, T)) → (seA S n r k = none → jW bX0_round (g, d + 114, 0, 0, Q) 3 [some (vR 400), some (vI s), some (vI len), some (vI n), some (vI n)] [] (v, T) 0 0) →
    jW bX0_round (g, d + 114, 0, 0, Q) 3 [some (vR 400), some (vI s), some (vI len), some (vI n), some (vI k)] [] (v, T) 0 0 := by
  intro r
  induction r with
  | zero =>
    intro k hk hr hQ hN
    rw [show k = n by omega]
    exact hN rfl
  | succ r ih =>
    intro k hk hr hQ hN
    unfold seA at hQ hN
    have e1 := hs k hk (by omega)
    have e2 := hs n hn.1 (by omega)
    have b1 := hb k hk
    have b2 := hb n hn.1
    have k4 : ∀ z, Q (.inl (some (vI z))) (v, T) → jW bX0_round (g, d + 114, 0, 0, Q) 4 [some (vR 400), some (vI s), some (vI len), some (vI n), some (vI k)] [vI z] (v, T) 0 0 := by
      intro z hz
      refine jW_step ?_
      simp (disch := (first | decide | omega)) only [bX0_round, jxs, hps, jtsw, jlsw, List.length_cons, List.length_nil, true_and, and_true, true_implies, false_implies, implies_true, not_true_eq_false, not_false_eq_true, false_and, and_false, if_true, if_false, or_true, true_or, or_false, false_or, Classical.not_not, and_self, Int.reduceAdd, Int.reduceMul, Int.reduceSub, Int.reduceNeg, Int.reduceLT, Int.reduceLE, Int.reduceEq, Int.reduceNe, Int.reduceToNat, Nat.reduceAdd, Nat.reduceMul, Nat.reduceSub, Nat.reduceLeDiff, Nat.reduceLT, Nat.reduceEqDiff, reduceIte, Nat.zero_le, Nat.le_refl, Nat.add_zero, Nat.zero_add, xwT hT, xwV hV]
      (repeat (refine And.intro (by (first | omega | assumption | trivial | (simp only [inI]; omega) | (simp only [inL]; omega) | (refine jb_01) | (exact jb_in))) ?_))
      exact hz
    refine jW_step ?_
    simp (disch := (first | decide | omega)) only [bX0_round, jxs, hps, jtsw, jlsw, List.length_cons, List.length_nil, true_and, and_true, true_implies, false_implies, implies_true, not_true_eq_false, not_false_eq_true, false_and, and_false, if_true, if_false, or_true, true_or, or_false, false_or, Classical.not_not, and_self, Int.reduceAdd, Int.reduceMul, Int.reduceSub, Int.reduceNeg, Int.reduceLT, Int.reduceLE, Int.reduceEq, Int.reduceNe, Int.reduceToNat, Nat.reduceAdd, Nat.reduceMul, Nat.reduceSub, Nat.reduceLeDiff, Nat.reduceLT, Nat.reduceEqDiff, reduceIte, Nat.zero_le, Nat.le_refl, Nat.add_zero, Nat.zero_add, xwT hT, xwV hV, e1, e2, jcs]
    (first | refine ⟨fun h9 => (by exfalso; omega), fun _ => ?_⟩ | intro _)
    (repeat (refine And.intro (by (first | omega | assumption | trivial | (simp only [inI]; omega) | (simp only [inL]; omega) | (refine jb_01) | (exact jb_in))) ?_))
    refine ⟨fun h => ?_, fun h => ?_⟩
    · rw [if_neg h] at hQ hN
      (repeat (refine And.intro (by (first | omega | assumption | trivial | (simp only [inI]; omega) | (simp only [inL]; omega) | (refine jb_01) | (exact jb_in))) ?_))
      exact ih (k + 1) (by omega) (by omega) hQ hN
    · rw [if_pos (by omega)] at hQ
      have hq := hQ k rfl
      refine ⟨fun h2 => ?_, fun h2 => ?_⟩
      · rw [if_pos (by omega)] at hq
        exact k4 _ hq
      · rw [if_neg (by omega)] at hq
        (repeat (refine And.intro (by (first | omega | assumption | trivial | (simp only [inI]; omega) | (simp only [inL]; omega) | (refine jb_01) | (exact jb_in))) ?_))
        exact k4 _ hq
theorem xw_round_2 {s len m : Int} {f : Int → Int} (hT : PT T) (hm : 0 ≤ m ∧ m ≤ 10) (h1 : 0 ≤ A 1 ∧ A 1 < 100000) (hA : A 0 ≤ 10) (hf : RN f m (A 0)) : ∀ (r : Nat) (n : Int) (v : Int → Int → Int) (l4 : Option jjV), PV v → CI (v, T) A X → CHB (v 523) A X → v 400 10 = m → EQm m (v 524) (fSq (tbl A X) m (A 1) f n.toNat) → (∀ k, 0 ≤ k → k < n → v 525 k = sT (tbl A X) m (A 1) f k) → 0 ≤ n → n + r = 501 →
    (∀ w, jkK v w → Q (.inl (some (vI (roC (sT (tbl A X) m (A 1) f) len r n)))) (w, T)) →
    jW bX0_round (g, d + 114, 0, 0, Q) 2 [some (vR 400), some (vI s), some (vI len), some (vI n), l4] [] (v, T) 0 0 := by
  intro r
  induction r with
  | zero =>
    intro n v l4 hV hC hB hv he hs hn0 hn hQ
    unfold roC at hQ
    refine jW_step ?_
    simp (disch := (first | decide | omega)) only [bX0_round, jxs, hps, jtsw, jlsw, List.length_cons, List.length_nil, true_and, and_true, true_implies, false_implies, implies_true, not_true_eq_false, not_false_eq_true, false_and, and_false, if_true, if_false, or_true, true_or, or_false, false_or, Classical.not_not, and_self, Int.reduceAdd, Int.reduceMul, Int.reduceSub, Int.reduceNeg, Int.reduceLT, Int.reduceLE, Int.reduceEq, Int.reduceNe, Int.reduceToNat, Nat.reduceAdd, Nat.reduceMul, Nat.reduceSub, Nat.reduceLeDiff, Nat.reduceLT, Nat.reduceEqDiff, reduceIte, Nat.zero_le, Nat.le_refl, Nat.add_zero, Nat.zero_add, xwT hT, xwV hV]
    (try refine ⟨fun _ => ?_, fun h9 => (by exfalso; omega)⟩)
    (repeat (refine And.intro (by (first | omega | assumption | trivial | (simp only [inI]; omega) | (simp only [inL]; omega) | (refine jb_01) | (exact jb_in))) ?_))
    exact hQ v (jkK.rf hV hC.nm)
  | succ r ih =>
    intro n v l4 hV hC hB hv he hs hn0 hn hQ
    have h0 := hC.tb.1
    unfold roC at hQ
    have rn : RN (v 524) m (A 0) := fun i i0 i1 => by rw [he i i0 i1]; exact fSq_RN h1.1 hf n.toNat i i0 i1
    have ro : RO (v 524) m := ⟨hm, fun i i0 i1 => by have := rn i i0 i1; omega⟩
    have es : (A 1 + n) % 2 * 10 ^ m.toNat + rnF (v 524) m.toNat = sT (tbl A X) m (A 1) f n := by
      unfold sT
      rw [rnF_cg m.toNat (fun i i0 i1 => he i i0 (by omega))]
    have sb : ∀ k, 0 ≤ k → 0 ≤ sT (tbl A X) m (A 1) f k ∧ sT (tbl A X) m (A 1) f k ≤ 20000000000 := by
      intro k k0
      have b := rnF_bd (f := fSq (tbl A X) m (A 1) f k.toNat) (m := m) ⟨hm, fun i i0 i1 => by have := fSq_RN (c := tbl A X) h1.1 hf k.toNat i i0 i1; omega⟩ m.toNat (by omega)
      have c := pow10_bd (n := m.toNat) (by omega)
      unfold sT
      have : (A 1 + k) % 2 = 0 ∨ (A 1 + k) % 2 = 1 := by omega
      rcases this with q | q
      · rw [q]; omega
      · rw [q]; omega
    refine jW_step ?_
    simp (disch := (first | decide | omega)) only [bX0_round, jxs, hps, jtsw, jlsw, List.length_cons, List.length_nil, true_and, and_true, true_implies, false_implies, implies_true, not_true_eq_false, not_false_eq_true, false_and, and_false, if_true, if_false, or_true, true_or, or_false, false_or, Classical.not_not, and_self, Int.reduceAdd, Int.reduceMul, Int.reduceSub, Int.reduceNeg, Int.reduceLT, Int.reduceLE, Int.reduceEq, Int.reduceNe, Int.reduceToNat, Nat.reduceAdd, Nat.reduceMul, Nat.reduceSub, Nat.reduceLeDiff, Nat.reduceLT, Nat.reduceEqDiff, reduceIte, Nat.zero_le, Nat.le_refl, Nat.add_zero, Nat.zero_add, xwT hT, xwV hV, hC.ni]
    (first | refine ⟨fun h9 => (by exfalso; omega), fun _ => ?_⟩ | intro _)
    (repeat (refine And.intro (by (first | omega | assumption | trivial | (simp only [inI]; omega) | (simp only [inL]; omega) | (refine jb_01) | (exact jb_in))) ?_))
    refine ⟨0, 0, ⟨by omega, by omega⟩, xw_standing (d := d + 113) hT hV hv ro (by omega) ?_⟩
    rw [es]
    have j1 : jkK v (upA v 525 (up1 (v 525) n (sT (tbl A X) m (A 1) f n))) := jkK.up hV hC.nm (by omega)
    have q25 : ∀ k, 0 ≤ k → k ≤ n → (upA v 525 (up1 (v 525) n (sT (tbl A X) m (A 1) f n))) 525 k = sT (tbl A X) m (A 1) f k := by
      intro k k0 k1
      rw [upA_eq]
      by_cases e : k = n
      · rw [e, up1_eq]
      · rw [up1_ne e]; exact hs k k0 (by omega)
    have qo : ∀ a, a ≠ 525 → (upA v 525 (up1 (v 525) n (sT (tbl A X) m (A 1) f n))) a = v a := fun a ha => upA_ne ha
    simp (disch := (first | decide | omega)) only [jxs, hps, jtsw, jlsw, List.length_cons, List.length_nil, true_and, and_true, true_implies, false_implies, implies_true, not_true_eq_false, not_false_eq_true, false_and, and_false, if_true, if_false, or_true, true_or, or_false, false_or, Classical.not_not, and_self, Int.reduceAdd, Int.reduceMul, Int.reduceSub, Int.reduceNeg, Int.reduceLT, Int.reduceLE, Int.reduceEq, Int.reduceNe, Int.reduceToNat, Nat.reduceAdd, Nat.reduceMul, Nat.reduceSub, Nat.reduceLeDiff, Nat.reduceLT, Nat.reduceEqDiff, reduceIte, Nat.zero_le, Nat.le_refl, Nat.add_zero, Nat.zero_add, xwT hT, xwV hV]
    (repeat (refine And.intro (by (first | omega | assumption | trivial | (simp only [inI]; omega) | (simp only [inL]; omega) | (refine jb_01) | (exact jb_in))) ?_))
    generalize upA v 525 (up1 (v 525) n (sT (tbl A X) m (A 1) f n)) = u at *
    refine jW_sub (ls' := [some (vR 400), some (vI s), some (vI len), some (vI n), some (vI 0)]) (by simp [jsub]) ?_
    refine xw_round_3 (S := sT (tbl A X) m (A 1) f) hT j1.pv (by omega) q25 sb n.toNat 0 (by omega) (by omega) (fun z hz => ?_) (fun hz => ?_)
    · rw [hz] at hQ
      exact hQ u j1
    · rw [hz] at hQ
      have hV0 := hV
      have hV := j1.pv
      have hCu := j1.ci hC
      have hvu : u 400 10 = m := by rw [qo 400 (by omega)]; exact hv
      refine jW_step ?_
      simp (disch := (first | decide | omega)) only [bX0_round, jxs, hps, jtsw, jlsw, List.length_cons, List.length_nil, true_and, and_true, true_implies, false_implies, implies_true, not_true_eq_false, not_false_eq_true, false_and, and_false, if_true, if_false, or_true, true_or, or_false, false_or, Classical.not_not, and_self, Int.reduceAdd, Int.reduceMul, Int.reduceSub, Int.reduceNeg, Int.reduceLT, Int.reduceLE, Int.reduceEq, Int.reduceNe, Int.reduceToNat, Nat.reduceAdd, Nat.reduceMul, Nat.reduceSub, Nat.reduceLeDiff, Nat.reduceLT, Nat.reduceEqDiff, reduceIte, Nat.zero_le, Nat.le_refl, Nat.add_zero, Nat.zero_add, xwT hT, xwV hV, hvu, hCu.ni]
      (try refine ⟨fun _ => ?_, fun h9 => (by exfalso; omega)⟩)
      (repeat (refine And.intro (by (first | omega | assumption | trivial | (simp only [inI]; omega) | (simp only [inL]; omega) | (refine jb_01) | (exact jb_in))) ?_))
      have rnu : RN (u 524) m (A 0) := by rw [qo 524 (by omega)]; exact rn
      refine ⟨0, 0, ⟨by omega, by omega⟩, xw_nightOn0 (A := A) (X := X) hT hV h0 ⟨pt_524 hT, by omega, by rw [pl_524 hT]; omega, by decide, by omega⟩ hm (by rw [qo 523 (by omega)]; exact hB) rnu (by omega) ?_⟩
      intro c
      have q := nitR_cg (kind := (A 1 + n) % 2) (c := tbl A X) (c' := tbl A X) (by omega) (fun _ _ _ _ _ _ => rfl) (by rw [qo 524 (by omega)]; exact he : EQm m (u 524) (fSq (tbl A X) m (A 1) f n.toNat)) rnu
      have j2 : jkK u (upA u 524 (nitR (tbl A X) m ((A 1 + n) % 2) (u 524))) := jkK.up hV hCu.nm (by omega)
      have u24 : (upA u 524 (nitR (tbl A X) m ((A 1 + n) % 2) (u 524))) 524 = nitR (tbl A X) m ((A 1 + n) % 2) (u 524) := upA_eq
      have uo : ∀ a, a ≠ 524 → (upA u 524 (nitR (tbl A X) m ((A 1 + n) % 2) (u 524))) a = u a := fun a ha => upA_ne ha
      generalize upA u 524 (nitR (tbl A X) m ((A 1 + n) % 2) (u 524)) = y at *
      have hVu := hV
      have hV := j2.pv
      simp (disch := (first | decide | omega)) only [jxs, hps, jtsw, jlsw, List.length_cons, List.length_nil, true_and, and_true, true_implies, false_implies, implies_true, not_true_eq_false, not_false_eq_true, false_and, and_false, if_true, if_false, or_true, true_or, or_false, false_or, Classical.not_not, and_self, Int.reduceAdd, Int.reduceMul, Int.reduceSub, Int.reduceNeg, Int.reduceLT, Int.reduceLE, Int.reduceEq, Int.reduceNe, Int.reduceToNat, Nat.reduceAdd, Nat.reduceMul, Nat.reduceSub, Nat.reduceLeDiff, Nat.reduceLT, Nat.reduceEqDiff, reduceIte, Nat.zero_le, Nat.le_refl, Nat.add_zero, Nat.zero_add, xwT hT, xwV hV]
      (repeat (refine And.intro (by (first | omega | assumption | trivial | (simp only [inI]; omega) | (simp only [inL]; omega) | (refine jb_01) | (exact jb_in))) ?_))
      refine ih (n + 1) y _ j2.pv (j2.ci hCu) (by rw [uo 523 (by omega), qo 523 (by omega)]; exact hB) (by rw [uo 400 (by omega)]; exact hvu) ?_ ?_ (by omega) (by omega) (fun w hw => hQ w ((j1.tr j2).tr hw))
      · rw [u24, show (n + 1).toNat = n.toNat + 1 by omega]
        show EQm m _ (nitR (tbl A X) m ((A 1 + (n.toNat : Int)) % 2) _)
        rw [show ((n.toNat : Nat) : Int) = n by omega]
        exact q.1
      · intro k k0 k1
        rw [uo 525 (by omega)]
        exact q25 k k0 (by omega)
theorem xw_round {s len : Int} {v : Int → Int → Int} (hT : PT T) (hV : PV v) (hC : CI (v, T) A X) (hS : SH A ∧ (0 ≤ A 1 ∧ A 1 < 100000)) (hQ : ∀ w, jkK v w → Q (.inl (some (vI (rouA A X s len)))) (w, T)) : jmet g (d + 115) 0 0 MX0_round [vR 400, vI s, vI len] (v, T) Q := by
  obtain ⟨hH, h1⟩ := hS
  have h0 := hC.tb.1
  refine jmet_of (ls := [some (vR 400), some (vI s), some (vI len), none, none]) sX0_round rfl (by decide +kernel) (by decide) rfl (by simp [jent]) ?_
  have k1 : rouA A X s len = -1 → ∀ w, jkK v w → jW bX0_round (g, d + 114, 0, 0, Q) 1 [some (vR 400), some (vI s), some (vI len), none, none] [] (w, T) 0 0 := by
    intro e w hw
    rw [e] at hQ
    have hV := hw.pv
    refine jW_step ?_
    simp (disch := (first | decide | omega)) only [bX0_round, jxs, hps, jtsw, jlsw, List.length_cons, List.length_nil, true_and, and_true, true_implies, false_implies, implies_true, not_true_eq_false, not_false_eq_true, false_and, and_false, if_true, if_false, or_true, true_or, or_false, false_or, Classical.not_not, and_self, Int.reduceAdd, Int.reduceMul, Int.reduceSub, Int.reduceNeg, Int.reduceLT, Int.reduceLE, Int.reduceEq, Int.reduceNe, Int.reduceToNat, Nat.reduceAdd, Nat.reduceMul, Nat.reduceSub, Nat.reduceLeDiff, Nat.reduceLT, Nat.reduceEqDiff, reduceIte, Nat.zero_le, Nat.le_refl, Nat.add_zero, Nat.zero_add, xwT hT, xwV hV]
    (repeat (refine And.intro (by (first | omega | assumption | trivial | (simp only [inI]; omega) | (simp only [inL]; omega) | (refine jb_01) | (exact jb_in))) ?_))
    exact hQ w hw
  refine jW_step ?_
  simp (disch := (first | decide | omega)) only [bX0_round, jxs, hps, jtsw, jlsw, List.length_cons, List.length_nil, true_and, and_true, true_implies, false_implies, implies_true, not_true_eq_false, not_false_eq_true, false_and, and_false, if_true, if_false, or_true, true_or, or_false, false_or, Classical.not_not, and_self, Int.reduceAdd, Int.reduceMul, Int.reduceSub, Int.reduceNeg, Int.reduceLT, Int.reduceLE, Int.reduceEq, Int.reduceNe, Int.reduceToNat, Nat.reduceAdd, Nat.reduceMul, Nat.reduceSub, Nat.reduceLeDiff, Nat.reduceLT, Nat.reduceEqDiff, reduceIte, Nat.zero_le, Nat.le_refl, Nat.add_zero, Nat.zero_add, xwT hT, xwV hV]
  refine ⟨0, 0, ⟨by omega, by omega⟩, xw_rest (d := d) hT hV hC ⟨hH, h1⟩ ?_⟩
  intro u hu hB
  have hV0 := hV
  have hV := hu.pv
  have hCu := hu.ci hC
  simp (disch := (first | decide | omega)) only [jxs, hps, jtsw, jlsw, List.length_cons, List.length_nil, true_and, and_true, true_implies, false_implies, implies_true, not_true_eq_false, not_false_eq_true, false_and, and_false, if_true, if_false, or_true, true_or, or_false, false_or, Classical.not_not, and_self, Int.reduceAdd, Int.reduceMul, Int.reduceSub, Int.reduceNeg, Int.reduceLT, Int.reduceLE, Int.reduceEq, Int.reduceNe, Int.reduceToNat, Nat.reduceAdd, Nat.reduceMul, Nat.reduceSub, Nat.reduceLeDiff, Nat.reduceLT, Nat.reduceEqDiff, reduceIte, Nat.zero_le, Nat.le_refl, Nat.add_zero, Nat.zero_add, xwT hT, xwV hV]
  refine ⟨fun h => ?_, fun h => ?_⟩
  · refine k1 ?_ u hu
    unfold restA at h
    by_cases c : 0 ≤ s ∧ s ≤ 2
    · rw [if_pos c] at h
      rw [rouA_eq hC.tb hH h1.1 c]
      unfold rouC
      rw [if_neg (by unfold rsA at h; exact h)]
    · unfold rouA
      rw [if_neg c]
  · refine ⟨0, 0, ⟨by omega, by omega⟩, xw_isShelf ?_⟩
    simp (disch := (first | decide | omega)) only [jxs, hps, jtsw, jlsw, List.length_cons, List.length_nil, true_and, and_true, true_implies, false_implies, implies_true, not_true_eq_false, not_false_eq_true, false_and, and_false, if_true, if_false, or_true, true_or, or_false, false_or, Classical.not_not, and_self, Int.reduceAdd, Int.reduceMul, Int.reduceSub, Int.reduceNeg, Int.reduceLT, Int.reduceLE, Int.reduceEq, Int.reduceNe, Int.reduceToNat, Nat.reduceAdd, Nat.reduceMul, Nat.reduceSub, Nat.reduceLeDiff, Nat.reduceLT, Nat.reduceEqDiff, reduceIte, Nat.zero_le, Nat.le_refl, Nat.add_zero, Nat.zero_add, xwT hT, xwV hV]
    refine ⟨fun c => ?_, fun c => ?_⟩
    · refine ⟨0, 0, ⟨by omega, by omega⟩, xw_laysRow hT hV hCu hH ⟨c.1, by omega⟩ ?_⟩
      intro w hw hr e23 _
      have hVu := hV
      have hV := hw.pv
      obtain ⟨r1, r2, r3, r4⟩ := hr
      have zb : RN (lrZ A s (-1)).1 (lrZ A s (-1)).2 (A 0) := fun i i0 i1 => by rw [← r2 i i0 i1]; exact r3 i i0 i1
      simp (disch := (first | decide | omega)) only [jxs, hps, jtsw, jlsw, List.length_cons, List.length_nil, true_and, and_true, true_implies, false_implies, implies_true, not_true_eq_false, not_false_eq_true, false_and, and_false, if_true, if_false, or_true, true_or, or_false, false_or, Classical.not_not, and_self, Int.reduceAdd, Int.reduceMul, Int.reduceSub, Int.reduceNeg, Int.reduceLT, Int.reduceLE, Int.reduceEq, Int.reduceNe, Int.reduceToNat, Nat.reduceAdd, Nat.reduceMul, Nat.reduceSub, Nat.reduceLeDiff, Nat.reduceLT, Nat.reduceEqDiff, reduceIte, Nat.zero_le, Nat.le_refl, Nat.add_zero, Nat.zero_add, xwT hT, xwV hV]
      (repeat (refine And.intro (by (first | omega | assumption | trivial | (simp only [inI]; omega) | (simp only [inL]; omega) | (refine jb_01) | (exact jb_in))) ?_))
      refine xw_round_2 (A := A) (X := X) hT r4 h1 h0.2 zb 501 0 w _ hw.pv (hw.ci hCu) (by rw [e23]; exact hB ⟨c.1, by omega⟩) r1 r2 (fun k k0 k1 => by omega) (by omega) (by omega) (fun y hy => ?_)
      have q := hQ y ((hu.tr hw).tr hy)
      rw [rouA_eq hC.tb hH h1.1 c] at q
      unfold rouC at q
      unfold restA rsA at h
      rw [if_pos (by omega)] at h
      rw [if_pos (by omega)] at q
      exact q
    · refine k1 ?_ u hu
      unfold rouA
      rw [if_neg (by omega)]
end XG
