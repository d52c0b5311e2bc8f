/-! ===== the reference: findOrders ===== -/
set_option maxRecDepth 100000
def ORD (f : Int → Int) (m n p : Int) : Prop := ∀ x y, 0 ≤ x → 0 ≤ y → y < m → (x < n ∨ (x = n ∧ y < p)) → f (6 * x + y) = dec m x y
section TG
variable {g : jjG} {d : Nat} {T : jjT} {Q : jjQ}
theorem tw_fo_3 {n l u p bl E : Int} {v : Int → Int → Int} (hT : PT T) (hV : PV v) (hu : 0 ≤ u ∧ u < 64) (hE : (0 ≤ E ∧ E < 6) ∧ u / 2 ^ E.toNat % 2 = 0) (hn : 0 ≤ n ∧ n < 720) (hp : 0 ≤ p ∧ p < 6)
    (hQ : jW bX2_findOrders (g, d + 1, 0, 0, Q) 2 [some (vR 539), some (vI n), some (vI l), some (vI (u + 2 ^ E.toNat)), some (vI (p + 1)), none, none, none] [] (upA v 551 (up1 (v 551) (6 * n + p) E), T) 0 0) :
    ∀ (f : Nat) (k e : Int), skO f u k e = true → skF f u k e = E → 0 ≤ e → e + f ≤ 31 → (0 ≤ k ∧ k ≤ 1000) →
    jW bX2_findOrders (g, d + 1, 0, 0, Q) 3 [some (vR 539), some (vI n), some (vI l), some (vI u), some (vI p), some (vI bl), some (vI k), some (vI e)] [] (v, T) 0 0 := by
  intro f
  induction f with
  | zero =>
    intro k e h1
    unfold skO at h1
    cases h1
  | succ f ih =>
    intro k e h1 h2 he hf hk
    unfold skO at h1
    unfold skF at h2
    by_cases hb : u / 2 ^ e.toNat % 2 = 1
    · rw [if_pos hb] at h1 h2
      refine jW_step ?_
      simp (disch := (first | decide | omega)) only [bX2_findOrders, jxs, hps, jtsw, jlsw, List.length_cons, List.length_nil, true_and, and_true, true_implies, false_implies, implies_true, not_true_eq_false, not_false_eq_true, false_and, and_false, if_true, if_false, or_true, true_or, or_false, false_or, Classical.not_not, and_self, Int.reduceAdd, Int.reduceMul, Int.reduceSub, Int.reduceNeg, Int.reduceLT, Int.reduceLE, Int.reduceEq, Int.reduceNe, Int.reduceToNat, Nat.reduceAdd, Nat.reduceMul, Nat.reduceSub, Nat.reduceLeDiff, Nat.reduceLT, Nat.reduceEqDiff, reduceIte, Nat.zero_le, Nat.le_refl, Nat.add_zero, Nat.zero_add, twT hT, twV hV]
      refine ⟨0, 0, ⟨by omega, by omega⟩, tw_has  hT (by (first | assumption | (repeat (first | assumption | refine PV.A ?_ (by decide) | refine PV.F ?_ ?_ | refine twR.up ?_ (by decide) | refine PV.r ?_)))) (by (first | omega | assumption | trivial | (simp only [inI]; omega) | (simp only [inL]; omega) | (refine jb_01) | (exact jb_in))) ?_⟩
      simp (disch := (first | decide | omega)) only [jxs, hps, jtsw, jlsw, List.length_cons, List.length_nil, true_and, and_true, true_implies, false_implies, implies_true, not_true_eq_false, not_false_eq_true, false_and, and_false, if_true, if_false, or_true, true_or, or_false, false_or, Classical.not_not, and_self, Int.reduceAdd, Int.reduceMul, Int.reduceSub, Int.reduceNeg, Int.reduceLT, Int.reduceLE, Int.reduceEq, Int.reduceNe, Int.reduceToNat, Nat.reduceAdd, Nat.reduceMul, Nat.reduceSub, Nat.reduceLeDiff, Nat.reduceLT, Nat.reduceEqDiff, reduceIte, Nat.zero_le, Nat.le_refl, Nat.add_zero, Nat.zero_add, twT hT, twV hV, hb]
      refine jW_step ?_
      simp (disch := (first | decide | omega)) only [bX2_findOrders, jxs, hps, jtsw, jlsw, List.length_cons, List.length_nil, true_and, and_true, true_implies, false_implies, implies_true, not_true_eq_false, not_false_eq_true, false_and, and_false, if_true, if_false, or_true, true_or, or_false, false_or, Classical.not_not, and_self, Int.reduceAdd, Int.reduceMul, Int.reduceSub, Int.reduceNeg, Int.reduceLT, Int.reduceLE, Int.reduceEq, Int.reduceNe, Int.reduceToNat, Nat.reduceAdd, Nat.reduceMul, Nat.reduceSub, Nat.reduceLeDiff, Nat.reduceLT, Nat.reduceEqDiff, reduceIte, Nat.zero_le, Nat.le_refl, Nat.add_zero, Nat.zero_add, twT hT, twV hV]
      refine ⟨0, 0, ⟨by omega, by omega⟩, tw_has  hT (by (first | assumption | (repeat (first | assumption | refine PV.A ?_ (by decide) | refine PV.F ?_ ?_ | refine twR.up ?_ (by decide) | refine PV.r ?_)))) (by (first | omega | assumption | trivial | (simp only [inI]; omega) | (simp only [inL]; omega) | (refine jb_01) | (exact jb_in))) ?_⟩
      simp (disch := (first | decide | omega)) only [jxs, hps, jtsw, jlsw, List.length_cons, List.length_nil, true_and, and_true, true_implies, false_implies, implies_true, not_true_eq_false, not_false_eq_true, false_and, and_false, if_true, if_false, or_true, true_or, or_false, false_or, Classical.not_not, and_self, Int.reduceAdd, Int.reduceMul, Int.reduceSub, Int.reduceNeg, Int.reduceLT, Int.reduceLE, Int.reduceEq, Int.reduceNe, Int.reduceToNat, Nat.reduceAdd, Nat.reduceMul, Nat.reduceSub, Nat.reduceLeDiff, Nat.reduceLT, Nat.reduceEqDiff, reduceIte, Nat.zero_le, Nat.le_refl, Nat.add_zero, Nat.zero_add, twT hT, twV hV, hb]
      refine jW_step ?_
      simp (disch := (first | decide | omega)) only [bX2_findOrders, jxs, hps, jtsw, jlsw, List.length_cons, List.length_nil, true_and, and_true, true_implies, false_implies, implies_true, not_true_eq_false, not_false_eq_true, false_and, and_false, if_true, if_false, or_true, true_or, or_false, false_or, Classical.not_not, and_self, Int.reduceAdd, Int.reduceMul, Int.reduceSub, Int.reduceNeg, Int.reduceLT, Int.reduceLE, Int.reduceEq, Int.reduceNe, Int.reduceToNat, Nat.reduceAdd, Nat.reduceMul, Nat.reduceSub, Nat.reduceLeDiff, Nat.reduceLT, Nat.reduceEqDiff, reduceIte, Nat.zero_le, Nat.le_refl, Nat.add_zero, Nat.zero_add, twT hT, twV hV]
      (repeat (refine And.intro (by (first | omega | assumption | trivial | (simp only [inI]; omega) | (simp only [inL]; omega) | (refine jb_01) | (exact jb_in))) ?_))
      have := ih k (e + 1) h1 h2 (by omega) (by omega) hk
      first | exact this | (rw [show k - 0 = k by omega]; exact this)
    · rw [if_neg hb] at h1 h2
      have hb0 : u / 2 ^ e.toNat % 2 = 0 := by omega
      refine jW_step ?_
      simp (disch := (first | decide | omega)) only [bX2_findOrders, jxs, hps, jtsw, jlsw, List.length_cons, List.length_nil, true_and, and_true, true_implies, false_implies, implies_true, not_true_eq_false, not_false_eq_true, false_and, and_false, if_true, if_false, or_true, true_or, or_false, false_or, Classical.not_not, and_self, Int.reduceAdd, Int.reduceMul, Int.reduceSub, Int.reduceNeg, Int.reduceLT, Int.reduceLE, Int.reduceEq, Int.reduceNe, Int.reduceToNat, Nat.reduceAdd, Nat.reduceMul, Nat.reduceSub, Nat.reduceLeDiff, Nat.reduceLT, Nat.reduceEqDiff, reduceIte, Nat.zero_le, Nat.le_refl, Nat.add_zero, Nat.zero_add, twT hT, twV hV]
      refine ⟨0, 0, ⟨by omega, by omega⟩, tw_has  hT (by (first | assumption | (repeat (first | assumption | refine PV.A ?_ (by decide) | refine PV.F ?_ ?_ | refine twR.up ?_ (by decide) | refine PV.r ?_)))) (by (first | omega | assumption | trivial | (simp only [inI]; omega) | (simp only [inL]; omega) | (refine jb_01) | (exact jb_in))) ?_⟩
      simp (disch := (first | decide | omega)) only [jxs, hps, jtsw, jlsw, List.length_cons, List.length_nil, true_and, and_true, true_implies, false_implies, implies_true, not_true_eq_false, not_false_eq_true, false_and, and_false, if_true, if_false, or_true, true_or, or_false, false_or, Classical.not_not, and_self, Int.reduceAdd, Int.reduceMul, Int.reduceSub, Int.reduceNeg, Int.reduceLT, Int.reduceLE, Int.reduceEq, Int.reduceNe, Int.reduceToNat, Nat.reduceAdd, Nat.reduceMul, Nat.reduceSub, Nat.reduceLeDiff, Nat.reduceLT, Nat.reduceEqDiff, reduceIte, Nat.zero_le, Nat.le_refl, Nat.add_zero, Nat.zero_add, twT hT, twV hV, hb0]
      refine ⟨fun h => ?_, fun h => ?_⟩
      · rw [if_neg (by omega)] at h2
        subst h2
        rw [jshl_1 (by omega) (by omega), jor_b hu hE.1 hE.2]
        (repeat (refine And.intro (by (first | omega | assumption | trivial | (simp only [inI]; omega) | (simp only [inL]; omega) | (refine jb_01) | (exact jb_in))) ?_))
        exact jW_sub (by simp [jsub]) hQ
      · rw [if_pos (by omega)] at h1 h2
        refine jW_step ?_
        simp (disch := (first | decide | omega)) only [bX2_findOrders, jxs, hps, jtsw, jlsw, List.length_cons, List.length_nil, true_and, and_true, true_implies, false_implies, implies_true, not_true_eq_false, not_false_eq_true, false_and, and_false, if_true, if_false, or_true, true_or, or_false, false_or, Classical.not_not, and_self, Int.reduceAdd, Int.reduceMul, Int.reduceSub, Int.reduceNeg, Int.reduceLT, Int.reduceLE, Int.reduceEq, Int.reduceNe, Int.reduceToNat, Nat.reduceAdd, Nat.reduceMul, Nat.reduceSub, Nat.reduceLeDiff, Nat.reduceLT, Nat.reduceEqDiff, reduceIte, Nat.zero_le, Nat.le_refl, Nat.add_zero, Nat.zero_add, twT hT, twV hV]
        refine ⟨0, 0, ⟨by omega, by omega⟩, tw_has  hT (by (first | assumption | (repeat (first | assumption | refine PV.A ?_ (by decide) | refine PV.F ?_ ?_ | refine twR.up ?_ (by decide) | refine PV.r ?_)))) (by (first | omega | assumption | trivial | (simp only [inI]; omega) | (simp only [inL]; omega) | (refine jb_01) | (exact jb_in))) ?_⟩
        simp (disch := (first | decide | omega)) only [jxs, hps, jtsw, jlsw, List.length_cons, List.length_nil, true_and, and_true, true_implies, false_implies, implies_true, not_true_eq_false, not_false_eq_true, false_and, and_false, if_true, if_false, or_true, true_or, or_false, false_or, Classical.not_not, and_self, Int.reduceAdd, Int.reduceMul, Int.reduceSub, Int.reduceNeg, Int.reduceLT, Int.reduceLE, Int.reduceEq, Int.reduceNe, Int.reduceToNat, Nat.reduceAdd, Nat.reduceMul, Nat.reduceSub, Nat.reduceLeDiff, Nat.reduceLT, Nat.reduceEqDiff, reduceIte, Nat.zero_le, Nat.le_refl, Nat.add_zero, Nat.zero_add, twT hT, twV hV, hb0]
        refine jW_step ?_
        simp (disch := (first | decide | omega)) only [bX2_findOrders, jxs, hps, jtsw, jlsw, List.length_cons, List.length_nil, true_and, and_true, true_implies, false_implies, implies_true, not_true_eq_false, not_false_eq_true, false_and, and_false, if_true, if_false, or_true, true_or, or_false, false_or, Classical.not_not, and_self, Int.reduceAdd, Int.reduceMul, Int.reduceSub, Int.reduceNeg, Int.reduceLT, Int.reduceLE, Int.reduceEq, Int.reduceNe, Int.reduceToNat, Nat.reduceAdd, Nat.reduceMul, Nat.reduceSub, Nat.reduceLeDiff, Nat.reduceLT, Nat.reduceEqDiff, reduceIte, Nat.zero_le, Nat.le_refl, Nat.add_zero, Nat.zero_add, twT hT, twV hV]
        (repeat (refine And.intro (by (first | omega | assumption | trivial | (simp only [inI]; omega) | (simp only [inL]; omega) | (refine jb_01) | (exact jb_in))) ?_))
        exact ih (k - 1) (e + 1) h1 h2 (by omega) (by omega) (by omega)
theorem tw_fo_2 {n m : Int} (hT : PT T) (hm : 0 ≤ m ∧ m ≤ 6) (hn : 0 ≤ n ∧ n < fac m) : ∀ (r : Nat) (p : Int) (v : Int → Int → Int), PV v → v 539 34 = m → 0 ≤ p → m = p + r → ORD (v 551) m n p →
    (∀ w, ORD (w 551) m (n + 1) 0 → (∀ a, a ≠ 551 → w a = v a) → jW bX2_findOrders (g, d + 1, 0, 0, Q) 1 [some (vR 539), some (vI (n + 1)), none, none, none, none, none, none] [] (w, T) 0 0) →
    jW bX2_findOrders (g, d + 1, 0, 0, Q) 2 [some (vR 539), some (vI n), some (vI (dsF m n p.toNat).1), some (vI (dsF m n p.toNat).2), some (vI p), none, none, none] [] (v, T) 0 0 := by
  have hf := fac_bd hm.2
  intro r
  induction r with
  | zero =>
    intro p v hV h34 hp hr hO hQ
    refine jW_step ?_
    simp (disch := (first | decide | omega)) only [bX2_findOrders, jxs, hps, jtsw, jlsw, List.length_cons, List.length_nil, true_and, and_true, true_implies, false_implies, implies_true, not_true_eq_false, not_false_eq_true, false_and, and_false, if_true, if_false, or_true, true_or, or_false, false_or, Classical.not_not, and_self, Int.reduceAdd, Int.reduceMul, Int.reduceSub, Int.reduceNeg, Int.reduceLT, Int.reduceLE, Int.reduceEq, Int.reduceNe, Int.reduceToNat, Nat.reduceAdd, Nat.reduceMul, Nat.reduceSub, Nat.reduceLeDiff, Nat.reduceLT, Nat.reduceEqDiff, reduceIte, Nat.zero_le, Nat.le_refl, Nat.add_zero, Nat.zero_add, twT hT, twV hV, h34]
    (repeat (refine And.intro (by (first | omega | assumption | trivial | (simp only [inI]; omega) | (simp only [inL]; omega) | (refine jb_01) | (exact jb_in))) ?_))
    (try refine ⟨fun _ => ?_, fun h9 => (by exfalso; omega)⟩)
    (repeat (refine And.intro (by (first | omega | assumption | trivial | (simp only [inI]; omega) | (simp only [inL]; omega) | (refine jb_01) | (exact jb_in))) ?_))
    refine jW_sub (ls' := [some (vR 539), some (vI (n + 1)), none, none, none, none, none, none]) (by simp [jsub]) ?_
    exact hQ v (fun x y a b c e => hO x y a b c (by omega)) (fun _ _ => rfl)
  | succ r ih =>
    intro p v hV h34 hp hr hO hQ
    have st := dec_st hm hn ⟨hp, (by omega : p < m)⟩
    have fb := fac_bd (n := m - 1 - p) (by omega)
    obtain ⟨s1, s2, s3, s4, s5, s6, s7, s8⟩ := st
    have goal2 : jW bX2_findOrders (g, d + 1, 0, 0, Q) 2 [some (vR 539), some (vI n), some (vI ((dsF m n p.toNat).1 % fac (m - 1 - p))), some (vI ((dsF m n p.toNat).2 + 2 ^ (dec m n p).toNat)), some (vI (p + 1)), none, none, none] [] (upA v 551 (up1 (v 551) (6 * n + p) (dec m n p)), T) 0 0 := by
      rw [← s7, ← s8]
      refine ih (p + 1) _ (by (first | assumption | (repeat (first | assumption | refine PV.A ?_ (by decide) | refine PV.F ?_ ?_ | refine twR.up ?_ (by decide) | refine PV.r ?_)))) (by rw [upA_ne (by omega)]; exact h34) (by omega) (by omega) ?_ ?_
      · rw [upA_eq]
        intro x y a b c e
        by_cases h : x = n ∧ y = p
        · rw [h.1, h.2, up1_eq]
        · rw [up1_ne (by omega)]
          exact hO x y a b c (by omega)
      · intro w h1 h2
        exact hQ w h1 (fun a ha => (h2 a ha).trans (upA_ne ha))
    generalize (dsF m n p.toNat).1 = L at *
    generalize (dsF m n p.toNat).2 = U at *
    have hq : 0 ≤ L / fac (m - 1 - p) ∧ L / fac (m - 1 - p) ≤ 1000 := ⟨Int.ediv_nonneg s5.1 (by omega), by have := Int.ediv_le_self (b := fac (m - 1 - p)) (show 0 ≤ L by omega); omega⟩
    refine jW_step ?_
    simp (disch := (first | decide | omega)) only [bX2_findOrders, jxs, hps, jtsw, jlsw, List.length_cons, List.length_nil, true_and, and_true, true_implies, false_implies, implies_true, not_true_eq_false, not_false_eq_true, false_and, and_false, if_true, if_false, or_true, true_or, or_false, false_or, Classical.not_not, and_self, Int.reduceAdd, Int.reduceMul, Int.reduceSub, Int.reduceNeg, Int.reduceLT, Int.reduceLE, Int.reduceEq, Int.reduceNe, Int.reduceToNat, Nat.reduceAdd, Nat.reduceMul, Nat.reduceSub, Nat.reduceLeDiff, Nat.reduceLT, Nat.reduceEqDiff, reduceIte, Nat.zero_le, Nat.le_refl, Nat.add_zero, Nat.zero_add, twT hT, twV hV, h34]
    (repeat (refine And.intro (by (first | omega | assumption | trivial | (simp only [inI]; omega) | (simp only [inL]; omega) | (refine jb_01) | (exact jb_in))) ?_))
    (first | refine ⟨fun h9 => (by exfalso; omega), fun _ => ?_⟩ | intro _)
    (repeat (refine And.intro (by (first | omega | assumption | trivial | (simp only [inI]; omega) | (simp only [inL]; omega) | (refine jb_01) | (exact jb_in))) ?_))
    refine ⟨0, 0, ⟨by omega, by omega⟩, tw_factorial hT hV (by omega) ?_⟩
    simp (disch := (first | decide | omega)) only [jxs, hps, jtsw, jlsw, List.length_cons, List.length_nil, true_and, and_true, true_implies, false_implies, implies_true, not_true_eq_false, not_false_eq_true, false_and, and_false, if_true, if_false, or_true, true_or, or_false, false_or, Classical.not_not, and_self, Int.reduceAdd, Int.reduceMul, Int.reduceSub, Int.reduceNeg, Int.reduceLT, Int.reduceLE, Int.reduceEq, Int.reduceNe, Int.reduceToNat, Nat.reduceAdd, Nat.reduceMul, Nat.reduceSub, Nat.reduceLeDiff, Nat.reduceLT, Nat.reduceEqDiff, reduceIte, Nat.zero_le, Nat.le_refl, Nat.add_zero, Nat.zero_add, twT hT, twV hV]
    (repeat (refine And.intro (by (first | omega | assumption | trivial | (simp only [inI]; omega) | (simp only [inL]; omega) | (refine jb_01) | (exact jb_in))) ?_))
    exact tw_fo_3 hT hV s4 ⟨⟨s3.1, by omega⟩, s6⟩ (by omega) (by omega) goal2 8 _ 0 s1 s2 (by omega) (by omega) hq
theorem tw_fo_1 {m : Int} (hT : PT T) (hm : 0 ≤ m ∧ m ≤ 6) : ∀ (r : Nat) (n : Int) (v : Int → Int → Int), PV v → v 539 34 = m → v 539 35 = fac m → 0 ≤ n → n + r = fac m → ORD (v 551) m n 0 →
    (∀ w, ORD (w 551) m (fac m) 0 → (∀ a, a ≠ 551 → w a = v a) → Q (.inl none) (w, T)) →
    jW bX2_findOrders (g, d + 1, 0, 0, Q) 1 [some (vR 539), some (vI n), none, none, none, none, none, none] [] (v, T) 0 0 := by
  have hf := fac_bd hm.2
  intro r
  induction r with
  | zero =>
    intro n v hV h34 h35 hn hr hO hQ
    refine jW_step ?_
    simp (disch := (first | decide | omega)) only [bX2_findOrders, jxs, hps, jtsw, jlsw, List.length_cons, List.length_nil, true_and, and_true, true_implies, false_implies, implies_true, not_true_eq_false, not_false_eq_true, false_and, and_false, if_true, if_false, or_true, true_or, or_false, false_or, Classical.not_not, and_self, Int.reduceAdd, Int.reduceMul, Int.reduceSub, Int.reduceNeg, Int.reduceLT, Int.reduceLE, Int.reduceEq, Int.reduceNe, Int.reduceToNat, Nat.reduceAdd, Nat.reduceMul, Nat.reduceSub, Nat.reduceLeDiff, Nat.reduceLT, Nat.reduceEqDiff, reduceIte, Nat.zero_le, Nat.le_refl, Nat.add_zero, Nat.zero_add, twT hT, twV hV, h35]
    (repeat (refine And.intro (by (first | omega | assumption | trivial | (simp only [inI]; omega) | (simp only [inL]; omega) | (refine jb_01) | (exact jb_in))) ?_))
    (try refine ⟨fun _ => ?_, fun h9 => (by exfalso; omega)⟩)
    (repeat (refine And.intro (by (first | omega | assumption | trivial | (simp only [inI]; omega) | (simp only [inL]; omega) | (refine jb_01) | (exact jb_in))) ?_))
    exact hQ v (by rwa [show fac m = n by omega]) (fun _ _ => rfl)
  | succ r ih =>
    intro n v hV h34 h35 hn hr hO hQ
    refine jW_step ?_
    simp (disch := (first | decide | omega)) only [bX2_findOrders, jxs, hps, jtsw, jlsw, List.length_cons, List.length_nil, true_and, and_true, true_implies, false_implies, implies_true, not_true_eq_false, not_false_eq_true, false_and, and_false, if_true, if_false, or_true, true_or, or_false, false_or, Classical.not_not, and_self, Int.reduceAdd, Int.reduceMul, Int.reduceSub, Int.reduceNeg, Int.reduceLT, Int.reduceLE, Int.reduceEq, Int.reduceNe, Int.reduceToNat, Nat.reduceAdd, Nat.reduceMul, Nat.reduceSub, Nat.reduceLeDiff, Nat.reduceLT, Nat.reduceEqDiff, reduceIte, Nat.zero_le, Nat.le_refl, Nat.add_zero, Nat.zero_add, twT hT, twV hV, h35]
    (repeat (refine And.intro (by (first | omega | assumption | trivial | (simp only [inI]; omega) | (simp only [inL]; omega) | (refine jb_01) | (exact jb_in))) ?_))
    (first | refine ⟨fun h9 => (by exfalso; omega), fun _ => ?_⟩ | intro _)
    refine tw_fo_2 hT hm ⟨hn, by omega⟩ m.toNat 0 v hV h34 (by omega) (by omega) hO ?_
    intro w h1 h2
    refine ih (n + 1) w (hV.fr (fun a ha => h2 a (fun e => by subst e; revert ha; decide))) (by rw [h2 539 (by omega)]; exact h34) (by rw [h2 539 (by omega)]; exact h35) (by omega) (by omega) h1 ?_
    intro w2 h3 h4
    exact hQ w2 h3 (fun a ha => (h4 a ha).trans (h2 a ha))
theorem tw_findOrders {m : Int} {v : Int → Int → Int} (hT : PT T) (hV : PV v) (hS : v 539 34 = m ∧ (0 ≤ m ∧ m ≤ 6)) (hQ : ∀ w, ORD (w 551) m (fac m) 0 → w 539 = up1 (v 539) 35 (fac m) → (∀ a, a ≠ 539 → a ≠ 551 → w a = v a) → Q (.inl none) (w, T)) : jmet g (d + 2) 0 0 MX2_findOrders [vR 539] (v, T) Q := by
  obtain ⟨h34, hm⟩ := hS
  have hf := fac_bd hm.2
  refine jmet_of (ls := [some (vR 539), none, none, none, none, none, none, none]) sX2_findOrders rfl (by decide +kernel) (by decide) rfl (by simp [jent]) ?_
  refine jW_step ?_
  simp (disch := (first | decide | omega)) only [bX2_findOrders, jxs, hps, jtsw, jlsw, List.length_cons, List.length_nil, true_and, and_true, true_implies, false_implies, implies_true, not_true_eq_false, not_false_eq_true, false_and, and_false, if_true, if_false, or_true, true_or, or_false, false_or, Classical.not_not, and_self, Int.reduceAdd, Int.reduceMul, Int.reduceSub, Int.reduceNeg, Int.reduceLT, Int.reduceLE, Int.reduceEq, Int.reduceNe, Int.reduceToNat, Nat.reduceAdd, Nat.reduceMul, Nat.reduceSub, Nat.reduceLeDiff, Nat.reduceLT, Nat.reduceEqDiff, reduceIte, Nat.zero_le, Nat.le_refl, Nat.add_zero, Nat.zero_add, twT hT, twV hV, h34]
  (repeat (refine And.intro (by (first | omega | assumption | trivial | (simp only [inI]; omega) | (simp only [inL]; omega) | (refine jb_01) | (exact jb_in))) ?_))
  refine ⟨0, 0, ⟨by omega, by omega⟩, tw_factorial hT hV hm ?_⟩
  simp (disch := (first | decide | omega)) only [jxs, hps, jtsw, jlsw, List.length_cons, List.length_nil, true_and, and_true, true_implies, false_implies, implies_true, not_true_eq_false, not_false_eq_true, false_and, and_false, if_true, if_false, or_true, true_or, or_false, false_or, Classical.not_not, and_self, Int.reduceAdd, Int.reduceMul, Int.reduceSub, Int.reduceNeg, Int.reduceLT, Int.reduceLE, Int.reduceEq, Int.reduceNe, Int.reduceToNat, Nat.reduceAdd, Nat.reduceMul, Nat.reduceSub, Nat.reduceLeDiff, Nat.reduceLT, Nat.reduceEqDiff, reduceIte, Nat.zero_le, Nat.le_refl, Nat.add_zero, Nat.zero_add, twT hT, twV hV]
  (repeat (refine And.intro (by (first | omega | assumption | trivial | (simp only [inI]; omega) | (simp only [inL]; omega) | (refine jb_01) | (exact jb_in))) ?_))
  refine tw_fo_1 hT hm (fac m).toNat 0 _ (by (first | assumption | (repeat (first | assumption | refine PV.A ?_ (by decide) | refine PV.F ?_ ?_ | refine twR.up ?_ (by decide) | refine PV.r ?_)))) (by rw [upA_eq, up1_ne (by omega)]; exact h34) (by rw [upA_eq, up1_eq]) (by omega) (by omega) (fun x y a b c e => by omega) ?_
  intro w h1 h2
  refine hQ w h1 ?_ ?_
  · rw [h2 539 (by omega), upA_eq]
  · intro a a1 a2
    rw [h2 a a2, upA_ne a1]
end TG
