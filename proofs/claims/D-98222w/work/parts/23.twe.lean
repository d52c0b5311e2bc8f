/-! ===== the reference works a clause: the walk ===== -/
set_option maxRecDepth 100000
section TG
variable {g : jjG} {d : Nat} {T : jjT} {Q : jjQ}
theorem tw_work_L {p : Int → Prop} {k x cd : Int} {s' : rpS} (hT : PT T) (hx : 0 ≤ x ∧ x + 3 < 2820) (hcd : 0 ≤ cd) : ∀ (c : List (Int × Int)) (vs ts : List Int) (v : Int → Int → Int) (i : Int), PV v → v 542 (x + 3) = i + c.length → 0 ≤ i → cd + 2 * (i + c.length) ≤ 2820 →
    cdl (v 542) (cd + 2 * i) c.length = c → (∀ q ∈ c, okC p q) → (∀ j, p j → (0 ≤ j ∧ j < 15) ∧ (-1000000 ≤ v 545 j ∧ v 545 j ≤ 1000000)) → stk (v 546) vs → stk (v 547) ts → bdV vs → bdT ts → (vs.length : Int) + c.length ≤ 330 → (ts.length : Int) + c.length ≤ 330 →
    rpn (v 545) c (vs, ts) = some s' → (∀ va tr, stk va s'.1 → stk tr s'.2 → Q (.inl none) (upA (upA v 546 va) 547 tr, T)) →
    jW bX2_work (g, d + 2, 0, 0, Q) 1 [some (vR 539), some (vI k), some (vI x), some (vI cd), some (vI (vs.length : Int)), some (vI (ts.length : Int)), some (vI i), none, none] [] (v, T) 0 0 := by
  intro c
  induction c with
  | nil =>
    intro vs ts v i hV h3 hi hb hc hok hN hvs hts bv bt l1 l2 hr hQ
    simp only [List.length_nil] at h3
    refine jW_step ?_
    simp (disch := (first | decide | omega)) only [bX2_work, jxs, hps, jtsw, jlsw, List.length_cons, List.length_nil, true_and, and_true, true_implies, false_implies, implies_true, not_true_eq_false, not_false_eq_true, false_and, and_false, if_true, if_false, or_true, true_or, or_false, false_or, Classical.not_not, and_self, Int.reduceAdd, Int.reduceMul, Int.reduceSub, Int.reduceNeg, Int.reduceLT, Int.reduceLE, Int.reduceEq, Int.reduceNe, Int.reduceToNat, Nat.reduceAdd, Nat.reduceMul, Nat.reduceSub, Nat.reduceLeDiff, Nat.reduceLT, Nat.reduceEqDiff, reduceIte, Nat.zero_le, Nat.le_refl, Nat.add_zero, Nat.zero_add, twT hT, twV hV]
    (repeat (refine And.intro (by (first | omega | assumption | trivial | (simp only [inI]; omega) | (simp only [inL]; omega) | (refine jb_01) | (exact jb_in))) ?_))
    (try refine ⟨fun _ => ?_, fun h9 => (by exfalso; omega)⟩)
    (repeat (refine And.intro (by (first | omega | assumption | trivial | (simp only [inI]; omega) | (simp only [inL]; omega) | (refine jb_01) | (exact jb_in))) ?_))
    simp only [rpn, Option.some.injEq] at hr
    subst hr
    have := hQ (v 546) (v 547) hvs hts
    rwa [upA_id, upA_id] at this
  | cons q cs ih =>
    intro vs ts v i hV h3 hi hb hc hok hN hvs hts bv bt l1 l2 hr hQ
    obtain ⟨o, w⟩ := q
    simp only [List.length_cons, Int.natCast_add, Int.natCast_one] at h3 hb hc l1 l2
    unfold cdl at hc
    simp only [List.cons.injEq, Prod.mk.injEq] at hc
    obtain ⟨⟨ho, hw⟩, hc⟩ := hc
    have hq := hok (o, w) (List.mem_cons_self ..)
    have hok' : ∀ q ∈ cs, okC p q := fun q hq => hok q (List.mem_cons_of_mem _ hq)
    unfold rpn at hr
    have fin : ∀ (va tr : Int → Int) (s1 : rpS) (n1 t1 : Int), n1 = s1.1.length → t1 = s1.2.length → stk va s1.1 → stk tr s1.2 → bdV s1.1 → bdT s1.2 → (s1.1.length : Int) ≤ vs.length + 1 → (s1.2.length : Int) ≤ ts.length + 1 → rpn (v 545) cs s1 = some s' →
        jW bX2_work (g, d + 2, 0, 0, Q) 7 [some (vR 539), some (vI k), some (vI x), some (vI cd), some (vI n1), some (vI t1), some (vI i), some (vI o), some (vI w)] [] (upA (upA v 546 va) 547 tr, T) 0 0 := by
      intro va tr s1 n1 t1 en et h1 h2 b1 b2 m1 m2 hr1
      subst en et
      refine jW_step ?_
      simp (disch := (first | decide | omega)) only [bX2_work, jxs, hps, jtsw, jlsw, List.length_cons, List.length_nil, true_and, and_true, true_implies, false_implies, implies_true, not_true_eq_false, not_false_eq_true, false_and, and_false, if_true, if_false, or_true, true_or, or_false, false_or, Classical.not_not, and_self, Int.reduceAdd, Int.reduceMul, Int.reduceSub, Int.reduceNeg, Int.reduceLT, Int.reduceLE, Int.reduceEq, Int.reduceNe, Int.reduceToNat, Nat.reduceAdd, Nat.reduceMul, Nat.reduceSub, Nat.reduceLeDiff, Nat.reduceLT, Nat.reduceEqDiff, reduceIte, Nat.zero_le, Nat.le_refl, Nat.add_zero, Nat.zero_add, twT hT, twV hV]
      (repeat (refine And.intro (by (first | omega | assumption | trivial | (simp only [inI]; omega) | (simp only [inL]; omega) | (refine jb_01) | (exact jb_in))) ?_))
      refine jW_sub (ls' := [some (vR 539), some (vI k), some (vI x), some (vI cd), some (vI (s1.1.length : Int)), some (vI (s1.2.length : Int)), some (vI (i + 1)), none, none]) (by simp [jsub]) ?_
      refine ih s1.1 s1.2 _ (i + 1) (by (first | assumption | (repeat (first | assumption | refine PV.A ?_ (by decide) | refine PV.F ?_ ?_ | refine twR.up ?_ (by decide) | refine PV.r ?_)))) ?_ (by omega) (by omega) ?_ hok' ?_ ?_ ?_ b1 b2 (by omega) (by omega) ?_ ?_
      · simp (disch := omega) only [upA_ne]; omega
      · simp (disch := omega) only [upA_ne]
        rw [show cd + 2 * (i + 1) = cd + 2 * i + 2 by omega]
        exact hc
      · simp (disch := omega) only [upA_ne]
        exact hN
      · simp (disch := omega) only [upA_ne, upA_eq]
        exact h1
      · simp (disch := omega) only [upA_eq]
        exact h2
      · simp (disch := omega) only [upA_ne]
        exact hr1
      · intro va' tr' e1 e2
        have := hQ va' tr' e1 e2
        simp (disch := omega) only [upA_same, upA_comm]
        exact this
    have fin1 : ∀ (va : Int → Int) (s1 : rpS) (n1 : Int), n1 = s1.1.length → s1.2 = ts → stk va s1.1 → bdV s1.1 → (s1.1.length : Int) ≤ vs.length + 1 → rpn (v 545) cs s1 = some s' →
        jW bX2_work (g, d + 2, 0, 0, Q) 7 [some (vR 539), some (vI k), some (vI x), some (vI cd), some (vI n1), some (vI (ts.length : Int)), some (vI i), some (vI o), some (vI w)] [] (upA v 546 va, T) 0 0 := by
      intro va s1 n1 en e h1 b1 m1 hr1
      have := fin va (v 547) s1 n1 _ en rfl h1 (e ▸ hts) b1 (e ▸ bt) m1 (by rw [e]; omega) hr1
      rw [show upA (upA v 546 va) 547 (v 547) = upA v 546 va from by rw [show v 547 = upA v 546 va 547 from (upA_ne (by omega)).symm, upA_id], e] at this
      exact this
    have fin2 : ∀ (tr : Int → Int) (s1 : rpS) (n1 t1 : Int), n1 = s1.1.length → t1 = s1.2.length → stk (v 546) s1.1 → stk tr s1.2 → bdV s1.1 → bdT s1.2 → (s1.1.length : Int) ≤ vs.length + 1 → (s1.2.length : Int) ≤ ts.length + 1 → rpn (v 545) cs s1 = some s' →
        jW bX2_work (g, d + 2, 0, 0, Q) 7 [some (vR 539), some (vI k), some (vI x), some (vI cd), some (vI n1), some (vI t1), some (vI i), some (vI o), some (vI w)] [] (upA v 547 tr, T) 0 0 := by
      intro tr s1 n1 t1 en et h1 h2 b1 b2 m1 m2 hr1
      have := fin (v 546) tr s1 n1 t1 en et h1 h2 b1 b2 m1 m2 hr1
      rw [upA_id] at this
      exact this
    refine jW_step ?_
    simp (disch := (first | decide | omega)) only [bX2_work, jxs, hps, jtsw, jlsw, List.length_cons, List.length_nil, true_and, and_true, true_implies, false_implies, implies_true, not_true_eq_false, not_false_eq_true, false_and, and_false, if_true, if_false, or_true, true_or, or_false, false_or, Classical.not_not, and_self, Int.reduceAdd, Int.reduceMul, Int.reduceSub, Int.reduceNeg, Int.reduceLT, Int.reduceLE, Int.reduceEq, Int.reduceNe, Int.reduceToNat, Nat.reduceAdd, Nat.reduceMul, Nat.reduceSub, Nat.reduceLeDiff, Nat.reduceLT, Nat.reduceEqDiff, reduceIte, Nat.zero_le, Nat.le_refl, Nat.add_zero, Nat.zero_add, twT hT, twV hV, ho, hw]
    (repeat (refine And.intro (by (first | omega | assumption | trivial | (simp only [inI]; omega) | (simp only [inL]; omega) | (refine jb_01) | (exact jb_in))) ?_))
    (first | refine ⟨fun h9 => (by exfalso; omega), fun _ => ?_⟩ | intro _)
    (repeat (refine And.intro (by (first | omega | assumption | trivial | (simp only [inI]; omega) | (simp only [inL]; omega) | (refine jb_01) | (exact jb_in))) ?_))
    rcases hq with q | q | q | q | q
    · dsimp only at q
      obtain ⟨rfl, q⟩ := q
      simp (disch := (first | decide | omega)) only [jxs, hps, jtsw, jlsw, List.length_cons, List.length_nil, true_and, and_true, true_implies, false_implies, implies_true, not_true_eq_false, not_false_eq_true, false_and, and_false, if_true, if_false, or_true, true_or, or_false, false_or, Classical.not_not, and_self, Int.reduceAdd, Int.reduceMul, Int.reduceSub, Int.reduceNeg, Int.reduceLT, Int.reduceLE, Int.reduceEq, Int.reduceNe, Int.reduceToNat, Nat.reduceAdd, Nat.reduceMul, Nat.reduceSub, Nat.reduceLeDiff, Nat.reduceLT, Nat.reduceEqDiff, reduceIte, Nat.zero_le, Nat.le_refl, Nat.add_zero, Nat.zero_add, twT hT, twV hV]
      refine jW_step ?_
      simp (disch := (first | decide | omega)) only [bX2_work, jxs, hps, jtsw, jlsw, List.length_cons, List.length_nil, true_and, and_true, true_implies, false_implies, implies_true, not_true_eq_false, not_false_eq_true, false_and, and_false, if_true, if_false, or_true, true_or, or_false, false_or, Classical.not_not, and_self, Int.reduceAdd, Int.reduceMul, Int.reduceSub, Int.reduceNeg, Int.reduceLT, Int.reduceLE, Int.reduceEq, Int.reduceNe, Int.reduceToNat, Nat.reduceAdd, Nat.reduceMul, Nat.reduceSub, Nat.reduceLeDiff, Nat.reduceLT, Nat.reduceEqDiff, reduceIte, Nat.zero_le, Nat.le_refl, Nat.add_zero, Nat.zero_add, twT hT, twV hV]
      (repeat (refine And.intro (by (first | omega | assumption | trivial | (simp only [inI]; omega) | (simp only [inL]; omega) | (refine jb_01) | (exact jb_in))) ?_))
      refine fin1 _ (w :: vs, ts) _ (by simp only [List.length_cons]; omega) rfl ⟨up1_eq, stk_up vs (by omega) hvs⟩ (bdV_cons.mpr ⟨by omega, bv⟩) (by simp only [List.length_cons]; omega) hr
    · dsimp only at q
      obtain ⟨rfl, q⟩ := q
      have hn := hN w q
      simp (disch := (first | decide | omega)) only [jxs, hps, jtsw, jlsw, List.length_cons, List.length_nil, true_and, and_true, true_implies, false_implies, implies_true, not_true_eq_false, not_false_eq_true, false_and, and_false, if_true, if_false, or_true, true_or, or_false, false_or, Classical.not_not, and_self, Int.reduceAdd, Int.reduceMul, Int.reduceSub, Int.reduceNeg, Int.reduceLT, Int.reduceLE, Int.reduceEq, Int.reduceNe, Int.reduceToNat, Nat.reduceAdd, Nat.reduceMul, Nat.reduceSub, Nat.reduceLeDiff, Nat.reduceLT, Nat.reduceEqDiff, reduceIte, Nat.zero_le, Nat.le_refl, Nat.add_zero, Nat.zero_add, twT hT, twV hV]
      (repeat (refine And.intro (by (first | omega | assumption | trivial | (simp only [inI]; omega) | (simp only [inL]; omega) | (refine jb_01) | (exact jb_in))) ?_))
      refine jW_step ?_
      simp (disch := (first | decide | omega)) only [bX2_work, jxs, hps, jtsw, jlsw, List.length_cons, List.length_nil, true_and, and_true, true_implies, false_implies, implies_true, not_true_eq_false, not_false_eq_true, false_and, and_false, if_true, if_false, or_true, true_or, or_false, false_or, Classical.not_not, and_self, Int.reduceAdd, Int.reduceMul, Int.reduceSub, Int.reduceNeg, Int.reduceLT, Int.reduceLE, Int.reduceEq, Int.reduceNe, Int.reduceToNat, Nat.reduceAdd, Nat.reduceMul, Nat.reduceSub, Nat.reduceLeDiff, Nat.reduceLT, Nat.reduceEqDiff, reduceIte, Nat.zero_le, Nat.le_refl, Nat.add_zero, Nat.zero_add, twT hT, twV hV]
      (repeat (refine And.intro (by (first | omega | assumption | trivial | (simp only [inI]; omega) | (simp only [inL]; omega) | (refine jb_01) | (exact jb_in))) ?_))
      refine fin1 _ (v 545 w :: vs, ts) _ (by simp only [List.length_cons]; omega) rfl ⟨up1_eq, stk_up vs (by omega) hvs⟩ (bdV_cons.mpr ⟨by omega, bv⟩) (by simp only [List.length_cons]; omega) hr
    · dsimp only at q
      unfold rst at hr
      simp only [if_neg (show ¬ o ≤ 1 by omega)] at hr
      refine ⟨fun _ => ?_, fun h => (by exfalso; omega)⟩
      by_cases h2 : o = 2
      · subst h2
        simp only [if_true] at hr
        match vs, hvs, bv, hr with
        | a :: vs, hvs, bv, hr =>
          have ba := (bdV_cons.mp bv).1
          simp only [List.length_cons, Int.natCast_add, Int.natCast_one] at l1 fin1 ⊢
          simp (disch := (first | decide | omega)) only [jxs, hps, jtsw, jlsw, List.length_cons, List.length_nil, true_and, and_true, true_implies, false_implies, implies_true, not_true_eq_false, not_false_eq_true, false_and, and_false, if_true, if_false, or_true, true_or, or_false, false_or, Classical.not_not, and_self, Int.reduceAdd, Int.reduceMul, Int.reduceSub, Int.reduceNeg, Int.reduceLT, Int.reduceLE, Int.reduceEq, Int.reduceNe, Int.reduceToNat, Nat.reduceAdd, Nat.reduceMul, Nat.reduceSub, Nat.reduceLeDiff, Nat.reduceLT, Nat.reduceEqDiff, reduceIte, Nat.zero_le, Nat.le_refl, Nat.add_zero, Nat.zero_add, twT hT, twV hV]
          have e1 : v 546 ((vs.length : Int) + 1 - 1) = a := by rw [show (vs.length : Int) + 1 - 1 = vs.length by omega]; exact hvs.1
          rw [e1]
          (repeat (refine And.intro (by (first | omega | assumption | trivial | (simp only [inI]; omega) | (simp only [inL]; omega) | (refine jb_01) | (exact jb_in))) ?_))
          refine fin1 _ (-a :: vs, ts) _ (by simp only [List.length_cons]; omega) rfl ⟨?_, ?_⟩ (bdV_cons.mpr ⟨by omega, (bdV_cons.mp bv).2⟩) (by simp only [List.length_cons]; omega) hr
          · rw [show (vs.length : Int) + 1 - 1 = vs.length by omega]; exact up1_eq
          · rw [show (vs.length : Int) + 1 - 1 = vs.length by omega]; exact stk_up vs (by omega) hvs.2
      · simp only [if_neg h2, if_pos (show o < 10 by omega)] at hr
        match vs, hvs, bv, hr with
        | y :: a :: vs, hvs, bv, hr =>
          have by0 := (bdV_cons.mp bv).1
          have ba := (bdV_cons.mp (bdV_cons.mp bv).2).1
          simp only [List.length_cons, Int.natCast_add, Int.natCast_one] at l1 fin1 ⊢
          refine ⟨fun _ => ?_, fun h => (by exfalso; omega)⟩
          refine ⟨fun h => (by exfalso; omega), fun _ => ?_⟩
          have e1 : v 546 ((vs.length : Int) + 1 + 1 + -1 - 1) = a := by rw [show (vs.length : Int) + 1 + 1 + -1 - 1 = vs.length by omega]; exact hvs.2.1
          have e2 : v 546 ((vs.length : Int) + 1 + 1 + -1) = y := by rw [show (vs.length : Int) + 1 + 1 + -1 = vs.length + 1 by omega]; exact hvs.1
          simp (disch := (first | decide | omega)) only [jxs, hps, jtsw, jlsw, List.length_cons, List.length_nil, true_and, and_true, true_implies, false_implies, implies_true, not_true_eq_false, not_false_eq_true, false_and, and_false, if_true, if_false, or_true, true_or, or_false, false_or, Classical.not_not, and_self, Int.reduceAdd, Int.reduceMul, Int.reduceSub, Int.reduceNeg, Int.reduceLT, Int.reduceLE, Int.reduceEq, Int.reduceNe, Int.reduceToNat, Nat.reduceAdd, Nat.reduceMul, Nat.reduceSub, Nat.reduceLeDiff, Nat.reduceLT, Nat.reduceEqDiff, reduceIte, Nat.zero_le, Nat.le_refl, Nat.add_zero, Nat.zero_add, twT hT, twV hV, e1, e2]
          (repeat (refine And.intro (by (first | omega | assumption | trivial | (simp only [inI]; omega) | (simp only [inL]; omega) | (refine jb_01) | (exact jb_in))) ?_))
          refine ⟨0, 0, ⟨by omega, by omega⟩, tw_two hT (by (first | assumption | (repeat (first | assumption | refine PV.A ?_ (by decide) | refine PV.F ?_ ?_ | refine twR.up ?_ (by decide) | refine PV.r ?_)))) (by (first | omega | assumption | trivial | (simp only [inI]; omega) | (simp only [inL]; omega) | (refine jb_01) | (exact jb_in))) ?_⟩
          simp (disch := (first | decide | omega)) only [jxs, hps, jtsw, jlsw, List.length_cons, List.length_nil, true_and, and_true, true_implies, false_implies, implies_true, not_true_eq_false, not_false_eq_true, false_and, and_false, if_true, if_false, or_true, true_or, or_false, false_or, Classical.not_not, and_self, Int.reduceAdd, Int.reduceMul, Int.reduceSub, Int.reduceNeg, Int.reduceLT, Int.reduceLE, Int.reduceEq, Int.reduceNe, Int.reduceToNat, Nat.reduceAdd, Nat.reduceMul, Nat.reduceSub, Nat.reduceLeDiff, Nat.reduceLT, Nat.reduceEqDiff, reduceIte, Nat.zero_le, Nat.le_refl, Nat.add_zero, Nat.zero_add, twT hT, twV hV]
          (repeat (refine And.intro (by (first | omega | assumption | trivial | (simp only [inI]; omega) | (simp only [inL]; omega) | (refine jb_01) | (exact jb_in))) ?_))
          refine fin1 _ (twoz o a y :: vs, ts) _ (by simp only [List.length_cons]; omega) rfl ⟨?_, ?_⟩ (bdV_cons.mpr ⟨twoz_bd _ _ _, (bdV_cons.mp (bdV_cons.mp bv).2).2⟩) (by simp only [List.length_cons]; omega) hr
          · rw [show (vs.length : Int) + 1 + 1 + -1 - 1 = vs.length by omega]; exact up1_eq
          · rw [show (vs.length : Int) + 1 + 1 + -1 - 1 = vs.length by omega]; exact stk_up vs (by omega) hvs.2.2
    · dsimp only at q
      unfold rst at hr
      simp only [if_neg (show ¬ o ≤ 1 by omega), if_neg (show ¬ o = 2 by omega), if_neg (show ¬ o < 10 by omega), if_pos (show o < 20 by omega)] at hr
      refine ⟨fun _ => ?_, fun h => (by exfalso; omega)⟩
      refine ⟨fun _ => ?_, fun h => (by exfalso; omega)⟩
      refine ⟨fun _ => ?_, fun h => (by exfalso; omega)⟩
      refine ⟨fun h => (by exfalso; omega), fun _ => ?_⟩
      match vs, hvs, bv, hr with
      | y :: a :: vs, hvs, bv, hr =>
        simp only [List.length_cons, Int.natCast_add, Int.natCast_one] at l1 fin2 ⊢
        have e1 : v 546 ((vs.length : Int) + 1 + 1 + -2) = a := by rw [show (vs.length : Int) + 1 + 1 + -2 = vs.length by omega]; exact hvs.2.1
        have e2 : v 546 ((vs.length : Int) + 1 + 1 + -2 + 1) = y := by rw [show (vs.length : Int) + 1 + 1 + -2 + 1 = vs.length + 1 by omega]; exact hvs.1
        simp (disch := (first | decide | omega)) only [jxs, hps, jtsw, jlsw, List.length_cons, List.length_nil, true_and, and_true, true_implies, false_implies, implies_true, not_true_eq_false, not_false_eq_true, false_and, and_false, if_true, if_false, or_true, true_or, or_false, false_or, Classical.not_not, and_self, Int.reduceAdd, Int.reduceMul, Int.reduceSub, Int.reduceNeg, Int.reduceLT, Int.reduceLE, Int.reduceEq, Int.reduceNe, Int.reduceToNat, Nat.reduceAdd, Nat.reduceMul, Nat.reduceSub, Nat.reduceLeDiff, Nat.reduceLT, Nat.reduceEqDiff, reduceIte, Nat.zero_le, Nat.le_refl, Nat.add_zero, Nat.zero_add, twT hT, twV hV, e1, e2]
        (repeat (refine And.intro (by (first | omega | assumption | trivial | (simp only [inI]; omega) | (simp only [inL]; omega) | (refine jb_01) | (exact jb_in))) ?_))
        refine ⟨0, 0, ⟨by omega, by omega⟩, tw_isAsked hT (by (first | assumption | (repeat (first | assumption | refine PV.A ?_ (by decide) | refine PV.F ?_ ?_ | refine twR.up ?_ (by decide) | refine PV.r ?_)))) (by (first | omega | assumption | trivial | (simp only [inI]; omega) | (simp only [inL]; omega) | (refine jb_01) | (exact jb_in))) ?_⟩
        simp (disch := (first | decide | omega)) only [jxs, hps, jtsw, jlsw, List.length_cons, List.length_nil, true_and, and_true, true_implies, false_implies, implies_true, not_true_eq_false, not_false_eq_true, false_and, and_false, if_true, if_false, or_true, true_or, or_false, false_or, Classical.not_not, and_self, Int.reduceAdd, Int.reduceMul, Int.reduceSub, Int.reduceNeg, Int.reduceLT, Int.reduceLE, Int.reduceEq, Int.reduceNe, Int.reduceToNat, Nat.reduceAdd, Nat.reduceMul, Nat.reduceSub, Nat.reduceLeDiff, Nat.reduceLT, Nat.reduceEqDiff, reduceIte, Nat.zero_le, Nat.le_refl, Nat.add_zero, Nat.zero_add, twT hT, twV hV]
        have hz := askz_bd o a y
        (repeat (refine And.intro (by (first | omega | assumption | trivial | (simp only [inI]; omega) | (simp only [inL]; omega) | (refine jb_01) | (exact jb_in))) ?_))
        refine fin2 _ (vs, askz o a y :: ts) _ _ (by dsimp only; omega) (by simp only [List.length_cons]; omega) hvs.2.2 ⟨up1_eq, stk_up ts (by omega) hts⟩ (bdV_cons.mp (bdV_cons.mp bv).2).2 (bdT_cons.mpr ⟨hz, bt⟩) (by dsimp only; omega) (by simp only [List.length_cons]; omega) hr
    · dsimp only at q
      unfold rst at hr
      simp only [if_neg (show ¬ o ≤ 1 by omega), if_neg (show ¬ o = 2 by omega), if_neg (show ¬ o < 10 by omega), if_neg (show ¬ o < 20 by omega)] at hr
      refine ⟨fun _ => ?_, fun h => (by exfalso; omega)⟩
      refine ⟨fun _ => ?_, fun h => (by exfalso; omega)⟩
      refine ⟨fun _ => ?_, fun h => (by exfalso; omega)⟩
      refine ⟨fun _ => ?_, fun h => (by exfalso; omega)⟩
      by_cases h20 : o = 20
      · simp only [if_pos h20] at hr
        refine ⟨fun h => (by exfalso; omega), fun _ => ?_⟩
        match ts, hts, bt, hr with
        | a :: ts, hts, bt, hr =>
          have ba := (bdT_cons.mp bt).1
          simp only [List.length_cons, Int.natCast_add, Int.natCast_one] at l2 fin2 ⊢
          have e1 : v 547 ((ts.length : Int) + 1 - 1) = a := by rw [show (ts.length : Int) + 1 - 1 = ts.length by omega]; exact hts.1
          simp (disch := (first | decide | omega)) only [jxs, hps, jtsw, jlsw, List.length_cons, List.length_nil, true_and, and_true, true_implies, false_implies, implies_true, not_true_eq_false, not_false_eq_true, false_and, and_false, if_true, if_false, or_true, true_or, or_false, false_or, Classical.not_not, and_self, Int.reduceAdd, Int.reduceMul, Int.reduceSub, Int.reduceNeg, Int.reduceLT, Int.reduceLE, Int.reduceEq, Int.reduceNe, Int.reduceToNat, Nat.reduceAdd, Nat.reduceMul, Nat.reduceSub, Nat.reduceLeDiff, Nat.reduceLT, Nat.reduceEqDiff, reduceIte, Nat.zero_le, Nat.le_refl, Nat.add_zero, Nat.zero_add, twT hT, twV hV, e1]
          (repeat (refine And.intro (by (first | omega | assumption | trivial | (simp only [inI]; omega) | (simp only [inL]; omega) | (refine jb_01) | (exact jb_in))) ?_))
          have k3 : ∀ z, z = jb (a = 0) → jW bX2_work (g, d + 2, 0, 0, Q) 3 [some (vR 539), some (vI k), some (vI x), some (vI cd), some (vI (vs.length : Int)), some (vI ((ts.length : Int) + 1)), some (vI i), some (vI o), some (vI w)] [vI z, vI ((ts.length : Int) + 1 - 1), vR 547] (v, T) 0 0 := by
            intro z hz
            subst hz
            have hz1 := jb_01 (P := a = 0)
            refine jW_step ?_
            simp (disch := (first | decide | omega)) only [bX2_work, jxs, hps, jtsw, jlsw, List.length_cons, List.length_nil, true_and, and_true, true_implies, false_implies, implies_true, not_true_eq_false, not_false_eq_true, false_and, and_false, if_true, if_false, or_true, true_or, or_false, false_or, Classical.not_not, and_self, Int.reduceAdd, Int.reduceMul, Int.reduceSub, Int.reduceNeg, Int.reduceLT, Int.reduceLE, Int.reduceEq, Int.reduceNe, Int.reduceToNat, Nat.reduceAdd, Nat.reduceMul, Nat.reduceSub, Nat.reduceLeDiff, Nat.reduceLT, Nat.reduceEqDiff, reduceIte, Nat.zero_le, Nat.le_refl, Nat.add_zero, Nat.zero_add, twT hT, twV hV]
            (repeat (refine And.intro (by (first | omega | assumption | trivial | (simp only [inI]; omega) | (simp only [inL]; omega) | (refine jb_01) | (exact jb_in))) ?_))
            refine fin2 _ (vs, jb (a = 0) :: ts) (vs.length : Int) ((ts.length : Int) + 1) rfl (by simp only [List.length_cons]; omega) hvs ⟨?_, ?_⟩ bv (bdT_cons.mpr ⟨jb_01, (bdT_cons.mp bt).2⟩) (by dsimp only; omega) (by simp only [List.length_cons]; omega) hr
            · rw [show (ts.length : Int) + 1 - 1 = ts.length by omega]; exact up1_eq
            · rw [show (ts.length : Int) + 1 - 1 = ts.length by omega]; exact stk_up ts (by omega) hts.2
          refine ⟨fun h => k3 0 (jb_f h).symm, fun h => k3 1 (jb_t h).symm⟩
      · simp only [if_neg h20] at hr
        refine ⟨fun _ => ?_, fun h => (by exfalso; omega)⟩
        match ts, hts, bt, hr with
        | t2 :: t1 :: ts, hts, bt, hr =>
          have bt1 := (bdT_cons.mp bt).2
          simp only [List.length_cons, Int.natCast_add, Int.natCast_one] at l2 fin2 ⊢
          have e1 : v 547 ((ts.length : Int) + 1 + 1 + -1 - 1) = t1 := by rw [show (ts.length : Int) + 1 + 1 + -1 - 1 = ts.length by omega]; exact hts.2.1
          have e2 : v 547 ((ts.length : Int) + 1 + 1 + -1) = t2 := by rw [show (ts.length : Int) + 1 + 1 + -1 = ts.length + 1 by omega]; exact hts.1
          simp (disch := (first | decide | omega)) only [jxs, hps, jtsw, jlsw, List.length_cons, List.length_nil, true_and, and_true, true_implies, false_implies, implies_true, not_true_eq_false, not_false_eq_true, false_and, and_false, if_true, if_false, or_true, true_or, or_false, false_or, Classical.not_not, and_self, Int.reduceAdd, Int.reduceMul, Int.reduceSub, Int.reduceNeg, Int.reduceLT, Int.reduceLE, Int.reduceEq, Int.reduceNe, Int.reduceToNat, Nat.reduceAdd, Nat.reduceMul, Nat.reduceSub, Nat.reduceLeDiff, Nat.reduceLT, Nat.reduceEqDiff, reduceIte, Nat.zero_le, Nat.le_refl, Nat.add_zero, Nat.zero_add, twT hT, twV hV, e1, e2]
          (repeat (refine And.intro (by (first | omega | assumption | trivial | (simp only [inI]; omega) | (simp only [inL]; omega) | (refine jb_01) | (exact jb_in))) ?_))
          have k6 : ∀ z, z = (if o = 21 then jb (¬ t1 = 0 ∧ ¬ t2 = 0) else jb (¬ t1 = 0 ∨ ¬ t2 = 0)) → 0 ≤ z ∧ z ≤ 1 → jW bX2_work (g, d + 2, 0, 0, Q) 6 [some (vR 539), some (vI k), some (vI x), some (vI cd), some (vI (vs.length : Int)), some (vI ((ts.length : Int) + 1 + 1 + -1)), some (vI i), some (vI o), some (vI w)] [vI z, vI ((ts.length : Int) + 1 + 1 + -1 - 1), vR 547] (v, T) 0 0 := by
            intro z hz hz1
            refine jW_step ?_
            simp (disch := (first | decide | omega)) only [bX2_work, jxs, hps, jtsw, jlsw, List.length_cons, List.length_nil, true_and, and_true, true_implies, false_implies, implies_true, not_true_eq_false, not_false_eq_true, false_and, and_false, if_true, if_false, or_true, true_or, or_false, false_or, Classical.not_not, and_self, Int.reduceAdd, Int.reduceMul, Int.reduceSub, Int.reduceNeg, Int.reduceLT, Int.reduceLE, Int.reduceEq, Int.reduceNe, Int.reduceToNat, Nat.reduceAdd, Nat.reduceMul, Nat.reduceSub, Nat.reduceLeDiff, Nat.reduceLT, Nat.reduceEqDiff, reduceIte, Nat.zero_le, Nat.le_refl, Nat.add_zero, Nat.zero_add, twT hT, twV hV]
            (repeat (refine And.intro (by (first | omega | assumption | trivial | (simp only [inI]; omega) | (simp only [inL]; omega) | (refine jb_01) | (exact jb_in))) ?_))
            refine fin2 _ (vs, z :: ts) (vs.length : Int) ((ts.length : Int) + 1 + 1 + -1) rfl (by simp only [List.length_cons]; omega) hvs ⟨?_, ?_⟩ bv (bdT_cons.mpr ⟨hz1, (bdT_cons.mp bt1).2⟩) (by dsimp only; omega) (by simp only [List.length_cons]; omega) (hz ▸ hr)
            · rw [show (ts.length : Int) + 1 + 1 + -1 - 1 = ts.length by omega]; exact up1_eq
            · rw [show (ts.length : Int) + 1 + 1 + -1 - 1 = ts.length by omega]; exact stk_up ts (by omega) hts.2.2
          have k4 : jW bX2_work (g, d + 2, 0, 0, Q) 6 [some (vR 539), some (vI k), some (vI x), some (vI cd), some (vI (vs.length : Int)), some (vI ((ts.length : Int) + 1 + 1 + -1)), some (vI i), some (vI o), some (vI w)] [vI 0, vI ((ts.length : Int) + 1 + 1 + -1 - 1), vR 547] (v, T) 0 0 → jW bX2_work (g, d + 2, 0, 0, Q) 4 [some (vR 539), some (vI k), some (vI x), some (vI cd), some (vI (vs.length : Int)), some (vI ((ts.length : Int) + 1 + 1 + -1)), some (vI i), some (vI o), some (vI w)] [vI ((ts.length : Int) + 1 + 1 + -1 - 1), vR 547] (v, T) 0 0 := by
            intro h
            refine jW_step ?_
            simp (disch := (first | decide | omega)) only [bX2_work, jxs, hps, jtsw, jlsw, List.length_cons, List.length_nil, true_and, and_true, true_implies, false_implies, implies_true, not_true_eq_false, not_false_eq_true, false_and, and_false, if_true, if_false, or_true, true_or, or_false, false_or, Classical.not_not, and_self, Int.reduceAdd, Int.reduceMul, Int.reduceSub, Int.reduceNeg, Int.reduceLT, Int.reduceLE, Int.reduceEq, Int.reduceNe, Int.reduceToNat, Nat.reduceAdd, Nat.reduceMul, Nat.reduceSub, Nat.reduceLeDiff, Nat.reduceLT, Nat.reduceEqDiff, reduceIte, Nat.zero_le, Nat.le_refl, Nat.add_zero, Nat.zero_add, twT hT, twV hV]
            exact h
          have k5 : jW bX2_work (g, d + 2, 0, 0, Q) 6 [some (vR 539), some (vI k), some (vI x), some (vI cd), some (vI (vs.length : Int)), some (vI ((ts.length : Int) + 1 + 1 + -1)), some (vI i), some (vI o), some (vI w)] [vI 1, vI ((ts.length : Int) + 1 + 1 + -1 - 1), vR 547] (v, T) 0 0 → jW bX2_work (g, d + 2, 0, 0, Q) 5 [some (vR 539), some (vI k), some (vI x), some (vI cd), some (vI (vs.length : Int)), some (vI ((ts.length : Int) + 1 + 1 + -1)), some (vI i), some (vI o), some (vI w)] [vI ((ts.length : Int) + 1 + 1 + -1 - 1), vR 547] (v, T) 0 0 := by
            intro h
            refine jW_step ?_
            simp (disch := (first | decide | omega)) only [bX2_work, jxs, hps, jtsw, jlsw, List.length_cons, List.length_nil, true_and, and_true, true_implies, false_implies, implies_true, not_true_eq_false, not_false_eq_true, false_and, and_false, if_true, if_false, or_true, true_or, or_false, false_or, Classical.not_not, and_self, Int.reduceAdd, Int.reduceMul, Int.reduceSub, Int.reduceNeg, Int.reduceLT, Int.reduceLE, Int.reduceEq, Int.reduceNe, Int.reduceToNat, Nat.reduceAdd, Nat.reduceMul, Nat.reduceSub, Nat.reduceLeDiff, Nat.reduceLT, Nat.reduceEqDiff, reduceIte, Nat.zero_le, Nat.le_refl, Nat.add_zero, Nat.zero_add, twT hT, twV hV]
            exact h
          refine ⟨fun h21 => ?_, fun h21 => ?_⟩
          · rw [if_neg h21] at k6
            (repeat (refine And.intro (by (first | omega | assumption | trivial | (simp only [inI]; omega) | (simp only [inL]; omega) | (refine jb_01) | (exact jb_in))) ?_))
            refine ⟨fun a1 => ?_, fun a1 => ?_⟩
            · exact k5 (k6 1 (jb_t (Or.inl a1)).symm (by omega))
            · (repeat (refine And.intro (by (first | omega | assumption | trivial | (simp only [inI]; omega) | (simp only [inL]; omega) | (refine jb_01) | (exact jb_in))) ?_))
              refine ⟨fun a2 => ?_, fun a2 => ?_⟩
              · exact k6 0 (jb_f (by omega)).symm (by omega)
              · exact k5 (k6 1 (jb_t (Or.inr a2)).symm (by omega))
          · rw [if_pos h21] at k6
            (repeat (refine And.intro (by (first | omega | assumption | trivial | (simp only [inI]; omega) | (simp only [inL]; omega) | (refine jb_01) | (exact jb_in))) ?_))
            refine ⟨fun a1 => ?_, fun a1 => ?_⟩
            · exact k4 (k6 0 (jb_f (by omega)).symm (by omega))
            · (repeat (refine And.intro (by (first | omega | assumption | trivial | (simp only [inI]; omega) | (simp only [inL]; omega) | (refine jb_01) | (exact jb_in))) ?_))
              refine ⟨fun a2 => ?_, fun a2 => ?_⟩
              · exact k4 (k6 0 (jb_f (by omega)).symm (by omega))
              · exact k6 1 (jb_t ⟨a1, a2⟩).symm (by omega)
end TG
