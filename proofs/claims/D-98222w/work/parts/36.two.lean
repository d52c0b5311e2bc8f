/-! ===== the reference: a year walked; what is told of ===== -/
set_option maxRecDepth 100000
section TG
variable {g : jjG} {d : Nat} {T : jjT} {Q : jjQ}
theorem jkn.tk {u v w : Int → Int → Int} {A' A'' : Int → Int} {f : Int} (h : jkn u A' f v) (h2 : jka v A'' w) : jkn u A'' f w := by
  have := h2.n
  rw [h.f] at this
  exact h.tr this
theorem tw_year_2 {m se : Int} (hT : PT T) : ∀ (k : Nat) (v : Int → Int → Int) (x n i : Int), PV v → TE v → TI (v 540) → 0 < v 540 0 → (0 ≤ x ∧ x < 50000) → (0 ≤ v 539 25 ∧ v 539 25 + 30 * k < 900000000) → i + k = m → 0 ≤ i ∧ m ≤ 40 → 0 ≤ n ∧ n + k ≤ 100 →
    (∀ w, jkn v (up1 (yrL (v 542) k (v 540) (v 539 25) x n).1 4 (yrL (v 542) k (v 540) (v 539 25) x n).2.2.1) (yrL (v 542) k (v 540) (v 539 25) x n).2.1 w → Q (.inl (some (vI (yrL (v 542) k (v 540) (v 539 25) x n).2.2.2))) (w, T)) →
    jW bX2_year (g, d + 8, 0, 0, Q) 2 [some (vR 539), some (vI se), some (vI m), some (vI x), some (vI n), some (vI i), none, none, none, none] [] (v, T) 0 0 := by
  intro k
  induction k with
  | zero =>
    intro v x n i hV hE hI h0 hx hf hi hm hn hQ
    refine jW_step ?_
    simp (disch := (first | decide | omega)) only [bX2_year, jxs, hps, jtsw, jlsw, List.length_cons, List.length_nil, true_and, and_true, true_implies, false_implies, implies_true, not_true_eq_false, not_false_eq_true, false_and, and_false, if_true, if_false, or_true, true_or, or_false, false_or, Classical.not_not, and_self, Int.reduceAdd, Int.reduceMul, Int.reduceSub, Int.reduceNeg, Int.reduceLT, Int.reduceLE, Int.reduceEq, Int.reduceNe, Int.reduceToNat, Nat.reduceAdd, Nat.reduceMul, Nat.reduceSub, Nat.reduceLeDiff, Nat.reduceLT, Nat.reduceEqDiff, reduceIte, Nat.zero_le, Nat.le_refl, Nat.add_zero, Nat.zero_add, twT hT, twV hV]
    (try refine ⟨fun _ => ?_, fun h9 => (by exfalso; omega)⟩)
    (repeat (refine And.intro (by (first | omega | assumption | trivial | (simp only [inI]; omega) | (simp only [inL]; omega) | (refine jb_01) | (exact jb_in))) ?_))
    refine hQ _ ?_
    exact jka.rf.up.n
  | succ k ih =>
    intro v x n i hV hE hI h0 hx hf hi hm hn hQ
    have hB := hE.1
    have a0 := hB.1
    have hA := yrA_TI (n := n) hI h0 hx.1
    have hb : 0 ≤ x % v 540 0 ∧ x % v 540 0 < v 540 0 := ⟨Int.emod_nonneg _ (by omega), Int.emod_lt_of_pos _ h0⟩
    unfold yrL at hQ
    -- the end of a round
    have k6 : ∀ (w : Int → Int → Int) (b l7 l8 l9 : Option jjV), jkn v (yr2 (yrA (v 540) x n).1 (v 542) (v 539 25) (yrA (v 540) x n).2.1).1 (yr2 (yrA (v 540) x n).1 (v 542) (v 539 25) (yrA (v 540) x n).2.1).2 w →
        jW bX2_year (g, d + 8, 0, 0, Q) 6 [some (vR 539), some (vI se), some (vI m), some (vI (yrA (v 540) x n).2.1), some (vI (yrA (v 540) x n).2.2), some (vI i), none, none, none, none] [] (w, T) 0 0 := by
      intro w b l7 l8 l9 hw
      have h2 := yr2_TI (X := v 542) (f := v 539 25) (x := (yrA (v 540) x n).2.1) hA.1
      have e5 : (yr2 (yrA (v 540) x n).1 (v 542) (v 539 25) (yrA (v 540) x n).2.1).1 5 = v 540 5 := (h2.2.1 5 (by omega) (by omega)).trans (hA.2.1 5 (by omega))
      have e0 : (yr2 (yrA (v 540) x n).1 (v 542) (v 539 25) (yrA (v 540) x n).2.1).1 0 = v 540 0 := (h2.2.1 0 (by omega) (by omega)).trans (hA.2.1 0 (by omega))
      have ea := hw.a
      have ef := hw.f
      have ex := hw.x
      have hV := hw.pv hV
      have ab := anw_bd (x := (yrA (v 540) x n).2.1)
      refine jW_step ?_
      simp (disch := (first | decide | omega)) only [bX2_year, jxs, hps, jtsw, jlsw, List.length_cons, List.length_nil, true_and, and_true, true_implies, false_implies, implies_true, not_true_eq_false, not_false_eq_true, false_and, and_false, if_true, if_false, or_true, true_or, or_false, false_or, Classical.not_not, and_self, Int.reduceAdd, Int.reduceMul, Int.reduceSub, Int.reduceNeg, Int.reduceLT, Int.reduceLE, Int.reduceEq, Int.reduceNe, Int.reduceToNat, Nat.reduceAdd, Nat.reduceMul, Nat.reduceSub, Nat.reduceLeDiff, Nat.reduceLT, Nat.reduceEqDiff, reduceIte, Nat.zero_le, Nat.le_refl, Nat.add_zero, Nat.zero_add, twT hT, twV hV]
      refine ⟨0, 0, ⟨by omega, by omega⟩, tw_anew hT hV (by omega) ?_⟩
      simp (disch := (first | decide | omega)) only [jxs, hps, jtsw, jlsw, List.length_cons, List.length_nil, true_and, and_true, true_implies, false_implies, implies_true, not_true_eq_false, not_false_eq_true, false_and, and_false, if_true, if_false, or_true, true_or, or_false, false_or, Classical.not_not, and_self, Int.reduceAdd, Int.reduceMul, Int.reduceSub, Int.reduceNeg, Int.reduceLT, Int.reduceLE, Int.reduceEq, Int.reduceNe, Int.reduceToNat, Nat.reduceAdd, Nat.reduceMul, Nat.reduceSub, Nat.reduceLeDiff, Nat.reduceLT, Nat.reduceEqDiff, reduceIte, Nat.zero_le, Nat.le_refl, Nat.add_zero, Nat.zero_add, twT hT, twV hV]
      (repeat (refine And.intro (by (first | omega | assumption | trivial | (simp only [inI]; omega) | (simp only [inL]; omega) | (refine jb_01) | (exact jb_in))) ?_))
      refine ih w _ _ (i + 1) hV (hw.te hE h2.1.1.1 e5) (by rw [ea]; exact h2.1) (by rw [ea, e0]; exact h0) (by omega) (by rw [ef]; omega) (by omega) (by omega) (by omega) ?_
      rw [ea, ef, ex]
      intro u hu
      exact hQ u (hw.tr hu)
    have k4 : ∀ (w : Int → Int → Int), jkn v (yrA (v 540) x n).1 (v 539 25) w →
        jW bX2_year (g, d + 8, 0, 0, Q) 4 [some (vR 539), some (vI se), some (vI m), some (vI (yrA (v 540) x n).2.1), some (vI (yrA (v 540) x n).2.2), some (vI i), none, none, none, none] [] (w, T) 0 0 := by
      intro w hw
      have ea := hw.a
      have ef := hw.f
      have ex := hw.x
      have hV := hw.pv hV
      have hk6 := fun w2 h2 => k6 w2 none none none none h2
      unfold yr2 at hk6
      have w2 := hA.1.1.1.2.1
      generalize yrA (v 540) x n = r at *
      have hn2 := hA.1.n2 (z := 1 - r.1 2) (by omega)
      refine jW_step ?_
      simp (disch := (first | decide | omega)) only [bX2_year, jxs, hps, jtsw, jlsw, List.length_cons, List.length_nil, true_and, and_true, true_implies, false_implies, implies_true, not_true_eq_false, not_false_eq_true, false_and, and_false, if_true, if_false, or_true, true_or, or_false, false_or, Classical.not_not, and_self, Int.reduceAdd, Int.reduceMul, Int.reduceSub, Int.reduceNeg, Int.reduceLT, Int.reduceLE, Int.reduceEq, Int.reduceNe, Int.reduceToNat, Nat.reduceAdd, Nat.reduceMul, Nat.reduceSub, Nat.reduceLeDiff, Nat.reduceLT, Nat.reduceEqDiff, reduceIte, Nat.zero_le, Nat.le_refl, Nat.add_zero, Nat.zero_add, twT hT, twV hV]
      (repeat (refine And.intro (by (first | omega | assumption | trivial | (simp only [inI]; omega) | (simp only [inL]; omega) | (refine jb_01) | (exact jb_in))) ?_))
      refine ⟨fun h => ?_, fun h => ?_⟩
      · rw [if_neg (by omega)] at hk6
        exact hk6 w hw
      · rw [if_pos (by omega)] at hk6
        simp (disch := (first | decide | omega)) only [jxs, hps, jtsw, jlsw, List.length_cons, List.length_nil, true_and, and_true, true_implies, false_implies, implies_true, not_true_eq_false, not_false_eq_true, false_and, and_false, if_true, if_false, or_true, true_or, or_false, false_or, Classical.not_not, and_self, Int.reduceAdd, Int.reduceMul, Int.reduceSub, Int.reduceNeg, Int.reduceLT, Int.reduceLE, Int.reduceEq, Int.reduceNe, Int.reduceToNat, Nat.reduceAdd, Nat.reduceMul, Nat.reduceSub, Nat.reduceLeDiff, Nat.reduceLT, Nat.reduceEqDiff, reduceIte, Nat.zero_le, Nat.le_refl, Nat.add_zero, Nat.zero_add, twT hT, twV hV, ea, ef]
        (repeat (refine And.intro (by (first | omega | assumption | trivial | (simp only [inI]; omega) | (simp only [inL]; omega) | (refine jb_01) | (exact jb_in))) ?_))
        have j2 : jkn v (up1 r.1 2 (1 - r.1 2)) (v 539 25) (upA w 540 (up1 r.1 2 (1 - r.1 2))) := hw.tk (jka.rf.up)
        refine ⟨fun h2 => ?_, fun h2 => ?_⟩
        · rw [if_neg (by omega)] at hk6
          refine jW_step ?_
          simp (disch := (first | decide | omega)) only [bX2_year, jxs, hps, jtsw, jlsw, List.length_cons, List.length_nil, true_and, and_true, true_implies, false_implies, implies_true, not_true_eq_false, not_false_eq_true, false_and, and_false, if_true, if_false, or_true, true_or, or_false, false_or, Classical.not_not, and_self, Int.reduceAdd, Int.reduceMul, Int.reduceSub, Int.reduceNeg, Int.reduceLT, Int.reduceLE, Int.reduceEq, Int.reduceNe, Int.reduceToNat, Nat.reduceAdd, Nat.reduceMul, Nat.reduceSub, Nat.reduceLeDiff, Nat.reduceLT, Nat.reduceEqDiff, reduceIte, Nat.zero_le, Nat.le_refl, Nat.add_zero, Nat.zero_add, twT hT, twV hV]
          (repeat (refine And.intro (by (first | omega | assumption | trivial | (simp only [inI]; omega) | (simp only [inL]; omega) | (refine jb_01) | (exact jb_in))) ?_))
          refine hk6 _ ⟨?_, ?_, ?_⟩
          · simp (disch := omega) only [upA_ne, upA_eq]
          · rw [upA_ne (by omega), upA_eq, hw.2.1, up1_same]
          · intro a a1 a2 a3 a4 a5
            simp (disch := omega) only [upA_ne]
            exact hw.2.2 a a1 a2 a3 a4 a5
        · rw [if_pos (by omega)] at hk6
          have fo := fallA_ok (X := v 542) hn2.1.1
          have hV2 : PV (upA w 540 (up1 r.1 2 (1 - r.1 2))) := j2.pv (by assumption)
          refine ⟨0, 0, ⟨by omega, by omega⟩, tw_fall hT hV2 ⟨j2.te hE hn2.1.1 ?_, ?_⟩ ?_⟩
          · rw [up1_ne (by omega)]; exact hA.2.1 5 (by omega)
          · rw [upA_eq]; exact hn2.1.2.1
          rw [upA_eq, upA_ne (by omega), ex]
          intro u hu
          have j3 := j2.tk hu
          have hV := hu.pv hV2
          simp (disch := (first | decide | omega)) only [jxs, hps, jtsw, jlsw, List.length_cons, List.length_nil, true_and, and_true, true_implies, false_implies, implies_true, not_true_eq_false, not_false_eq_true, false_and, and_false, if_true, if_false, or_true, true_or, or_false, false_or, Classical.not_not, and_self, Int.reduceAdd, Int.reduceMul, Int.reduceSub, Int.reduceNeg, Int.reduceLT, Int.reduceLE, Int.reduceEq, Int.reduceNe, Int.reduceToNat, Nat.reduceAdd, Nat.reduceMul, Nat.reduceSub, Nat.reduceLeDiff, Nat.reduceLT, Nat.reduceEqDiff, reduceIte, Nat.zero_le, Nat.le_refl, Nat.add_zero, Nat.zero_add, twT hT, twV hV]
          refine jW_step ?_
          simp (disch := (first | decide | omega)) only [bX2_year, jxs, hps, jtsw, jlsw, List.length_cons, List.length_nil, true_and, and_true, true_implies, false_implies, implies_true, not_true_eq_false, not_false_eq_true, false_and, and_false, if_true, if_false, or_true, true_or, or_false, false_or, Classical.not_not, and_self, Int.reduceAdd, Int.reduceMul, Int.reduceSub, Int.reduceNeg, Int.reduceLT, Int.reduceLE, Int.reduceEq, Int.reduceNe, Int.reduceToNat, Nat.reduceAdd, Nat.reduceMul, Nat.reduceSub, Nat.reduceLeDiff, Nat.reduceLT, Nat.reduceEqDiff, reduceIte, Nat.zero_le, Nat.le_refl, Nat.add_zero, Nat.zero_add, twT hT, twV hV]
          (repeat (refine And.intro (by (first | omega | assumption | trivial | (simp only [inI]; omega) | (simp only [inL]; omega) | (refine jb_01) | (exact jb_in))) ?_))
          refine hk6 _ ⟨?_, ?_, ?_⟩
          · rw [upA_ne (by omega)]; exact j3.a
          · rw [upA_eq, j3.2.1, up1_same]
          · intro a a1 a2 a3 a4 a5
            rw [upA_ne a1]
            exact j3.2.2 a a1 a2 a3 a4 a5
    have ab := anw_bd (x := x)
    refine jW_step ?_
    simp (disch := (first | decide | omega)) only [bX2_year, jxs, hps, jtsw, jlsw, List.length_cons, List.length_nil, true_and, and_true, true_implies, false_implies, implies_true, not_true_eq_false, not_false_eq_true, false_and, and_false, if_true, if_false, or_true, true_or, or_false, false_or, Classical.not_not, and_self, Int.reduceAdd, Int.reduceMul, Int.reduceSub, Int.reduceNeg, Int.reduceLT, Int.reduceLE, Int.reduceEq, Int.reduceNe, Int.reduceToNat, Nat.reduceAdd, Nat.reduceMul, Nat.reduceSub, Nat.reduceLeDiff, Nat.reduceLT, Nat.reduceEqDiff, reduceIte, Nat.zero_le, Nat.le_refl, Nat.add_zero, Nat.zero_add, twT hT, twV hV]
    (first | refine ⟨fun h9 => (by exfalso; omega), fun _ => ?_⟩ | intro _)
    (repeat (refine And.intro (by (first | omega | assumption | trivial | (simp only [inI]; omega) | (simp only [inL]; omega) | (refine jb_01) | (exact jb_in))) ?_))
    refine ⟨0, 0, ⟨by omega, by omega⟩, tw_anew hT hV (by omega) ?_⟩
    simp (disch := (first | decide | omega)) only [jxs, hps, jtsw, jlsw, List.length_cons, List.length_nil, true_and, and_true, true_implies, false_implies, implies_true, not_true_eq_false, not_false_eq_true, false_and, and_false, if_true, if_false, or_true, true_or, or_false, false_or, Classical.not_not, and_self, Int.reduceAdd, Int.reduceMul, Int.reduceSub, Int.reduceNeg, Int.reduceLT, Int.reduceLE, Int.reduceEq, Int.reduceNe, Int.reduceToNat, Nat.reduceAdd, Nat.reduceMul, Nat.reduceSub, Nat.reduceLeDiff, Nat.reduceLT, Nat.reduceEqDiff, reduceIte, Nat.zero_le, Nat.le_refl, Nat.add_zero, Nat.zero_add, twT hT, twV hV]
    (repeat (refine And.intro (by (first | omega | assumption | trivial | (simp only [inI]; omega) | (simp only [inL]; omega) | (refine jb_01) | (exact jb_in))) ?_))
    refine ⟨0, 0, ⟨by omega, by omega⟩, tw_isOnShelf hT hV (by omega) ?_⟩
    simp (disch := (first | decide | omega)) only [jxs, hps, jtsw, jlsw, List.length_cons, List.length_nil, true_and, and_true, true_implies, false_implies, implies_true, not_true_eq_false, not_false_eq_true, false_and, and_false, if_true, if_false, or_true, true_or, or_false, false_or, Classical.not_not, and_self, Int.reduceAdd, Int.reduceMul, Int.reduceSub, Int.reduceNeg, Int.reduceLT, Int.reduceLE, Int.reduceEq, Int.reduceNe, Int.reduceToNat, Nat.reduceAdd, Nat.reduceMul, Nat.reduceSub, Nat.reduceLeDiff, Nat.reduceLT, Nat.reduceEqDiff, reduceIte, Nat.zero_le, Nat.le_refl, Nat.add_zero, Nat.zero_add, twT hT, twV hV]
    have kn : ∀ l, ¬ (v 540 (46 + 6 * (x % v 540 0) + 5) < 3 ∧ 1 < v 540 (13 + v 540 (46 + 6 * (x % v 540 0) + 5))) → jW bX2_year (g, d + 8, 0, 0, Q) 4 [some (vR 539), some (vI se), some (vI m), some (vI (anw x)), some (vI n), some (vI i), some (vI l), none, none, none] [] (v, T) 0 0 := by
      intro l hno
      have e : yrA (v 540) x n = (v 540, anw x, n) := if_neg hno
      have q := k4 v
      rw [e] at q
      refine jW_sub (ls' := [some (vR 539), some (vI se), some (vI m), some (vI (anw x)), some (vI n), some (vI i), none, none, none, none]) (by simp [jsub]) ?_
      exact q jkn.rf
    have eY : ∀ z, z = yrA (v 540) x n → z = yr1 (v 540) x n (x % v 540 0) (v 540 (46 + 6 * (x % v 540 0) + 5)) := fun z hz => hz
    refine ⟨fun h1 => ?_, fun h1 => ?_⟩
    · exact kn _ (fun q => h1 ⟨by omega, q.1⟩)
    · have w0 := (hB.2.2.2.2.2.2 (46 + 6 * (x % v 540 0) + 5) (by omega) (by omega)).1
      (repeat (refine And.intro (by (first | omega | assumption | trivial | (simp only [inI]; omega) | (simp only [inL]; omega) | (refine jb_01) | (exact jb_in))) ?_))
      refine ⟨0, 0, ⟨by omega, by omega⟩, tw_get hT (by (first | assumption | (repeat (first | assumption | refine PV.A ?_ (by decide) | refine PV.F ?_ ?_ | refine twR.up ?_ (by decide) | refine PV.r ?_)))) (by (first | omega | assumption | trivial | (simp only [inI]; omega) | (simp only [inL]; omega) | (refine jb_01) | (exact jb_in))) ?_⟩
      simp (disch := (first | decide | omega)) only [jxs, hps, jtsw, jlsw, List.length_cons, List.length_nil, true_and, and_true, true_implies, false_implies, implies_true, not_true_eq_false, not_false_eq_true, false_and, and_false, if_true, if_false, or_true, true_or, or_false, false_or, Classical.not_not, and_self, Int.reduceAdd, Int.reduceMul, Int.reduceSub, Int.reduceNeg, Int.reduceLT, Int.reduceLE, Int.reduceEq, Int.reduceNe, Int.reduceToNat, Nat.reduceAdd, Nat.reduceMul, Nat.reduceSub, Nat.reduceLeDiff, Nat.reduceLT, Nat.reduceEqDiff, reduceIte, Nat.zero_le, Nat.le_refl, Nat.add_zero, Nat.zero_add, twT hT, twV hV]
      (repeat (refine And.intro (by (first | omega | assumption | trivial | (simp only [inI]; omega) | (simp only [inL]; omega) | (refine jb_01) | (exact jb_in))) ?_))
      refine ⟨fun h2 => ?_, fun h2 => ?_⟩
      · exact kn _ (fun q => by omega)
      · have pl := plA_ok hB hI.2.1 hb h1.2
        have hm := hB.2.2.2.2.2.1 (13 + v 540 (46 + 6 * (x % v 540 0) + 5)) (by omega) (by omega)
        have e : yrA (v 540) x n = _ := if_pos ⟨h1.2, by omega⟩
        have ab2 := anw_bd (x := anw x)
        rw [e] at k4
        clear e eY kn k6 hA hQ
        obtain ⟨b, eb⟩ : ∃ b, x % v 540 0 = b := ⟨_, rfl⟩
        rw [eb] at h1 h2 pl hm k4 w0 hb
        obtain ⟨w, ew⟩ : ∃ w, v 540 (46 + 6 * b + 5) = w := ⟨_, rfl⟩
        rw [ew] at h1 h2 pl hm k4 w0
        obtain ⟨p, ep⟩ : ∃ p, plA (v 540) b = p := ⟨_, rfl⟩
        rw [ep] at pl k4
        have ht : 0 ≤ anw x % v 540 (13 + w) ∧ anw x % v 540 (13 + w) < v 540 (13 + w) := ⟨Int.emod_nonneg _ (by omega), Int.emod_lt_of_pos _ (by omega)⟩
        rw [eb]
        (repeat (refine And.intro (by (first | omega | assumption | trivial | (simp only [inI]; omega) | (simp only [inL]; omega) | (refine jb_01) | (exact jb_in))) ?_))
        refine ⟨0, 0, ⟨by omega, by omega⟩, tw_get  hT (by (first | assumption | (repeat (first | assumption | refine PV.A ?_ (by decide) | refine PV.F ?_ ?_ | refine twR.up ?_ (by decide) | refine PV.r ?_)))) (by (first | omega | assumption | trivial | (simp only [inI]; omega) | (simp only [inL]; omega) | (refine jb_01) | (exact jb_in))) ?_⟩
        simp (disch := (first | decide | omega)) only [jxs, hps, jtsw, jlsw, List.length_cons, List.length_nil, true_and, and_true, true_implies, false_implies, implies_true, not_true_eq_false, not_false_eq_true, false_and, and_false, if_true, if_false, or_true, true_or, or_false, false_or, Classical.not_not, and_self, Int.reduceAdd, Int.reduceMul, Int.reduceSub, Int.reduceNeg, Int.reduceLT, Int.reduceLE, Int.reduceEq, Int.reduceNe, Int.reduceToNat, Nat.reduceAdd, Nat.reduceMul, Nat.reduceSub, Nat.reduceLeDiff, Nat.reduceLT, Nat.reduceEqDiff, reduceIte, Nat.zero_le, Nat.le_refl, Nat.add_zero, Nat.zero_add, twT hT, twV hV, ew]
        (repeat (refine And.intro (by (first | omega | assumption | trivial | (simp only [inI]; omega) | (simp only [inL]; omega) | (refine jb_01) | (exact jb_in))) ?_))
        refine ⟨0, 0, ⟨by omega, by omega⟩, tw_placeOf (p := p) hT hV ?_ ?_⟩
        · rw [ew]
          exact ⟨by omega, pl.2.2.1, pl.2.2.2⟩
        simp (disch := (first | decide | omega)) only [jxs, hps, jtsw, jlsw, List.length_cons, List.length_nil, true_and, and_true, true_implies, false_implies, implies_true, not_true_eq_false, not_false_eq_true, false_and, and_false, if_true, if_false, or_true, true_or, or_false, false_or, Classical.not_not, and_self, Int.reduceAdd, Int.reduceMul, Int.reduceSub, Int.reduceNeg, Int.reduceLT, Int.reduceLE, Int.reduceEq, Int.reduceNe, Int.reduceToNat, Nat.reduceAdd, Nat.reduceMul, Nat.reduceSub, Nat.reduceLeDiff, Nat.reduceLT, Nat.reduceEqDiff, reduceIte, Nat.zero_le, Nat.le_refl, Nat.add_zero, Nat.zero_add, twT hT, twV hV]
        (repeat (refine And.intro (by (first | omega | assumption | trivial | (simp only [inI]; omega) | (simp only [inL]; omega) | (refine jb_01) | (exact jb_in))) ?_))
        refine ⟨0, 0, ⟨by omega, by omega⟩, tw_anew hT hV (by omega) ?_⟩
        simp (disch := (first | decide | omega)) only [jxs, hps, jtsw, jlsw, List.length_cons, List.length_nil, true_and, and_true, true_implies, false_implies, implies_true, not_true_eq_false, not_false_eq_true, false_and, and_false, if_true, if_false, or_true, true_or, or_false, false_or, Classical.not_not, and_self, Int.reduceAdd, Int.reduceMul, Int.reduceSub, Int.reduceNeg, Int.reduceLT, Int.reduceLE, Int.reduceEq, Int.reduceNe, Int.reduceToNat, Nat.reduceAdd, Nat.reduceMul, Nat.reduceSub, Nat.reduceLeDiff, Nat.reduceLT, Nat.reduceEqDiff, reduceIte, Nat.zero_le, Nat.le_refl, Nat.add_zero, Nat.zero_add, twT hT, twV hV]
        (repeat (refine And.intro (by (first | omega | assumption | trivial | (simp only [inI]; omega) | (simp only [inL]; omega) | (refine jb_01) | (exact jb_in))) ?_))
        refine ⟨0, 0, ⟨by omega, by omega⟩, tw_pull hT hV (by rw [pl.2.2.1]; omega) ?_⟩
        simp (disch := (first | decide | omega)) only [jxs, hps, jtsw, jlsw, List.length_cons, List.length_nil, true_and, and_true, true_implies, false_implies, implies_true, not_true_eq_false, not_false_eq_true, false_and, and_false, if_true, if_false, or_true, true_or, or_false, false_or, Classical.not_not, and_self, Int.reduceAdd, Int.reduceMul, Int.reduceSub, Int.reduceNeg, Int.reduceLT, Int.reduceLE, Int.reduceEq, Int.reduceNe, Int.reduceToNat, Nat.reduceAdd, Nat.reduceMul, Nat.reduceSub, Nat.reduceLeDiff, Nat.reduceLT, Nat.reduceEqDiff, reduceIte, Nat.zero_le, Nat.le_refl, Nat.add_zero, Nat.zero_add, twT hT, twV hV]
        (repeat (refine And.intro (by (first | omega | assumption | trivial | (simp only [inI]; omega) | (simp only [inL]; omega) | (refine jb_01) | (exact jb_in))) ?_))
        have m1 := pullA_m (to := w) hB pl.1 pl.2.1
        refine ⟨0, 0, ⟨by omega, by omega⟩, tw_setAt hT (by (first | assumption | (repeat (first | assumption | refine PV.A ?_ (by decide) | refine PV.F ?_ ?_ | refine twR.up ?_ (by decide) | refine PV.r ?_)))) (by rw [upA_eq, m1]; omega) ?_⟩
        simp (disch := (first | decide | omega)) only [jxs, hps, jtsw, jlsw, List.length_cons, List.length_nil, true_and, and_true, true_implies, false_implies, implies_true, not_true_eq_false, not_false_eq_true, false_and, and_false, if_true, if_false, or_true, true_or, or_false, false_or, Classical.not_not, and_self, Int.reduceAdd, Int.reduceMul, Int.reduceSub, Int.reduceNeg, Int.reduceLT, Int.reduceLE, Int.reduceEq, Int.reduceNe, Int.reduceToNat, Nat.reduceAdd, Nat.reduceMul, Nat.reduceSub, Nat.reduceLeDiff, Nat.reduceLT, Nat.reduceEqDiff, reduceIte, Nat.zero_le, Nat.le_refl, Nat.add_zero, Nat.zero_add, twT hT, twV hV]
        have j : jkn v (setA (pullA (v 540) w p w) b w (anw x % v 540 (13 + w))) (v 539 25) (upA v 540 (setA (pullA (v 540) w p w) b w (anw x % v 540 (13 + w)))) := jka.rf.up.n
        have k44 := k4 _ j
        have k3 : ∀ y, y = (if anw x % v 540 (13 + w) = p then (0 : Int) else 1) → jW bX2_year (g, d + 8, 0, 0, Q) 3 [some (vR 539), some (vI se), some (vI m), some (vI (anw (anw x))), some (vI n), some (vI i), some (vI b), some (vI w), some (vI p), some (vI (anw x % v 540 (13 + w)))] [vI y, vI n] (upA v 540 (setA (pullA (v 540) w p w) b w (anw x % v 540 (13 + w))), T) 0 0 := by
          intro y hy
          have y1 : 0 ≤ y ∧ y ≤ 1 := by rw [hy]; split <;> omega
          rw [← hy] at k44
          refine jW_step ?_
          simp (disch := (first | decide | omega)) only [bX2_year, jxs, hps, jtsw, jlsw, List.length_cons, List.length_nil, true_and, and_true, true_implies, false_implies, implies_true, not_true_eq_false, not_false_eq_true, false_and, and_false, if_true, if_false, or_true, true_or, or_false, false_or, Classical.not_not, and_self, Int.reduceAdd, Int.reduceMul, Int.reduceSub, Int.reduceNeg, Int.reduceLT, Int.reduceLE, Int.reduceEq, Int.reduceNe, Int.reduceToNat, Nat.reduceAdd, Nat.reduceMul, Nat.reduceSub, Nat.reduceLeDiff, Nat.reduceLT, Nat.reduceEqDiff, reduceIte, Nat.zero_le, Nat.le_refl, Nat.add_zero, Nat.zero_add, twT hT, twV hV]
          (repeat (refine And.intro (by (first | omega | assumption | trivial | (simp only [inI]; omega) | (simp only [inL]; omega) | (refine jb_01) | (exact jb_in))) ?_))
          refine jW_sub (ls' := [some (vR 539), some (vI se), some (vI m), some (vI (anw (anw x))), some (vI (n + y)), some (vI i), none, none, none, none]) (by simp [jsub]) ?_
          exact k44
        refine ⟨fun h3 => ?_, fun h3 => ?_⟩
        · exact k3 0 (by rw [if_pos h3])
        · exact k3 1 (by rw [if_neg h3])
theorem tw_year {v : Int → Int → Int} {se n : Int} (hT : PT T) (hV : PV v) (hS : TE v ∧ TI (v 540) ∧ (0 ≤ v 539 25 ∧ v 539 25 < 800000000)) (hQ : ∀ w, jkn v (opYear (v 540) (v 542) (v 539 25) se n).1 (opYear (v 540) (v 542) (v 539 25) se n).2.1 w → Q (.inl (some (vI (opYear (v 540) (v 542) (v 539 25) se n).2.2))) (w, T)) : jmet g (d + 9) 0 0 MX2_year [vR 539, vI se, vI n] (v, T) Q := by
  obtain ⟨hE, hI, hf⟩ := hS
  have h7 := hI.1.2.2.1
  have hB := hE.1
  have a0 := hB.1
  refine jmet_of (ls := [some (vR 539), some (vI se), some (vI n), none, none, none, none, none, none, none]) sX2_year rfl (by decide +kernel) (by decide) rfl (by simp [jent]) ?_
  unfold opYear at hQ
  have no : ¬ ((0 ≤ se ∧ se ≤ 9999) ∧ (1 ≤ n ∧ n ≤ 40) ∧ ¬ v 540 0 = 0) → jW bX2_year (g, d + 8, 0, 0, Q) 1 [some (vR 539), some (vI se), some (vI n), none, none, none, none, none, none, none] [] (v, T) 0 0 := by
    intro h
    rw [if_neg h] at hQ
    refine jW_step ?_
    simp (disch := (first | decide | omega)) only [bX2_year, jxs, hps, jtsw, jlsw, List.length_cons, List.length_nil, true_and, and_true, true_implies, false_implies, implies_true, not_true_eq_false, not_false_eq_true, false_and, and_false, if_true, if_false, or_true, true_or, or_false, false_or, Classical.not_not, and_self, Int.reduceAdd, Int.reduceMul, Int.reduceSub, Int.reduceNeg, Int.reduceLT, Int.reduceLE, Int.reduceEq, Int.reduceNe, Int.reduceToNat, Nat.reduceAdd, Nat.reduceMul, Nat.reduceSub, Nat.reduceLeDiff, Nat.reduceLT, Nat.reduceEqDiff, reduceIte, Nat.zero_le, Nat.le_refl, Nat.add_zero, Nat.zero_add, twT hT, twV hV]
    (repeat (refine And.intro (by (first | omega | assumption | trivial | (simp only [inI]; omega) | (simp only [inL]; omega) | (refine jb_01) | (exact jb_in))) ?_))
    exact hQ v jkn.rf
  refine jW_step ?_
  simp (disch := (first | decide | omega)) only [bX2_year, jxs, hps, jtsw, jlsw, List.length_cons, List.length_nil, true_and, and_true, true_implies, false_implies, implies_true, not_true_eq_false, not_false_eq_true, false_and, and_false, if_true, if_false, or_true, true_or, or_false, false_or, Classical.not_not, and_self, Int.reduceAdd, Int.reduceMul, Int.reduceSub, Int.reduceNeg, Int.reduceLT, Int.reduceLE, Int.reduceEq, Int.reduceNe, Int.reduceToNat, Nat.reduceAdd, Nat.reduceMul, Nat.reduceSub, Nat.reduceLeDiff, Nat.reduceLT, Nat.reduceEqDiff, reduceIte, Nat.zero_le, Nat.le_refl, Nat.add_zero, Nat.zero_add, twT hT, twV hV]
  (repeat (refine And.intro (by (first | omega | assumption | trivial | (simp only [inI]; omega) | (simp only [inL]; omega) | (refine jb_01) | (exact jb_in))) ?_))
  refine ⟨0, 0, ⟨by omega, by omega⟩, tw_isIn hT (by (first | assumption | (repeat (first | assumption | refine PV.A ?_ (by decide) | refine PV.F ?_ ?_ | refine twR.up ?_ (by decide) | refine PV.r ?_)))) (by (first | omega | assumption | trivial | (simp only [inI]; omega) | (simp only [inL]; omega) | (refine jb_01) | (exact jb_in))) ?_⟩
  simp (disch := (first | decide | omega)) only [jxs, hps, jtsw, jlsw, List.length_cons, List.length_nil, true_and, and_true, true_implies, false_implies, implies_true, not_true_eq_false, not_false_eq_true, false_and, and_false, if_true, if_false, or_true, true_or, or_false, false_or, Classical.not_not, and_self, Int.reduceAdd, Int.reduceMul, Int.reduceSub, Int.reduceNeg, Int.reduceLT, Int.reduceLE, Int.reduceEq, Int.reduceNe, Int.reduceToNat, Nat.reduceAdd, Nat.reduceMul, Nat.reduceSub, Nat.reduceLeDiff, Nat.reduceLT, Nat.reduceEqDiff, reduceIte, Nat.zero_le, Nat.le_refl, Nat.add_zero, Nat.zero_add, twT hT, twV hV]
  refine ⟨fun h => ?_, fun h => ?_⟩
  · exact no (fun q => h q.1)
  (repeat (refine And.intro (by (first | omega | assumption | trivial | (simp only [inI]; omega) | (simp only [inL]; omega) | (refine jb_01) | (exact jb_in))) ?_))
  refine ⟨0, 0, ⟨by omega, by omega⟩, tw_isIn hT (by (first | assumption | (repeat (first | assumption | refine PV.A ?_ (by decide) | refine PV.F ?_ ?_ | refine twR.up ?_ (by decide) | refine PV.r ?_)))) (by (first | omega | assumption | trivial | (simp only [inI]; omega) | (simp only [inL]; omega) | (refine jb_01) | (exact jb_in))) ?_⟩
  simp (disch := (first | decide | omega)) only [jxs, hps, jtsw, jlsw, List.length_cons, List.length_nil, true_and, and_true, true_implies, false_implies, implies_true, not_true_eq_false, not_false_eq_true, false_and, and_false, if_true, if_false, or_true, true_or, or_false, false_or, Classical.not_not, and_self, Int.reduceAdd, Int.reduceMul, Int.reduceSub, Int.reduceNeg, Int.reduceLT, Int.reduceLE, Int.reduceEq, Int.reduceNe, Int.reduceToNat, Nat.reduceAdd, Nat.reduceMul, Nat.reduceSub, Nat.reduceLeDiff, Nat.reduceLT, Nat.reduceEqDiff, reduceIte, Nat.zero_le, Nat.le_refl, Nat.add_zero, Nat.zero_add, twT hT, twV hV]
  refine ⟨fun h2 => ?_, fun h2 => ?_⟩
  · exact no (fun q => h2 q.2.1)
  (repeat (refine And.intro (by (first | omega | assumption | trivial | (simp only [inI]; omega) | (simp only [inL]; omega) | (refine jb_01) | (exact jb_in))) ?_))
  refine ⟨fun h3 => ?_, fun h3 => ?_⟩
  · rw [if_pos ⟨h, h2, h3⟩] at hQ
    have j := (jka.rf (v := v)).up (A'' := keepA (v 540))
    have k := keepA_TI hI
    have e0 : keepA (v 540) 0 = v 540 0 := keepA_lo h7 (by omega) (by omega)
    refine ⟨0, 0, ⟨by omega, by omega⟩, tw_keep hT hV h7 ?_⟩
    simp (disch := (first | decide | omega)) only [jxs, hps, jtsw, jlsw, List.length_cons, List.length_nil, true_and, and_true, true_implies, false_implies, implies_true, not_true_eq_false, not_false_eq_true, false_and, and_false, if_true, if_false, or_true, true_or, or_false, false_or, Classical.not_not, and_self, Int.reduceAdd, Int.reduceMul, Int.reduceSub, Int.reduceNeg, Int.reduceLT, Int.reduceLE, Int.reduceEq, Int.reduceNe, Int.reduceToNat, Nat.reduceAdd, Nat.reduceMul, Nat.reduceSub, Nat.reduceLeDiff, Nat.reduceLT, Nat.reduceEqDiff, reduceIte, Nat.zero_le, Nat.le_refl, Nat.add_zero, Nat.zero_add, twT hT, twV hV]
    (repeat (refine And.intro (by (first | omega | assumption | trivial | (simp only [inI]; omega) | (simp only [inL]; omega) | (refine jb_01) | (exact jb_in))) ?_))
    refine tw_year_2 hT n.toNat _ _ 0 0 (by (first | assumption | (repeat (first | assumption | refine PV.A ?_ (by decide) | refine PV.F ?_ ?_ | refine twR.up ?_ (by decide) | refine PV.r ?_)))) (j.te hE k.1.1 (keepA_lo h7 (by omega) (by omega))) (by rw [upA_eq]; exact k) (by rw [upA_eq, e0]; omega) (by omega) (by rw [upA_ne (by omega)]; omega) (by omega) (by omega) (by omega) ?_
    rw [upA_eq, upA_ne (by omega), upA_ne (by omega)]
    intro w hw
    refine hQ w ?_
    have q := j.n.tr hw
    exact q
  · exact no (fun q => q.2.2 (by omega))
end TG
