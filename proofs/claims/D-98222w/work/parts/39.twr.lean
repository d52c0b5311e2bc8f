/-! ===== the reference: about, dust, laws, tells ===== -/
set_option maxRecDepth 100000
def abA (A : Int → Int) (t w : Int) : Int := if w = 9 then gat (fun b => decide (A (46 + 6 * b + 5) = 4)) (A 0).toNat else if 0 ≤ w ∧ w ≤ 8 then A w else if w = 10 then t else -2
def duA (A : Int → Int) (b o r p : Int) : Int → Int := up1 (up1 (up1 (up1 (up1 A (106 + 4 * A 8) b) (106 + 4 * A 8 + 1) o) (106 + 4 * A 8 + 2) r) (106 + 4 * A 8 + 3) p) 8 (A 8 + 1)
def duC (A : Int → Int) (b o : Int) : Prop := (0 ≤ b ∧ b ≤ A 0 - 1) ∧ (0 ≤ o ∧ o ≤ A 0 - 1) ∧ ¬ b = o ∧ ¬ A 8 = 12
def TD (A : Int → Int) : Prop := (0 ≤ A 8 ∧ A 8 ≤ 12) ∧ ∀ i, 106 ≤ i → i < 154 → 0 ≤ A i ∧ A i ≤ 9
def i01 (P : Prop) [Decidable P] : Int := if P then 1 else 0
def fitF (A X : Int → Int) (la b : Int) : Nat → Int → Int
  | 0, _ => 1
  | n + 1, k => if A (106 + 4 * k) = b ∧ ¬ pbA A X la b (A (106 + 4 * k + 1)) (if A (106 + 4 * k + 2) = 1 then 1 else 0) = (if A (106 + 4 * k + 3) = 1 then 1 else 0) then 0 else fitF A X la b n (k + 1)
def fitA (A X : Int → Int) (la b : Int) : Int := fitF A X la b (A 8).toNat 0
theorem fitF_01 {A X : Int → Int} {la b : Int} : ∀ (n : Nat) (k : Int), 0 ≤ fitF A X la b n k ∧ fitF A X la b n k ≤ 1
  | 0, _ => by unfold fitF; omega
  | n + 1, k => by
    unfold fitF
    by_cases h : A (106 + 4 * k) = b ∧ ¬ pbA A X la b (A (106 + 4 * k + 1)) (if A (106 + 4 * k + 2) = 1 then 1 else 0) = (if A (106 + 4 * k + 3) = 1 then 1 else 0)
    · rw [if_pos h]; omega
    · rw [if_neg h]; exact fitF_01 n (k + 1)
def lwsA (A X : Int → Int) (b : Int) : Int := gat (fun la => decide (¬ fitA A X la b = 0)) 6
section TG
variable {g : jjG} {d : Nat} {T : jjT} {Q : jjQ}
theorem tw_about_L {v : Int → Int → Int} (hT : PT T) (hV : PV v) (hB : TB (v 540)) {w : Int} (hQ : Q (.inl (some (vI (gat (fun b => decide (v 540 (46 + 6 * b + 5) = 4)) (v 540 0).toNat)))) (v, T)) : ∀ (n k : Nat), v 540 0 = ((k + n : Nat) : Int) →
    jW bX2_about (g, d + 1, 0, 0, Q) 1 [some (vR 539), some (vI w), some (vI (gat (fun b => decide (v 540 (46 + 6 * b + 5) = 4)) k)), some (vI (k : Int))] [] (v, T) 0 0 := by
  have h0 := hB.1
  intro n
  induction n with
  | zero =>
    intro k hk
    have e : (v 540 0).toNat = k := by omega
    rw [e] at hQ
    refine jW_step ?_
    simp (disch := (first | decide | omega)) only [bX2_about, jxs, hps, jtsw, jlsw, List.length_cons, List.length_nil, true_and, and_true, true_implies, false_implies, implies_true, not_true_eq_false, not_false_eq_true, false_and, and_false, if_true, if_false, or_true, true_or, or_false, false_or, Classical.not_not, and_self, Int.reduceAdd, Int.reduceMul, Int.reduceSub, Int.reduceNeg, Int.reduceLT, Int.reduceLE, Int.reduceEq, Int.reduceNe, Int.reduceToNat, Nat.reduceAdd, Nat.reduceMul, Nat.reduceSub, Nat.reduceLeDiff, Nat.reduceLT, Nat.reduceEqDiff, reduceIte, Nat.zero_le, Nat.le_refl, Nat.add_zero, Nat.zero_add, twT hT, twV hV]
    (repeat (refine And.intro (by (first | omega | assumption | trivial | (simp only [inI]; omega) | (simp only [inL]; omega) | (refine jb_01) | (exact jb_in))) ?_))
    (try refine ⟨fun _ => ?_, fun h9 => (by exfalso; omega)⟩)
    (repeat (refine And.intro (by (first | omega | assumption | trivial | (simp only [inI]; omega) | (simp only [inL]; omega) | (refine jb_01) | (exact jb_in))) ?_))
    exact hQ
  | succ n ih =>
    intro k hk
    have fin : ∀ z, z = (if decide (v 540 (46 + 6 * (k : Int) + 5) = 4) then 2 ^ k else 0) → jW bX2_about (g, d + 1, 0, 0, Q) 2 [some (vR 539), some (vI w), some (vI (gat (fun b => decide (v 540 (46 + 6 * b + 5) = 4)) k)), some (vI (k : Int))] [vI z, vI (gat (fun b => decide (v 540 (46 + 6 * b + 5) = 4)) k)] (v, T) 0 0 := by
      intro z hz
      refine jW_step ?_
      simp (disch := (first | decide | omega)) only [bX2_about, jxs, hps, jtsw, jlsw, List.length_cons, List.length_nil, true_and, and_true, true_implies, false_implies, implies_true, not_true_eq_false, not_false_eq_true, false_and, and_false, if_true, if_false, or_true, true_or, or_false, false_or, Classical.not_not, and_self, Int.reduceAdd, Int.reduceMul, Int.reduceSub, Int.reduceNeg, Int.reduceLT, Int.reduceLE, Int.reduceEq, Int.reduceNe, Int.reduceToNat, Nat.reduceAdd, Nat.reduceMul, Nat.reduceSub, Nat.reduceLeDiff, Nat.reduceLT, Nat.reduceEqDiff, reduceIte, Nat.zero_le, Nat.le_refl, Nat.add_zero, Nat.zero_add, twT hT, twV hV]
      rw [gat_jor (p := fun b => decide (v 540 (46 + 6 * b + 5) = 4)) (by omega) hz]
      (repeat (refine And.intro (by (first | omega | assumption | trivial | (simp only [inI]; omega) | (simp only [inL]; omega) | (refine jb_01) | (exact jb_in))) ?_))
      exact ih (k + 1) (by omega)
    refine jW_step ?_
    simp (disch := (first | decide | omega)) only [bX2_about, jxs, hps, jtsw, jlsw, List.length_cons, List.length_nil, true_and, and_true, true_implies, false_implies, implies_true, not_true_eq_false, not_false_eq_true, false_and, and_false, if_true, if_false, or_true, true_or, or_false, false_or, Classical.not_not, and_self, Int.reduceAdd, Int.reduceMul, Int.reduceSub, Int.reduceNeg, Int.reduceLT, Int.reduceLE, Int.reduceEq, Int.reduceNe, Int.reduceToNat, Nat.reduceAdd, Nat.reduceMul, Nat.reduceSub, Nat.reduceLeDiff, Nat.reduceLT, Nat.reduceEqDiff, reduceIte, Nat.zero_le, Nat.le_refl, Nat.add_zero, Nat.zero_add, twT hT, twV hV]
    (repeat (refine And.intro (by (first | omega | assumption | trivial | (simp only [inI]; omega) | (simp only [inL]; omega) | (refine jb_01) | (exact jb_in))) ?_))
    (first | refine ⟨fun h9 => (by exfalso; omega), fun _ => ?_⟩ | intro _)
    (repeat (refine And.intro (by (first | omega | assumption | trivial | (simp only [inI]; omega) | (simp only [inL]; omega) | (refine jb_01) | (exact jb_in))) ?_))
    refine ⟨0, 0, ⟨by omega, by omega⟩, tw_get hT (by (first | assumption | (repeat (first | assumption | refine PV.A ?_ (by decide) | refine PV.F ?_ ?_ | refine twR.up ?_ (by decide) | refine PV.r ?_)))) (by (first | omega | assumption | trivial | (simp only [inI]; omega) | (simp only [inL]; omega) | (refine jb_01) | (exact jb_in))) ?_⟩
    simp (disch := (first | decide | omega)) only [jxs, hps, jtsw, jlsw, List.length_cons, List.length_nil, true_and, and_true, true_implies, false_implies, implies_true, not_true_eq_false, not_false_eq_true, false_and, and_false, if_true, if_false, or_true, true_or, or_false, false_or, Classical.not_not, and_self, Int.reduceAdd, Int.reduceMul, Int.reduceSub, Int.reduceNeg, Int.reduceLT, Int.reduceLE, Int.reduceEq, Int.reduceNe, Int.reduceToNat, Nat.reduceAdd, Nat.reduceMul, Nat.reduceSub, Nat.reduceLeDiff, Nat.reduceLT, Nat.reduceEqDiff, reduceIte, Nat.zero_le, Nat.le_refl, Nat.add_zero, Nat.zero_add, twT hT, twV hV]
    refine ⟨fun h => ?_, fun h => ?_⟩
    · exact fin 0 (by rw [if_neg (by simp; exact h)])
    · rw [jshl_1 (by omega) (by omega), Int.toNat_natCast]
      exact fin (2 ^ k) (by rw [if_pos (by simp; exact h)])
theorem tw_about {v : Int → Int → Int} {w : Int} (hT : PT T) (hV : PV v) (hS : TB (v 540)) (hQ : Q (.inl (some (vI (abA (v 540) (v 539 4) w)))) (v, T)) : jmet g (d + 2) 0 0 MX2_about [vR 539, vI w] (v, T) Q := by
  refine jmet_of (ls := [some (vR 539), some (vI w), none, none]) sX2_about rfl (by decide +kernel) (by decide) rfl (by simp [jent]) ?_
  unfold abA at hQ
  have h0 := hS.1
  have fin : ∀ z, Q (.inl (some (vI z))) (v, T) → jW bX2_about (g, d + 1, 0, 0, Q) 3 [some (vR 539), some (vI w), none, none] [vI z] (v, T) 0 0 := by
    intro z hz
    refine jW_step ?_
    simp (disch := (first | decide | omega)) only [bX2_about, jxs, hps, jtsw, jlsw, List.length_cons, List.length_nil, true_and, and_true, true_implies, false_implies, implies_true, not_true_eq_false, not_false_eq_true, false_and, and_false, if_true, if_false, or_true, true_or, or_false, false_or, Classical.not_not, and_self, Int.reduceAdd, Int.reduceMul, Int.reduceSub, Int.reduceNeg, Int.reduceLT, Int.reduceLE, Int.reduceEq, Int.reduceNe, Int.reduceToNat, Nat.reduceAdd, Nat.reduceMul, Nat.reduceSub, Nat.reduceLeDiff, Nat.reduceLT, Nat.reduceEqDiff, reduceIte, Nat.zero_le, Nat.le_refl, Nat.add_zero, Nat.zero_add, twT hT, twV hV]
    (repeat (refine And.intro (by (first | omega | assumption | trivial | (simp only [inI]; omega) | (simp only [inL]; omega) | (refine jb_01) | (exact jb_in))) ?_))
    exact hz
  refine jW_step ?_
  simp (disch := (first | decide | omega)) only [bX2_about, jxs, hps, jtsw, jlsw, List.length_cons, List.length_nil, true_and, and_true, true_implies, false_implies, implies_true, not_true_eq_false, not_false_eq_true, false_and, and_false, if_true, if_false, or_true, true_or, or_false, false_or, Classical.not_not, and_self, Int.reduceAdd, Int.reduceMul, Int.reduceSub, Int.reduceNeg, Int.reduceLT, Int.reduceLE, Int.reduceEq, Int.reduceNe, Int.reduceToNat, Nat.reduceAdd, Nat.reduceMul, Nat.reduceSub, Nat.reduceLeDiff, Nat.reduceLT, Nat.reduceEqDiff, reduceIte, Nat.zero_le, Nat.le_refl, Nat.add_zero, Nat.zero_add, twT hT, twV hV]
  refine ⟨fun h => ?_, fun h => ?_⟩
  · rw [if_neg h] at hQ
    (repeat (refine And.intro (by (first | omega | assumption | trivial | (simp only [inI]; omega) | (simp only [inL]; omega) | (refine jb_01) | (exact jb_in))) ?_))
    refine ⟨0, 0, ⟨by omega, by omega⟩, tw_isIn hT (by (first | assumption | (repeat (first | assumption | refine PV.A ?_ (by decide) | refine PV.F ?_ ?_ | refine twR.up ?_ (by decide) | refine PV.r ?_)))) (by (first | omega | assumption | trivial | (simp only [inI]; omega) | (simp only [inL]; omega) | (refine jb_01) | (exact jb_in))) ?_⟩
    simp (disch := (first | decide | omega)) only [jxs, hps, jtsw, jlsw, List.length_cons, List.length_nil, true_and, and_true, true_implies, false_implies, implies_true, not_true_eq_false, not_false_eq_true, false_and, and_false, if_true, if_false, or_true, true_or, or_false, false_or, Classical.not_not, and_self, Int.reduceAdd, Int.reduceMul, Int.reduceSub, Int.reduceNeg, Int.reduceLT, Int.reduceLE, Int.reduceEq, Int.reduceNe, Int.reduceToNat, Nat.reduceAdd, Nat.reduceMul, Nat.reduceSub, Nat.reduceLeDiff, Nat.reduceLT, Nat.reduceEqDiff, reduceIte, Nat.zero_le, Nat.le_refl, Nat.add_zero, Nat.zero_add, twT hT, twV hV]
    refine ⟨fun h2 => ?_, fun h2 => ?_⟩
    · rw [if_neg h2] at hQ
      refine ⟨fun h3 => ?_, fun h3 => ?_⟩
      · rw [if_neg h3] at hQ
        exact fin _ hQ
      · rw [if_pos h3] at hQ
        (repeat (refine And.intro (by (first | omega | assumption | trivial | (simp only [inI]; omega) | (simp only [inL]; omega) | (refine jb_01) | (exact jb_in))) ?_))
        exact fin _ hQ
    · rw [if_pos h2] at hQ
      (repeat (refine And.intro (by (first | omega | assumption | trivial | (simp only [inI]; omega) | (simp only [inL]; omega) | (refine jb_01) | (exact jb_in))) ?_))
      exact fin _ hQ
  · rw [if_pos h] at hQ
    exact tw_about_L hT hV hS hQ (v 540 0).toNat 0 (by omega)
theorem tw_dust {v : Int → Int → Int} {b o r p : Int} (hT : PT T) (hV : PV v) (hS : TB (v 540) ∧ (0 ≤ v 540 8 ∧ v 540 8 ≤ 12) ∧ (0 ≤ r ∧ r ≤ 1) ∧ (0 ≤ p ∧ p ≤ 1)) (hQ : (b = -1 → Q (.inl (some (vI 0))) (upA v 540 (up1 (v 540) 8 0), T)) ∧ (¬ b = -1 → duC (v 540) b o → Q (.inl (some (vI (v 540 8 + 1)))) (upA v 540 (duA (v 540) b o r p), T)) ∧ (¬ b = -1 → ¬ duC (v 540) b o → Q (.inl (some (vI (-2)))) (v, T))) : jmet g (d + 3) 0 0 MX2_dust [vR 539, vI b, vI o, vI r, vI p] (v, T) Q := by
  obtain ⟨hB, h8, hr, hp⟩ := hS
  have h0 := hB.1
  unfold duC at hQ
  refine jmet_of (ls := [some (vR 539), some (vI b), some (vI o), some (vI r), some (vI p), none]) sX2_dust rfl (by decide +kernel) (by decide) rfl (by simp [jent]) ?_
  refine jW_step ?_
  simp (disch := (first | decide | omega)) only [bX2_dust, jxs, hps, jtsw, jlsw, List.length_cons, List.length_nil, true_and, and_true, true_implies, false_implies, implies_true, not_true_eq_false, not_false_eq_true, false_and, and_false, if_true, if_false, or_true, true_or, or_false, false_or, Classical.not_not, and_self, Int.reduceAdd, Int.reduceMul, Int.reduceSub, Int.reduceNeg, Int.reduceLT, Int.reduceLE, Int.reduceEq, Int.reduceNe, Int.reduceToNat, Nat.reduceAdd, Nat.reduceMul, Nat.reduceSub, Nat.reduceLeDiff, Nat.reduceLT, Nat.reduceEqDiff, reduceIte, Nat.zero_le, Nat.le_refl, Nat.add_zero, Nat.zero_add, twT hT, twV hV]
  refine ⟨fun hb => ?_, fun hb => ?_⟩
  · have hq := (hQ.2.1 hb)
    have hn := (hQ.2.2 hb)
    have no : ¬ ((0 ≤ b ∧ b ≤ v 540 0 - 1) ∧ (0 ≤ o ∧ o ≤ v 540 0 - 1) ∧ ¬ b = o ∧ ¬ v 540 8 = 12) → jW bX2_dust (g, d + 2, 0, 0, Q) 1 [some (vR 539), some (vI b), some (vI o), some (vI r), some (vI p), none] [] (v, T) 0 0 := by
      intro q
      refine jW_step ?_
      simp (disch := (first | decide | omega)) only [bX2_dust, jxs, hps, jtsw, jlsw, List.length_cons, List.length_nil, true_and, and_true, true_implies, false_implies, implies_true, not_true_eq_false, not_false_eq_true, false_and, and_false, if_true, if_false, or_true, true_or, or_false, false_or, Classical.not_not, and_self, Int.reduceAdd, Int.reduceMul, Int.reduceSub, Int.reduceNeg, Int.reduceLT, Int.reduceLE, Int.reduceEq, Int.reduceNe, Int.reduceToNat, Nat.reduceAdd, Nat.reduceMul, Nat.reduceSub, Nat.reduceLeDiff, Nat.reduceLT, Nat.reduceEqDiff, reduceIte, Nat.zero_le, Nat.le_refl, Nat.add_zero, Nat.zero_add, twT hT, twV hV]
      (repeat (refine And.intro (by (first | omega | assumption | trivial | (simp only [inI]; omega) | (simp only [inL]; omega) | (refine jb_01) | (exact jb_in))) ?_))
      exact hn q
    (repeat (refine And.intro (by (first | omega | assumption | trivial | (simp only [inI]; omega) | (simp only [inL]; omega) | (refine jb_01) | (exact jb_in))) ?_))
    refine ⟨0, 0, ⟨by omega, by omega⟩, tw_isBook hT (by (first | assumption | (repeat (first | assumption | refine PV.A ?_ (by decide) | refine PV.F ?_ ?_ | refine twR.up ?_ (by decide) | refine PV.r ?_)))) (by (first | omega | assumption | trivial | (simp only [inI]; omega) | (simp only [inL]; omega) | (refine jb_01) | (exact jb_in))) ?_⟩
    simp (disch := (first | decide | omega)) only [jxs, hps, jtsw, jlsw, List.length_cons, List.length_nil, true_and, and_true, true_implies, false_implies, implies_true, not_true_eq_false, not_false_eq_true, false_and, and_false, if_true, if_false, or_true, true_or, or_false, false_or, Classical.not_not, and_self, Int.reduceAdd, Int.reduceMul, Int.reduceSub, Int.reduceNeg, Int.reduceLT, Int.reduceLE, Int.reduceEq, Int.reduceNe, Int.reduceToNat, Nat.reduceAdd, Nat.reduceMul, Nat.reduceSub, Nat.reduceLeDiff, Nat.reduceLT, Nat.reduceEqDiff, reduceIte, Nat.zero_le, Nat.le_refl, Nat.add_zero, Nat.zero_add, twT hT, twV hV]
    refine ⟨fun h1 => ?_, fun h1 => ?_⟩
    · exact no (fun q => h1 q.1)
    (repeat (refine And.intro (by (first | omega | assumption | trivial | (simp only [inI]; omega) | (simp only [inL]; omega) | (refine jb_01) | (exact jb_in))) ?_))
    refine ⟨0, 0, ⟨by omega, by omega⟩, tw_isBook hT (by (first | assumption | (repeat (first | assumption | refine PV.A ?_ (by decide) | refine PV.F ?_ ?_ | refine twR.up ?_ (by decide) | refine PV.r ?_)))) (by (first | omega | assumption | trivial | (simp only [inI]; omega) | (simp only [inL]; omega) | (refine jb_01) | (exact jb_in))) ?_⟩
    simp (disch := (first | decide | omega)) only [jxs, hps, jtsw, jlsw, List.length_cons, List.length_nil, true_and, and_true, true_implies, false_implies, implies_true, not_true_eq_false, not_false_eq_true, false_and, and_false, if_true, if_false, or_true, true_or, or_false, false_or, Classical.not_not, and_self, Int.reduceAdd, Int.reduceMul, Int.reduceSub, Int.reduceNeg, Int.reduceLT, Int.reduceLE, Int.reduceEq, Int.reduceNe, Int.reduceToNat, Nat.reduceAdd, Nat.reduceMul, Nat.reduceSub, Nat.reduceLeDiff, Nat.reduceLT, Nat.reduceEqDiff, reduceIte, Nat.zero_le, Nat.le_refl, Nat.add_zero, Nat.zero_add, twT hT, twV hV]
    refine ⟨fun h2 => ?_, fun h2 => ?_⟩
    · exact no (fun q => h2 q.2.1)
    refine ⟨fun h3 => ?_, fun h3 => ?_⟩
    · exact no (fun q => q.2.2.1 h3)
    (repeat (refine And.intro (by (first | omega | assumption | trivial | (simp only [inI]; omega) | (simp only [inL]; omega) | (refine jb_01) | (exact jb_in))) ?_))
    refine ⟨fun h4 => ?_, fun h4 => ?_⟩
    · have hf := hq ⟨h1, h2, h3, h4⟩
      unfold duA at hf
      (repeat (refine And.intro (by (first | omega | assumption | trivial | (simp only [inI]; omega) | (simp only [inL]; omega) | (refine jb_01) | (exact jb_in))) ?_))
      have k2 : ∀ x, x = r → jW bX2_dust (g, d + 2, 0, 0, Q) 2 [some (vR 539), some (vI b), some (vI o), some (vI r), some (vI p), some (vI (106 + 4 * v 540 8))] [vI x, vI (106 + 4 * v 540 8 + 2), vR 540] (upA v 540 (up1 (up1 (v 540) (106 + 4 * v 540 8) b) (106 + 4 * v 540 8 + 1) o), T) 0 0 := by
        intro x hx
        subst hx
        have k3 : ∀ y, y = p → jW bX2_dust (g, d + 2, 0, 0, Q) 3 [some (vR 539), some (vI b), some (vI o), some (vI x), some (vI p), some (vI (106 + 4 * v 540 8))] [vI y, vI (106 + 4 * v 540 8 + 3), vR 540] (upA v 540 (up1 (up1 (up1 (v 540) (106 + 4 * v 540 8) b) (106 + 4 * v 540 8 + 1) o) (106 + 4 * v 540 8 + 2) x), T) 0 0 := by
          intro y hy
          subst hy
          refine jW_step ?_
          simp (disch := (first | decide | omega)) only [bX2_dust, jxs, hps, jtsw, jlsw, List.length_cons, List.length_nil, true_and, and_true, true_implies, false_implies, implies_true, not_true_eq_false, not_false_eq_true, false_and, and_false, if_true, if_false, or_true, true_or, or_false, false_or, Classical.not_not, and_self, Int.reduceAdd, Int.reduceMul, Int.reduceSub, Int.reduceNeg, Int.reduceLT, Int.reduceLE, Int.reduceEq, Int.reduceNe, Int.reduceToNat, Nat.reduceAdd, Nat.reduceMul, Nat.reduceSub, Nat.reduceLeDiff, Nat.reduceLT, Nat.reduceEqDiff, reduceIte, Nat.zero_le, Nat.le_refl, Nat.add_zero, Nat.zero_add, twT hT, twV hV]
          (repeat (refine And.intro (by (first | omega | assumption | trivial | (simp only [inI]; omega) | (simp only [inL]; omega) | (refine jb_01) | (exact jb_in))) ?_))
          exact hf
        refine jW_step ?_
        simp (disch := (first | decide | omega)) only [bX2_dust, jxs, hps, jtsw, jlsw, List.length_cons, List.length_nil, true_and, and_true, true_implies, false_implies, implies_true, not_true_eq_false, not_false_eq_true, false_and, and_false, if_true, if_false, or_true, true_or, or_false, false_or, Classical.not_not, and_self, Int.reduceAdd, Int.reduceMul, Int.reduceSub, Int.reduceNeg, Int.reduceLT, Int.reduceLE, Int.reduceEq, Int.reduceNe, Int.reduceToNat, Nat.reduceAdd, Nat.reduceMul, Nat.reduceSub, Nat.reduceLeDiff, Nat.reduceLT, Nat.reduceEqDiff, reduceIte, Nat.zero_le, Nat.le_refl, Nat.add_zero, Nat.zero_add, twT hT, twV hV]
        (repeat (refine And.intro (by (first | omega | assumption | trivial | (simp only [inI]; omega) | (simp only [inL]; omega) | (refine jb_01) | (exact jb_in))) ?_))
        refine ⟨fun h6 => ?_, fun h6 => ?_⟩
        · exact k3 0 h6.symm
        · exact k3 1 (by omega)
      refine ⟨fun h5 => ?_, fun h5 => ?_⟩
      · exact k2 0 h5.symm
      · exact k2 1 (by omega)
    · exact no (fun q => q.2.2.2 h4)
  · (repeat (refine And.intro (by (first | omega | assumption | trivial | (simp only [inI]; omega) | (simp only [inL]; omega) | (refine jb_01) | (exact jb_in))) ?_))
    exact hQ.1 hb
theorem tw_isFit_L {la b : Int} (hT : PT T) (hb : 0 ≤ b ∧ b < 10) : ∀ (n : Nat) (k : Int) (v : Int → Int → Int), PV v → TE v → TD (v 540) → 0 ≤ k → v 540 8 = k + n → (∀ u, jk v u → Q (.inl (some (vI (fitF (v 540) (v 542) la b n k)))) (u, T)) →
    jW bX2_isFit (g, d + 4, 0, 0, Q) 1 [some (vR 539), some (vI la), some (vI b), some (vI k), none] [] (v, T) 0 0 := by
  intro n
  induction n with
  | zero =>
    intro k v hV hE hD hk hn hQ
    refine jW_step ?_
    simp (disch := (first | decide | omega)) only [bX2_isFit, jxs, hps, jtsw, jlsw, List.length_cons, List.length_nil, true_and, and_true, true_implies, false_implies, implies_true, not_true_eq_false, not_false_eq_true, false_and, and_false, if_true, if_false, or_true, true_or, or_false, false_or, Classical.not_not, and_self, Int.reduceAdd, Int.reduceMul, Int.reduceSub, Int.reduceNeg, Int.reduceLT, Int.reduceLE, Int.reduceEq, Int.reduceNe, Int.reduceToNat, Nat.reduceAdd, Nat.reduceMul, Nat.reduceSub, Nat.reduceLeDiff, Nat.reduceLT, Nat.reduceEqDiff, reduceIte, Nat.zero_le, Nat.le_refl, Nat.add_zero, Nat.zero_add, twT hT, twV hV]
    (repeat (refine And.intro (by (first | omega | assumption | trivial | (simp only [inI]; omega) | (simp only [inL]; omega) | (refine jb_01) | (exact jb_in))) ?_))
    (try refine ⟨fun _ => ?_, fun h9 => (by exfalso; omega)⟩)
    (repeat (refine And.intro (by (first | omega | assumption | trivial | (simp only [inI]; omega) | (simp only [inL]; omega) | (refine jb_01) | (exact jb_in))) ?_))
    exact hQ v jk.rf
  | succ n ih =>
    intro k v hV hE hD hk hn hQ
    have h8 := hD.1
    have ho := hD.2 (106 + 4 * k + 1) (by omega) (by omega)
    unfold fitF at hQ
    have k4 : ∀ u z, jk v u → ¬ (v 540 (106 + 4 * k) = b ∧ ¬ pbA (v 540) (v 542) la b (v 540 (106 + 4 * k + 1)) (if v 540 (106 + 4 * k + 2) = 1 then 1 else 0) = (if v 540 (106 + 4 * k + 3) = 1 then 1 else 0)) → jW bX2_isFit (g, d + 4, 0, 0, Q) 4 [some (vR 539), some (vI la), some (vI b), some (vI k), some (vI z)] [] (u, T) 0 0 := by
      intro u z hu q
      rw [if_neg q] at hQ
      have ea := hu.a
      have ex := hu.x
      refine jW_step ?_
      simp (disch := (first | decide | omega)) only [bX2_isFit, jxs, hps, jtsw, jlsw, List.length_cons, List.length_nil, true_and, and_true, true_implies, false_implies, implies_true, not_true_eq_false, not_false_eq_true, false_and, and_false, if_true, if_false, or_true, true_or, or_false, false_or, Classical.not_not, and_self, Int.reduceAdd, Int.reduceMul, Int.reduceSub, Int.reduceNeg, Int.reduceLT, Int.reduceLE, Int.reduceEq, Int.reduceNe, Int.reduceToNat, Nat.reduceAdd, Nat.reduceMul, Nat.reduceSub, Nat.reduceLeDiff, Nat.reduceLT, Nat.reduceEqDiff, reduceIte, Nat.zero_le, Nat.le_refl, Nat.add_zero, Nat.zero_add, twT hT, twV hV]
      (repeat (refine And.intro (by (first | omega | assumption | trivial | (simp only [inI]; omega) | (simp only [inL]; omega) | (refine jb_01) | (exact jb_in))) ?_))
      refine jW_sub (ls' := [some (vR 539), some (vI la), some (vI b), some (vI (k + 1)), none]) (by simp [jsub]) ?_
      refine ih (k + 1) u (hu.pv hV) (hu.te hE) (by rw [ea]; exact hD) (by omega) (by rw [ea]; omega) ?_
      rw [ea, ex]
      intro y hy
      exact hQ y (hu.tr hy)
    refine jW_step ?_
    simp (disch := (first | decide | omega)) only [bX2_isFit, jxs, hps, jtsw, jlsw, List.length_cons, List.length_nil, true_and, and_true, true_implies, false_implies, implies_true, not_true_eq_false, not_false_eq_true, false_and, and_false, if_true, if_false, or_true, true_or, or_false, false_or, Classical.not_not, and_self, Int.reduceAdd, Int.reduceMul, Int.reduceSub, Int.reduceNeg, Int.reduceLT, Int.reduceLE, Int.reduceEq, Int.reduceNe, Int.reduceToNat, Nat.reduceAdd, Nat.reduceMul, Nat.reduceSub, Nat.reduceLeDiff, Nat.reduceLT, Nat.reduceEqDiff, reduceIte, Nat.zero_le, Nat.le_refl, Nat.add_zero, Nat.zero_add, twT hT, twV hV]
    (repeat (refine And.intro (by (first | omega | assumption | trivial | (simp only [inI]; omega) | (simp only [inL]; omega) | (refine jb_01) | (exact jb_in))) ?_))
    (first | refine ⟨fun h9 => (by exfalso; omega), fun _ => ?_⟩ | intro _)
    (repeat (refine And.intro (by (first | omega | assumption | trivial | (simp only [inI]; omega) | (simp only [inL]; omega) | (refine jb_01) | (exact jb_in))) ?_))
    refine ⟨fun h => ?_, fun h => ?_⟩
    · exact k4 v _ jk.rf (fun q => h q.1)
    · (repeat (refine And.intro (by (first | omega | assumption | trivial | (simp only [inI]; omega) | (simp only [inL]; omega) | (refine jb_01) | (exact jb_in))) ?_))
      have k2 : ∀ r, r = (if v 540 (106 + 4 * k + 2) = 1 then (1 : Int) else 0) → jW bX2_isFit (g, d + 4, 0, 0, Q) 2 [some (vR 539), some (vI la), some (vI b), some (vI k), some (vI (106 + 4 * k))] [vI r, vI (v 540 (106 + 4 * k + 1)), vI b, vI la, vR 539] (v, T) 0 0 := by
        intro r hr
        have hr1 : 0 ≤ r ∧ r ≤ 1 := by rw [hr]; split <;> omega
        rw [← hr] at hQ k4
        refine jW_step ?_
        simp (disch := (first | decide | omega)) only [bX2_isFit, jxs, hps, jtsw, jlsw, List.length_cons, List.length_nil, true_and, and_true, true_implies, false_implies, implies_true, not_true_eq_false, not_false_eq_true, false_and, and_false, if_true, if_false, or_true, true_or, or_false, false_or, Classical.not_not, and_self, Int.reduceAdd, Int.reduceMul, Int.reduceSub, Int.reduceNeg, Int.reduceLT, Int.reduceLE, Int.reduceEq, Int.reduceNe, Int.reduceToNat, Nat.reduceAdd, Nat.reduceMul, Nat.reduceSub, Nat.reduceLeDiff, Nat.reduceLT, Nat.reduceEqDiff, reduceIte, Nat.zero_le, Nat.le_refl, Nat.add_zero, Nat.zero_add, twT hT, twV hV]
        (repeat (refine And.intro (by (first | omega | assumption | trivial | (simp only [inI]; omega) | (simp only [inL]; omega) | (refine jb_01) | (exact jb_in))) ?_))
        refine ⟨0, 0, ⟨by omega, by omega⟩, tw_pushesBy hT hV ⟨hE, hb, by omega, hr1⟩ ?_⟩
        intro u hu
        have ea := hu.a
        have hVu := hu.pv hV
        have k3 : ∀ y, y = (if v 540 (106 + 4 * k + 3) = 1 then (1 : Int) else 0) → jW bX2_isFit (g, d + 4, 0, 0, Q) 3 [some (vR 539), some (vI la), some (vI b), some (vI k), some (vI (106 + 4 * k))] [vI y, vI (pbA (v 540) (v 542) la b (v 540 (106 + 4 * k + 1)) r)] (u, T) 0 0 := by
          intro y hy
          rw [← hy] at hQ k4
          refine jW_step ?_
          simp (disch := (first | decide | omega)) only [bX2_isFit, jxs, hps, jtsw, jlsw, List.length_cons, List.length_nil, true_and, and_true, true_implies, false_implies, implies_true, not_true_eq_false, not_false_eq_true, false_and, and_false, if_true, if_false, or_true, true_or, or_false, false_or, Classical.not_not, and_self, Int.reduceAdd, Int.reduceMul, Int.reduceSub, Int.reduceNeg, Int.reduceLT, Int.reduceLE, Int.reduceEq, Int.reduceNe, Int.reduceToNat, Nat.reduceAdd, Nat.reduceMul, Nat.reduceSub, Nat.reduceLeDiff, Nat.reduceLT, Nat.reduceEqDiff, reduceIte, Nat.zero_le, Nat.le_refl, Nat.add_zero, Nat.zero_add, twT hT, twV hV]
          refine ⟨fun h2 => ?_, fun h2 => ?_⟩
          · exact k4 u _ hu (fun q => q.2 h2)
          · rw [if_pos ⟨h, h2⟩] at hQ
            (repeat (refine And.intro (by (first | omega | assumption | trivial | (simp only [inI]; omega) | (simp only [inL]; omega) | (refine jb_01) | (exact jb_in))) ?_))
            exact hQ u hu
        have hV := hVu
        simp (disch := (first | decide | omega)) only [jxs, hps, jtsw, jlsw, List.length_cons, List.length_nil, true_and, and_true, true_implies, false_implies, implies_true, not_true_eq_false, not_false_eq_true, false_and, and_false, if_true, if_false, or_true, true_or, or_false, false_or, Classical.not_not, and_self, Int.reduceAdd, Int.reduceMul, Int.reduceSub, Int.reduceNeg, Int.reduceLT, Int.reduceLE, Int.reduceEq, Int.reduceNe, Int.reduceToNat, Nat.reduceAdd, Nat.reduceMul, Nat.reduceSub, Nat.reduceLeDiff, Nat.reduceLT, Nat.reduceEqDiff, reduceIte, Nat.zero_le, Nat.le_refl, Nat.add_zero, Nat.zero_add, twT hT, twV hV, ea]
        (repeat (refine And.intro (by (first | omega | assumption | trivial | (simp only [inI]; omega) | (simp only [inL]; omega) | (refine jb_01) | (exact jb_in))) ?_))
        refine ⟨fun h3 => ?_, fun h3 => ?_⟩
        · exact k3 0 (by rw [if_neg h3])
        · exact k3 1 (by rw [if_pos h3])
      refine ⟨fun h3 => ?_, fun h3 => ?_⟩
      · exact k2 0 (by rw [if_neg h3])
      · exact k2 1 (by rw [if_pos h3])
theorem tw_isFit {v : Int → Int → Int} {la b : Int} (hT : PT T) (hV : PV v) (hS : TE v ∧ TD (v 540) ∧ (0 ≤ b ∧ b < 10)) (hQ : ∀ u, jk v u → Q (.inl (some (vI (fitA (v 540) (v 542) la b)))) (u, T)) : jmet g (d + 5) 0 0 MX2_isFit [vR 539, vI la, vI b] (v, T) Q := by
  refine jmet_of (ls := [some (vR 539), some (vI la), some (vI b), none, none]) sX2_isFit rfl (by decide +kernel) (by decide) rfl (by simp [jent]) ?_
  have h8 := hS.2.1.1
  refine jW_step ?_
  simp (disch := (first | decide | omega)) only [bX2_isFit, jxs, hps, jtsw, jlsw, List.length_cons, List.length_nil, true_and, and_true, true_implies, false_implies, implies_true, not_true_eq_false, not_false_eq_true, false_and, and_false, if_true, if_false, or_true, true_or, or_false, false_or, Classical.not_not, and_self, Int.reduceAdd, Int.reduceMul, Int.reduceSub, Int.reduceNeg, Int.reduceLT, Int.reduceLE, Int.reduceEq, Int.reduceNe, Int.reduceToNat, Nat.reduceAdd, Nat.reduceMul, Nat.reduceSub, Nat.reduceLeDiff, Nat.reduceLT, Nat.reduceEqDiff, reduceIte, Nat.zero_le, Nat.le_refl, Nat.add_zero, Nat.zero_add, twT hT, twV hV]
  exact tw_isFit_L hT hS.2.2 (v 540 8).toNat 0 v hV hS.1 hS.2.1 (by omega) (by omega) hQ
theorem tw_lawsOf_L {b : Int} (hT : PT T) (hb : 0 ≤ b ∧ b < 10) : ∀ (n k : Nat) (v : Int → Int → Int), PV v → TE v → TD (v 540) → k + n = 6 → (∀ u, jk v u → Q (.inl (some (vI (lwsA (v 540) (v 542) b)))) (u, T)) →
    jW bX2_lawsOf (g, d + 5, 0, 0, Q) 1 [some (vR 539), some (vI b), some (vI (gat (fun la => decide (¬ fitA (v 540) (v 542) la b = 0)) k)), some (vI (k : Int))] [] (v, T) 0 0 := by
  intro n
  induction n with
  | zero =>
    intro k v hV hE hD hk hQ
    have e : k = 6 := by omega
    subst e
    refine jW_step ?_
    simp (disch := (first | decide | omega)) only [bX2_lawsOf, jxs, hps, jtsw, jlsw, List.length_cons, List.length_nil, true_and, and_true, true_implies, false_implies, implies_true, not_true_eq_false, not_false_eq_true, false_and, and_false, if_true, if_false, or_true, true_or, or_false, false_or, Classical.not_not, and_self, Int.reduceAdd, Int.reduceMul, Int.reduceSub, Int.reduceNeg, Int.reduceLT, Int.reduceLE, Int.reduceEq, Int.reduceNe, Int.reduceToNat, Nat.reduceAdd, Nat.reduceMul, Nat.reduceSub, Nat.reduceLeDiff, Nat.reduceLT, Nat.reduceEqDiff, reduceIte, Nat.zero_le, Nat.le_refl, Nat.add_zero, Nat.zero_add, twT hT, twV hV]
    (try refine ⟨fun _ => ?_, fun h9 => (by exfalso; omega)⟩)
    (repeat (refine And.intro (by (first | omega | assumption | trivial | (simp only [inI]; omega) | (simp only [inL]; omega) | (refine jb_01) | (exact jb_in))) ?_))
    exact hQ v jk.rf
  | succ n ih =>
    intro k v hV hE hD hk hQ
    refine jW_step ?_
    simp (disch := (first | decide | omega)) only [bX2_lawsOf, jxs, hps, jtsw, jlsw, List.length_cons, List.length_nil, true_and, and_true, true_implies, false_implies, implies_true, not_true_eq_false, not_false_eq_true, false_and, and_false, if_true, if_false, or_true, true_or, or_false, false_or, Classical.not_not, and_self, Int.reduceAdd, Int.reduceMul, Int.reduceSub, Int.reduceNeg, Int.reduceLT, Int.reduceLE, Int.reduceEq, Int.reduceNe, Int.reduceToNat, Nat.reduceAdd, Nat.reduceMul, Nat.reduceSub, Nat.reduceLeDiff, Nat.reduceLT, Nat.reduceEqDiff, reduceIte, Nat.zero_le, Nat.le_refl, Nat.add_zero, Nat.zero_add, twT hT, twV hV]
    (first | refine ⟨fun h9 => (by exfalso; omega), fun _ => ?_⟩ | intro _)
    (repeat (refine And.intro (by (first | omega | assumption | trivial | (simp only [inI]; omega) | (simp only [inL]; omega) | (refine jb_01) | (exact jb_in))) ?_))
    refine ⟨0, 0, ⟨by omega, by omega⟩, tw_isFit hT hV ⟨hE, hD, hb⟩ ?_⟩
    intro u hu
    have ea := hu.a
    have ex := hu.x
    have hVu := hu.pv hV
    have fin : ∀ z, z = (if decide (¬ fitA (v 540) (v 542) (k : Int) b = 0) then 2 ^ k else 0) → jW bX2_lawsOf (g, d + 5, 0, 0, Q) 2 [some (vR 539), some (vI b), some (vI (gat (fun la => decide (¬ fitA (v 540) (v 542) la b = 0)) k)), some (vI (k : Int))] [vI z, vI (gat (fun la => decide (¬ fitA (v 540) (v 542) la b = 0)) k)] (u, T) 0 0 := by
      intro z hz
      refine jW_step ?_
      simp (disch := (first | decide | omega)) only [bX2_lawsOf, jxs, hps, jtsw, jlsw, List.length_cons, List.length_nil, true_and, and_true, true_implies, false_implies, implies_true, not_true_eq_false, not_false_eq_true, false_and, and_false, if_true, if_false, or_true, true_or, or_false, false_or, Classical.not_not, and_self, Int.reduceAdd, Int.reduceMul, Int.reduceSub, Int.reduceNeg, Int.reduceLT, Int.reduceLE, Int.reduceEq, Int.reduceNe, Int.reduceToNat, Nat.reduceAdd, Nat.reduceMul, Nat.reduceSub, Nat.reduceLeDiff, Nat.reduceLT, Nat.reduceEqDiff, reduceIte, Nat.zero_le, Nat.le_refl, Nat.add_zero, Nat.zero_add, twT hT, twV hV]
      rw [gat_jor (p := fun la => decide (¬ fitA (v 540) (v 542) la b = 0)) (by omega) hz]
      (repeat (refine And.intro (by (first | omega | assumption | trivial | (simp only [inI]; omega) | (simp only [inL]; omega) | (refine jb_01) | (exact jb_in))) ?_))
      have q := ih (k + 1) u hVu (hu.te hE) (by rw [ea]; exact hD) (by omega) (by rw [ea, ex]; intro y hy; exact hQ y (hu.tr hy))
      rw [ea, ex] at q
      exact q
    simp (disch := (first | decide | omega)) only [jxs, hps, jtsw, jlsw, List.length_cons, List.length_nil, true_and, and_true, true_implies, false_implies, implies_true, not_true_eq_false, not_false_eq_true, false_and, and_false, if_true, if_false, or_true, true_or, or_false, false_or, Classical.not_not, and_self, Int.reduceAdd, Int.reduceMul, Int.reduceSub, Int.reduceNeg, Int.reduceLT, Int.reduceLE, Int.reduceEq, Int.reduceNe, Int.reduceToNat, Nat.reduceAdd, Nat.reduceMul, Nat.reduceSub, Nat.reduceLeDiff, Nat.reduceLT, Nat.reduceEqDiff, reduceIte, Nat.zero_le, Nat.le_refl, Nat.add_zero, Nat.zero_add, twT hT, twV hV]
    refine ⟨fun h => ?_, fun h => ?_⟩
    · exact fin 0 (by rw [if_neg (by simp; exact h)])
    · rw [jshl_1 (by omega) (by omega), Int.toNat_natCast]
      exact fin (2 ^ k) (by rw [if_pos (by simp; exact h)])
theorem tw_lawsOf {v : Int → Int → Int} {b : Int} (hT : PT T) (hV : PV v) (hS : TE v ∧ TD (v 540) ∧ (0 ≤ b ∧ b < 10)) (hQ : ∀ u, jk v u → Q (.inl (some (vI (lwsA (v 540) (v 542) b)))) (u, T)) : jmet g (d + 6) 0 0 MX2_lawsOf [vR 539, vI b] (v, T) Q := by
  refine jmet_of (ls := [some (vR 539), some (vI b), none, none]) sX2_lawsOf rfl (by decide +kernel) (by decide) rfl (by simp [jent]) ?_
  refine jW_step ?_
  simp (disch := (first | decide | omega)) only [bX2_lawsOf, jxs, hps, jtsw, jlsw, List.length_cons, List.length_nil, true_and, and_true, true_implies, false_implies, implies_true, not_true_eq_false, not_false_eq_true, false_and, and_false, if_true, if_false, or_true, true_or, or_false, false_or, Classical.not_not, and_self, Int.reduceAdd, Int.reduceMul, Int.reduceSub, Int.reduceNeg, Int.reduceLT, Int.reduceLE, Int.reduceEq, Int.reduceNe, Int.reduceToNat, Nat.reduceAdd, Nat.reduceMul, Nat.reduceSub, Nat.reduceLeDiff, Nat.reduceLT, Nat.reduceEqDiff, reduceIte, Nat.zero_le, Nat.le_refl, Nat.add_zero, Nat.zero_add, twT hT, twV hV]
  exact tw_lawsOf_L hT hS.2.2 6 0 v hV hS.1 hS.2.1 rfl hQ
def lasA (A X : Int → Int) (b : Int) : Int := if 0 ≤ b ∧ b ≤ A 0 - 1 then lwsA A X b else -1
theorem tw_laws {v : Int → Int → Int} {b : Int} (hT : PT T) (hV : PV v) (hS : TE v ∧ TD (v 540)) (hQ : ∀ u, jk v u → Q (.inl (some (vI (lasA (v 540) (v 542) b)))) (u, T)) : jmet g (d + 7) 0 0 MX2_laws [vR 539, vI b] (v, T) Q := by
  have h0 := hS.1.1.1
  refine jmet_of (ls := [some (vR 539), some (vI b)]) sX2_laws rfl (by decide +kernel) (by decide) rfl (by simp [jent]) ?_
  unfold lasA at hQ
  refine jW_step ?_
  simp (disch := (first | decide | omega)) only [bX2_laws, jxs, hps, jtsw, jlsw, List.length_cons, List.length_nil, true_and, and_true, true_implies, false_implies, implies_true, not_true_eq_false, not_false_eq_true, false_and, and_false, if_true, if_false, or_true, true_or, or_false, false_or, Classical.not_not, and_self, Int.reduceAdd, Int.reduceMul, Int.reduceSub, Int.reduceNeg, Int.reduceLT, Int.reduceLE, Int.reduceEq, Int.reduceNe, Int.reduceToNat, Nat.reduceAdd, Nat.reduceMul, Nat.reduceSub, Nat.reduceLeDiff, Nat.reduceLT, Nat.reduceEqDiff, reduceIte, Nat.zero_le, Nat.le_refl, Nat.add_zero, Nat.zero_add, twT hT, twV hV]
  (repeat (refine And.intro (by (first | omega | assumption | trivial | (simp only [inI]; omega) | (simp only [inL]; omega) | (refine jb_01) | (exact jb_in))) ?_))
  refine ⟨0, 0, ⟨by omega, by omega⟩, tw_isBook hT (by (first | assumption | (repeat (first | assumption | refine PV.A ?_ (by decide) | refine PV.F ?_ ?_ | refine twR.up ?_ (by decide) | refine PV.r ?_)))) (by (first | omega | assumption | trivial | (simp only [inI]; omega) | (simp only [inL]; omega) | (refine jb_01) | (exact jb_in))) ?_⟩
  simp (disch := (first | decide | omega)) only [jxs, hps, jtsw, jlsw, List.length_cons, List.length_nil, true_and, and_true, true_implies, false_implies, implies_true, not_true_eq_false, not_false_eq_true, false_and, and_false, if_true, if_false, or_true, true_or, or_false, false_or, Classical.not_not, and_self, Int.reduceAdd, Int.reduceMul, Int.reduceSub, Int.reduceNeg, Int.reduceLT, Int.reduceLE, Int.reduceEq, Int.reduceNe, Int.reduceToNat, Nat.reduceAdd, Nat.reduceMul, Nat.reduceSub, Nat.reduceLeDiff, Nat.reduceLT, Nat.reduceEqDiff, reduceIte, Nat.zero_le, Nat.le_refl, Nat.add_zero, Nat.zero_add, twT hT, twV hV]
  refine ⟨fun h => ?_, fun h => ?_⟩
  · rw [if_neg h] at hQ
    refine jW_step ?_
    simp (disch := (first | decide | omega)) only [bX2_laws, jxs, hps, jtsw, jlsw, List.length_cons, List.length_nil, true_and, and_true, true_implies, false_implies, implies_true, not_true_eq_false, not_false_eq_true, false_and, and_false, if_true, if_false, or_true, true_or, or_false, false_or, Classical.not_not, and_self, Int.reduceAdd, Int.reduceMul, Int.reduceSub, Int.reduceNeg, Int.reduceLT, Int.reduceLE, Int.reduceEq, Int.reduceNe, Int.reduceToNat, Nat.reduceAdd, Nat.reduceMul, Nat.reduceSub, Nat.reduceLeDiff, Nat.reduceLT, Nat.reduceEqDiff, reduceIte, Nat.zero_le, Nat.le_refl, Nat.add_zero, Nat.zero_add, twT hT, twV hV]
    (repeat (refine And.intro (by (first | omega | assumption | trivial | (simp only [inI]; omega) | (simp only [inL]; omega) | (refine jb_01) | (exact jb_in))) ?_))
    exact hQ v jk.rf
  · rw [if_pos h] at hQ
    (repeat (refine And.intro (by (first | omega | assumption | trivial | (simp only [inI]; omega) | (simp only [inL]; omega) | (refine jb_01) | (exact jb_in))) ?_))
    refine ⟨0, 0, ⟨by omega, by omega⟩, tw_lawsOf hT hV ⟨hS.1, hS.2, by omega⟩ ?_⟩
    intro u hu
    simp (disch := (first | decide | omega)) only [jxs, hps, jtsw, jlsw, List.length_cons, List.length_nil, true_and, and_true, true_implies, false_implies, implies_true, not_true_eq_false, not_false_eq_true, false_and, and_false, if_true, if_false, or_true, true_or, or_false, false_or, Classical.not_not, and_self, Int.reduceAdd, Int.reduceMul, Int.reduceSub, Int.reduceNeg, Int.reduceLT, Int.reduceLE, Int.reduceEq, Int.reduceNe, Int.reduceToNat, Nat.reduceAdd, Nat.reduceMul, Nat.reduceSub, Nat.reduceLeDiff, Nat.reduceLT, Nat.reduceEqDiff, reduceIte, Nat.zero_le, Nat.le_refl, Nat.add_zero, Nat.zero_add, twT hT, twV hV]
    refine jW_step ?_
    simp (disch := (first | decide | omega)) only [bX2_laws, jxs, hps, jtsw, jlsw, List.length_cons, List.length_nil, true_and, and_true, true_implies, false_implies, implies_true, not_true_eq_false, not_false_eq_true, false_and, and_false, if_true, if_false, or_true, true_or, or_false, false_or, Classical.not_not, and_self, Int.reduceAdd, Int.reduceMul, Int.reduceSub, Int.reduceNeg, Int.reduceLT, Int.reduceLE, Int.reduceEq, Int.reduceNe, Int.reduceToNat, Nat.reduceAdd, Nat.reduceMul, Nat.reduceSub, Nat.reduceLeDiff, Nat.reduceLT, Nat.reduceEqDiff, reduceIte, Nat.zero_le, Nat.le_refl, Nat.add_zero, Nat.zero_add, twT hT, twV hV]
    (repeat (refine And.intro (by (first | omega | assumption | trivial | (simp only [inI]; omega) | (simp only [inL]; omega) | (refine jb_01) | (exact jb_in))) ?_))
    exact hQ u hu
end TG
