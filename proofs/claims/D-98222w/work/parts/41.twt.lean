/-! ===== the reference: what fits ===== -/
set_option maxRecDepth 100000
def fiF (A X : Int → Int) (set : Int) : Nat → Int
  | 0 => 0
  | n + 1 => fiF A X set n + (if set / 2 ^ n % 2 = 0 then 0 else if A (46 + 6 * n + 5) = 3 then thA A X n else 1000000)
theorem fiF_bd {A X : Int → Int} {set : Int} (hA : TB A) : ∀ n : Nat, n ≤ 10 → 0 ≤ fiF A X set n ∧ fiF A X set n ≤ 1000000 * n
  | 0, _ => by unfold fiF; omega
  | n + 1, h => by
    have h1 := fiF_bd hA (X := X) (set := set) n (by omega)
    have h2 := thA_bd (X := X) hA (b := (n : Int)) (by omega)
    unfold fiF
    repeat' split
    all_goals omega
def fiL (A X : Int → Int) (room : Int) : Nat → Int → Int → Int → Int
  | 0, _, best, _ => best
  | n + 1, set, best, thin => if room < fiF A X set (A 0).toNat ∨ bc set < bc best ∨ (bc set = bc best ∧ thin ≤ fiF A X set (A 0).toNat) then fiL A X room n (set + 1) best thin else fiL A X room n (set + 1) set (fiF A X set (A 0).toNat)
def fitsA (A X : Int → Int) (s : Int) : Int := if 0 ≤ s ∧ s ≤ 2 then fiL A X (A (10 + s) - fuA A X s) ((2 : Int) ^ (A 0).toNat - 1).toNat 1 0 0 else -1
theorem pow_bd {n : Int} (h : 0 ≤ n ∧ n ≤ 10) : 1 ≤ (2 : Int) ^ n.toNat ∧ (2 : Int) ^ n.toNat ≤ 1024 := by
  have key : ∀ k : Fin 11, 1 ≤ (2 : Int) ^ k.val ∧ (2 : Int) ^ k.val ≤ 1024 := by decide +kernel
  exact key ⟨n.toNat, by omega⟩
section TG
variable {g : jjG} {d : Nat} {T : jjT} {Q : jjQ}
theorem tw_fits_2 {s room best thin set : Int} (hT : PT T) (hs : 0 ≤ set ∧ set ≤ 1023) (hbe : 0 ≤ best ∧ best ≤ 1023) : ∀ (n j : Nat) (v : Int → Int → Int), PV v → TE v → v 540 0 = ((j + n : Nat) : Int) →
    (∀ u best' thin', jk v u → (if room < fiF (v 540) (v 542) set (v 540 0).toNat ∨ bc set < bc best ∨ (bc set = bc best ∧ thin ≤ fiF (v 540) (v 542) set (v 540 0).toNat) then best' = best ∧ thin' = thin else best' = set ∧ thin' = fiF (v 540) (v 542) set (v 540 0).toNat) →
      jW bX2_fits (g, d + 7, 0, 0, Q) 5 [some (vR 539), some (vI s), some (vI room), some (vI best'), some (vI thin'), some (vI set), none, none] [] (u, T) 0 0) →
    jW bX2_fits (g, d + 7, 0, 0, Q) 2 [some (vR 539), some (vI s), some (vI room), some (vI best), some (vI thin), some (vI set), some (vI (fiF (v 540) (v 542) set j)), some (vI (j : Int))] [] (v, T) 0 0 := by
  intro n
  induction n with
  | zero =>
    intro j v hV hE hj hQ
    have h0 := hE.1.1
    have ej : (v 540 0).toNat = j := by omega
    rw [ej] at hQ
    have hb := fiF_bd (X := v 542) (set := set) hE.1 j (by omega)
    generalize fiF (v 540) (v 542) set j = th at *
    have no : (room < th ∨ bc set < bc best ∨ (bc set = bc best ∧ thin ≤ th)) → jW bX2_fits (g, d + 7, 0, 0, Q) 5 [some (vR 539), some (vI s), some (vI room), some (vI best), some (vI thin), some (vI set), some (vI th), some (vI (j : Int))] [] (v, T) 0 0 := by
      intro q
      refine jW_sub (ls' := [some (vR 539), some (vI s), some (vI room), some (vI best), some (vI thin), some (vI set), none, none]) (by simp [jsub]) ?_
      exact hQ v best thin jk.rf (by rw [if_pos q]; exact ⟨rfl, rfl⟩)
    have yes : ¬ (room < th ∨ bc set < bc best ∨ (bc set = bc best ∧ thin ≤ th)) → jW bX2_fits (g, d + 7, 0, 0, Q) 4 [some (vR 539), some (vI s), some (vI room), some (vI best), some (vI thin), some (vI set), some (vI th), some (vI (j : Int))] [] (v, T) 0 0 := by
      intro q
      refine jW_step ?_
      simp (disch := (first | decide | omega)) only [bX2_fits, jxs, hps, jtsw, jlsw, List.length_cons, List.length_nil, true_and, and_true, true_implies, false_implies, implies_true, not_true_eq_false, not_false_eq_true, false_and, and_false, if_true, if_false, or_true, true_or, or_false, false_or, Classical.not_not, and_self, Int.reduceAdd, Int.reduceMul, Int.reduceSub, Int.reduceNeg, Int.reduceLT, Int.reduceLE, Int.reduceEq, Int.reduceNe, Int.reduceToNat, Nat.reduceAdd, Nat.reduceMul, Nat.reduceSub, Nat.reduceLeDiff, Nat.reduceLT, Nat.reduceEqDiff, reduceIte, Nat.zero_le, Nat.le_refl, Nat.add_zero, Nat.zero_add, twT hT, twV hV]
      refine jW_sub (ls' := [some (vR 539), some (vI s), some (vI room), some (vI set), some (vI th), some (vI set), none, none]) (by simp [jsub]) ?_
      exact hQ v set th jk.rf (by rw [if_neg q]; exact ⟨rfl, rfl⟩)
    refine jW_step ?_
    simp (disch := (first | decide | omega)) only [bX2_fits, jxs, hps, jtsw, jlsw, List.length_cons, List.length_nil, true_and, and_true, true_implies, false_implies, implies_true, not_true_eq_false, not_false_eq_true, false_and, and_false, if_true, if_false, or_true, true_or, or_false, false_or, Classical.not_not, and_self, Int.reduceAdd, Int.reduceMul, Int.reduceSub, Int.reduceNeg, Int.reduceLT, Int.reduceLE, Int.reduceEq, Int.reduceNe, Int.reduceToNat, Nat.reduceAdd, Nat.reduceMul, Nat.reduceSub, Nat.reduceLeDiff, Nat.reduceLT, Nat.reduceEqDiff, reduceIte, Nat.zero_le, Nat.le_refl, Nat.add_zero, Nat.zero_add, twT hT, twV hV]
    (repeat (refine And.intro (by (first | omega | assumption | trivial | (simp only [inI]; omega) | (simp only [inL]; omega) | (refine jb_01) | (exact jb_in))) ?_))
    (try refine ⟨fun _ => ?_, fun h9 => (by exfalso; omega)⟩)
    refine ⟨fun h1 => ?_, fun h1 => ?_⟩
    · exact no (Or.inl h1)
    (repeat (refine And.intro (by (first | omega | assumption | trivial | (simp only [inI]; omega) | (simp only [inL]; omega) | (refine jb_01) | (exact jb_in))) ?_))
    refine ⟨0, 0, ⟨by omega, by omega⟩, tw_bits hT hV ⟨by omega, by omega⟩ ?_⟩
    simp (disch := (first | decide | omega)) only [jxs, hps, jtsw, jlsw, List.length_cons, List.length_nil, true_and, and_true, true_implies, false_implies, implies_true, not_true_eq_false, not_false_eq_true, false_and, and_false, if_true, if_false, or_true, true_or, or_false, false_or, Classical.not_not, and_self, Int.reduceAdd, Int.reduceMul, Int.reduceSub, Int.reduceNeg, Int.reduceLT, Int.reduceLE, Int.reduceEq, Int.reduceNe, Int.reduceToNat, Nat.reduceAdd, Nat.reduceMul, Nat.reduceSub, Nat.reduceLeDiff, Nat.reduceLT, Nat.reduceEqDiff, reduceIte, Nat.zero_le, Nat.le_refl, Nat.add_zero, Nat.zero_add, twT hT, twV hV]
    (repeat (refine And.intro (by (first | omega | assumption | trivial | (simp only [inI]; omega) | (simp only [inL]; omega) | (refine jb_01) | (exact jb_in))) ?_))
    refine ⟨0, 0, ⟨by omega, by omega⟩, tw_bits hT hV ⟨by omega, by omega⟩ ?_⟩
    simp (disch := (first | decide | omega)) only [jxs, hps, jtsw, jlsw, List.length_cons, List.length_nil, true_and, and_true, true_implies, false_implies, implies_true, not_true_eq_false, not_false_eq_true, false_and, and_false, if_true, if_false, or_true, true_or, or_false, false_or, Classical.not_not, and_self, Int.reduceAdd, Int.reduceMul, Int.reduceSub, Int.reduceNeg, Int.reduceLT, Int.reduceLE, Int.reduceEq, Int.reduceNe, Int.reduceToNat, Nat.reduceAdd, Nat.reduceMul, Nat.reduceSub, Nat.reduceLeDiff, Nat.reduceLT, Nat.reduceEqDiff, reduceIte, Nat.zero_le, Nat.le_refl, Nat.add_zero, Nat.zero_add, twT hT, twV hV]
    refine ⟨fun h2 => ?_, fun h2 => ?_⟩
    · exact no (Or.inr (Or.inl h2))
    (repeat (refine And.intro (by (first | omega | assumption | trivial | (simp only [inI]; omega) | (simp only [inL]; omega) | (refine jb_01) | (exact jb_in))) ?_))
    refine ⟨0, 0, ⟨by omega, by omega⟩, tw_bits hT hV ⟨by omega, by omega⟩ ?_⟩
    simp (disch := (first | decide | omega)) only [jxs, hps, jtsw, jlsw, List.length_cons, List.length_nil, true_and, and_true, true_implies, false_implies, implies_true, not_true_eq_false, not_false_eq_true, false_and, and_false, if_true, if_false, or_true, true_or, or_false, false_or, Classical.not_not, and_self, Int.reduceAdd, Int.reduceMul, Int.reduceSub, Int.reduceNeg, Int.reduceLT, Int.reduceLE, Int.reduceEq, Int.reduceNe, Int.reduceToNat, Nat.reduceAdd, Nat.reduceMul, Nat.reduceSub, Nat.reduceLeDiff, Nat.reduceLT, Nat.reduceEqDiff, reduceIte, Nat.zero_le, Nat.le_refl, Nat.add_zero, Nat.zero_add, twT hT, twV hV]
    (repeat (refine And.intro (by (first | omega | assumption | trivial | (simp only [inI]; omega) | (simp only [inL]; omega) | (refine jb_01) | (exact jb_in))) ?_))
    refine ⟨0, 0, ⟨by omega, by omega⟩, tw_bits hT hV ⟨by omega, by omega⟩ ?_⟩
    simp (disch := (first | decide | omega)) only [jxs, hps, jtsw, jlsw, List.length_cons, List.length_nil, true_and, and_true, true_implies, false_implies, implies_true, not_true_eq_false, not_false_eq_true, false_and, and_false, if_true, if_false, or_true, true_or, or_false, false_or, Classical.not_not, and_self, Int.reduceAdd, Int.reduceMul, Int.reduceSub, Int.reduceNeg, Int.reduceLT, Int.reduceLE, Int.reduceEq, Int.reduceNe, Int.reduceToNat, Nat.reduceAdd, Nat.reduceMul, Nat.reduceSub, Nat.reduceLeDiff, Nat.reduceLT, Nat.reduceEqDiff, reduceIte, Nat.zero_le, Nat.le_refl, Nat.add_zero, Nat.zero_add, twT hT, twV hV]
    refine ⟨fun h3 => ?_, fun h3 => ?_⟩
    · exact yes (by omega)
    refine ⟨fun h4 => ?_, fun h4 => ?_⟩
    · exact yes (by omega)
    · (repeat (refine And.intro (by (first | omega | assumption | trivial | (simp only [inI]; omega) | (simp only [inL]; omega) | (refine jb_01) | (exact jb_in))) ?_))
      exact no (Or.inr (Or.inr ⟨h3, by omega⟩))
  | succ n ih =>
    intro j v hV hE hj hQ
    have h0 := hE.1.1
    have hb := fiF_bd (X := v 542) (set := set) hE.1 j (by omega)
    have k3 : ∀ u z, jk v u → z = (if set / 2 ^ j % 2 = 0 then (0 : Int) else if v 540 (46 + 6 * j + 5) = 3 then thA (v 540) (v 542) j else 1000000) → jW bX2_fits (g, d + 7, 0, 0, Q) 3 [some (vR 539), some (vI s), some (vI room), some (vI best), some (vI thin), some (vI set), some (vI (fiF (v 540) (v 542) set j)), some (vI (j : Int))] [vI z, vI (fiF (v 540) (v 542) set j)] (u, T) 0 0 := by
      intro u z hu hz
      have ht := thA_bd (X := v 542) hE.1 (b := (j : Int)) (by omega)
      have z1 : 0 ≤ z ∧ z ≤ 1000000 := by
        rw [hz]
        repeat' split
        all_goals omega
      have ea := hu.a
      have ex := hu.x
      refine jW_step ?_
      simp (disch := (first | decide | omega)) only [bX2_fits, jxs, hps, jtsw, jlsw, List.length_cons, List.length_nil, true_and, and_true, true_implies, false_implies, implies_true, not_true_eq_false, not_false_eq_true, false_and, and_false, if_true, if_false, or_true, true_or, or_false, false_or, Classical.not_not, and_self, Int.reduceAdd, Int.reduceMul, Int.reduceSub, Int.reduceNeg, Int.reduceLT, Int.reduceLE, Int.reduceEq, Int.reduceNe, Int.reduceToNat, Nat.reduceAdd, Nat.reduceMul, Nat.reduceSub, Nat.reduceLeDiff, Nat.reduceLT, Nat.reduceEqDiff, reduceIte, Nat.zero_le, Nat.le_refl, Nat.add_zero, Nat.zero_add, twT hT, twV hV]
      (repeat (refine And.intro (by (first | omega | assumption | trivial | (simp only [inI]; omega) | (simp only [inL]; omega) | (refine jb_01) | (exact jb_in))) ?_))
      have q := ih (j + 1) u (hu.pv hV) (hu.te hE) (by rw [ea]; omega) (by rw [ea, ex]; intro y b' t' hy hc; exact hQ y b' t' (hu.tr hy) hc)
      rw [ea, ex] at q
      have e : fiF (v 540) (v 542) set (j + 1) = fiF (v 540) (v 542) set j + z := by rw [hz]; rfl
      rw [e] at q
      exact q
    refine jW_step ?_
    simp (disch := (first | decide | omega)) only [bX2_fits, jxs, hps, jtsw, jlsw, List.length_cons, List.length_nil, true_and, and_true, true_implies, false_implies, implies_true, not_true_eq_false, not_false_eq_true, false_and, and_false, if_true, if_false, or_true, true_or, or_false, false_or, Classical.not_not, and_self, Int.reduceAdd, Int.reduceMul, Int.reduceSub, Int.reduceNeg, Int.reduceLT, Int.reduceLE, Int.reduceEq, Int.reduceNe, Int.reduceToNat, Nat.reduceAdd, Nat.reduceMul, Nat.reduceSub, Nat.reduceLeDiff, Nat.reduceLT, Nat.reduceEqDiff, reduceIte, Nat.zero_le, Nat.le_refl, Nat.add_zero, Nat.zero_add, twT hT, twV hV]
    (repeat (refine And.intro (by (first | omega | assumption | trivial | (simp only [inI]; omega) | (simp only [inL]; omega) | (refine jb_01) | (exact jb_in))) ?_))
    (first | refine ⟨fun h9 => (by exfalso; omega), fun _ => ?_⟩ | intro _)
    (repeat (refine And.intro (by (first | omega | assumption | trivial | (simp only [inI]; omega) | (simp only [inL]; omega) | (refine jb_01) | (exact jb_in))) ?_))
    refine ⟨0, 0, ⟨by omega, by omega⟩, tw_has hT hV ⟨⟨by omega, by omega⟩, by omega, by omega⟩ ?_⟩
    rw [Int.toNat_natCast]
    simp (disch := (first | decide | omega)) only [jxs, hps, jtsw, jlsw, List.length_cons, List.length_nil, true_and, and_true, true_implies, false_implies, implies_true, not_true_eq_false, not_false_eq_true, false_and, and_false, if_true, if_false, or_true, true_or, or_false, false_or, Classical.not_not, and_self, Int.reduceAdd, Int.reduceMul, Int.reduceSub, Int.reduceNeg, Int.reduceLT, Int.reduceLE, Int.reduceEq, Int.reduceNe, Int.reduceToNat, Nat.reduceAdd, Nat.reduceMul, Nat.reduceSub, Nat.reduceLeDiff, Nat.reduceLT, Nat.reduceEqDiff, reduceIte, Nat.zero_le, Nat.le_refl, Nat.add_zero, Nat.zero_add, twT hT, twV hV]
    refine ⟨fun h => ?_, fun h => ?_⟩
    · (repeat (refine And.intro (by (first | omega | assumption | trivial | (simp only [inI]; omega) | (simp only [inL]; omega) | (refine jb_01) | (exact jb_in))) ?_))
      refine ⟨0, 0, ⟨by omega, by omega⟩, tw_get hT (by (first | assumption | (repeat (first | assumption | refine PV.A ?_ (by decide) | refine PV.F ?_ ?_ | refine twR.up ?_ (by decide) | refine PV.r ?_)))) (by (first | omega | assumption | trivial | (simp only [inI]; omega) | (simp only [inL]; omega) | (refine jb_01) | (exact jb_in))) ?_⟩
      simp (disch := (first | decide | omega)) only [jxs, hps, jtsw, jlsw, List.length_cons, List.length_nil, true_and, and_true, true_implies, false_implies, implies_true, not_true_eq_false, not_false_eq_true, false_and, and_false, if_true, if_false, or_true, true_or, or_false, false_or, Classical.not_not, and_self, Int.reduceAdd, Int.reduceMul, Int.reduceSub, Int.reduceNeg, Int.reduceLT, Int.reduceLE, Int.reduceEq, Int.reduceNe, Int.reduceToNat, Nat.reduceAdd, Nat.reduceMul, Nat.reduceSub, Nat.reduceLeDiff, Nat.reduceLT, Nat.reduceEqDiff, reduceIte, Nat.zero_le, Nat.le_refl, Nat.add_zero, Nat.zero_add, twT hT, twV hV]
      refine ⟨fun h2 => ?_, fun h2 => ?_⟩
      · exact k3 v 1000000 jk.rf (by rw [if_neg h, if_neg h2])
      · (repeat (refine And.intro (by (first | omega | assumption | trivial | (simp only [inI]; omega) | (simp only [inL]; omega) | (refine jb_01) | (exact jb_in))) ?_))
        refine ⟨0, 0, ⟨by omega, by omega⟩, tw_thickNow hT hV ⟨hE, by omega, by omega⟩ ?_⟩
        intro u hu
        simp (disch := (first | decide | omega)) only [jxs, hps, jtsw, jlsw, List.length_cons, List.length_nil, true_and, and_true, true_implies, false_implies, implies_true, not_true_eq_false, not_false_eq_true, false_and, and_false, if_true, if_false, or_true, true_or, or_false, false_or, Classical.not_not, and_self, Int.reduceAdd, Int.reduceMul, Int.reduceSub, Int.reduceNeg, Int.reduceLT, Int.reduceLE, Int.reduceEq, Int.reduceNe, Int.reduceToNat, Nat.reduceAdd, Nat.reduceMul, Nat.reduceSub, Nat.reduceLeDiff, Nat.reduceLT, Nat.reduceEqDiff, reduceIte, Nat.zero_le, Nat.le_refl, Nat.add_zero, Nat.zero_add, twT hT, twV hV]
        exact k3 u _ hu (by rw [if_neg h, if_pos (by omega)])
    · (repeat (refine And.intro (by (first | omega | assumption | trivial | (simp only [inI]; omega) | (simp only [inL]; omega) | (refine jb_01) | (exact jb_in))) ?_))
      exact k3 v 0 jk.rf (by rw [if_pos (by omega)])
theorem tw_fits_1 {s room : Int} (hT : PT T) : ∀ (n : Nat) (set best thin : Int) (v : Int → Int → Int), PV v → TE v → 1 ≤ set → (2 : Int) ^ (v 540 0).toNat = set + n → (0 ≤ best ∧ best ≤ 1023) →
    (∀ u, jk v u → Q (.inl (some (vI (fiL (v 540) (v 542) room n set best thin)))) (u, T)) →
    jW bX2_fits (g, d + 7, 0, 0, Q) 1 [some (vR 539), some (vI s), some (vI room), some (vI best), some (vI thin), some (vI set), none, none] [] (v, T) 0 0 := by
  intro n
  induction n with
  | zero =>
    intro set best thin v hV hE h1 hn hb hQ
    have h0 := hE.1.1
    refine jW_step ?_
    simp (disch := (first | decide | omega)) only [bX2_fits, jxs, hps, jtsw, jlsw, List.length_cons, List.length_nil, true_and, and_true, true_implies, false_implies, implies_true, not_true_eq_false, not_false_eq_true, false_and, and_false, if_true, if_false, or_true, true_or, or_false, false_or, Classical.not_not, and_self, Int.reduceAdd, Int.reduceMul, Int.reduceSub, Int.reduceNeg, Int.reduceLT, Int.reduceLE, Int.reduceEq, Int.reduceNe, Int.reduceToNat, Nat.reduceAdd, Nat.reduceMul, Nat.reduceSub, Nat.reduceLeDiff, Nat.reduceLT, Nat.reduceEqDiff, reduceIte, Nat.zero_le, Nat.le_refl, Nat.add_zero, Nat.zero_add, twT hT, twV hV]
    (repeat (refine And.intro (by (first | omega | assumption | trivial | (simp only [inI]; omega) | (simp only [inL]; omega) | (refine jb_01) | (exact jb_in))) ?_))
    rw [jshl_1 h0.1 (by omega)]
    (try refine ⟨fun _ => ?_, fun h9 => (by exfalso; omega)⟩)
    (repeat (refine And.intro (by (first | omega | assumption | trivial | (simp only [inI]; omega) | (simp only [inL]; omega) | (refine jb_01) | (exact jb_in))) ?_))
    exact hQ v jk.rf
  | succ n ih =>
    intro set best thin v hV hE h1 hn hb hQ
    have h0 := hE.1.1
    have hp := pow_bd h0
    unfold fiL at hQ
    refine jW_step ?_
    simp (disch := (first | decide | omega)) only [bX2_fits, jxs, hps, jtsw, jlsw, List.length_cons, List.length_nil, true_and, and_true, true_implies, false_implies, implies_true, not_true_eq_false, not_false_eq_true, false_and, and_false, if_true, if_false, or_true, true_or, or_false, false_or, Classical.not_not, and_self, Int.reduceAdd, Int.reduceMul, Int.reduceSub, Int.reduceNeg, Int.reduceLT, Int.reduceLE, Int.reduceEq, Int.reduceNe, Int.reduceToNat, Nat.reduceAdd, Nat.reduceMul, Nat.reduceSub, Nat.reduceLeDiff, Nat.reduceLT, Nat.reduceEqDiff, reduceIte, Nat.zero_le, Nat.le_refl, Nat.add_zero, Nat.zero_add, twT hT, twV hV]
    (repeat (refine And.intro (by (first | omega | assumption | trivial | (simp only [inI]; omega) | (simp only [inL]; omega) | (refine jb_01) | (exact jb_in))) ?_))
    rw [jshl_1 h0.1 (by omega)]
    (first | refine ⟨fun h9 => (by exfalso; omega), fun _ => ?_⟩ | intro _)
    refine tw_fits_2 hT (by omega) hb (v 540 0).toNat 0 v hV hE (by omega) ?_
    intro u best' thin' hu hc
    have ea := hu.a
    have ex := hu.x
    refine jW_step ?_
    simp (disch := (first | decide | omega)) only [bX2_fits, jxs, hps, jtsw, jlsw, List.length_cons, List.length_nil, true_and, and_true, true_implies, false_implies, implies_true, not_true_eq_false, not_false_eq_true, false_and, and_false, if_true, if_false, or_true, true_or, or_false, false_or, Classical.not_not, and_self, Int.reduceAdd, Int.reduceMul, Int.reduceSub, Int.reduceNeg, Int.reduceLT, Int.reduceLE, Int.reduceEq, Int.reduceNe, Int.reduceToNat, Nat.reduceAdd, Nat.reduceMul, Nat.reduceSub, Nat.reduceLeDiff, Nat.reduceLT, Nat.reduceEqDiff, reduceIte, Nat.zero_le, Nat.le_refl, Nat.add_zero, Nat.zero_add, twT hT, twV hV]
    (repeat (refine And.intro (by (first | omega | assumption | trivial | (simp only [inI]; omega) | (simp only [inL]; omega) | (refine jb_01) | (exact jb_in))) ?_))
    refine ih (set + 1) best' thin' u (hu.pv hV) (hu.te hE) (by omega) (by rw [ea]; omega) ?_ ?_
    · split at hc <;> omega
    · rw [ea, ex]
      intro y hy
      have hq := hQ y (hu.tr hy)
      by_cases q : room < fiF (v 540) (v 542) set (v 540 0).toNat ∨ bc set < bc best ∨ (bc set = bc best ∧ thin ≤ fiF (v 540) (v 542) set (v 540 0).toNat)
      · rw [if_pos q] at hq hc
        rw [hc.1, hc.2]
        exact hq
      · rw [if_neg q] at hq hc
        rw [hc.1, hc.2]
        exact hq
theorem tw_fits {v : Int → Int → Int} {s : Int} (hT : PT T) (hV : PV v) (hS : TE v ∧ TW (v 540)) (hQ : ∀ u, jk v u → Q (.inl (some (vI (fitsA (v 540) (v 542) s)))) (u, T)) : jmet g (d + 8) 0 0 MX2_fits [vR 539, vI s] (v, T) Q := by
  obtain ⟨hE, hW⟩ := hS
  have hB := hE.1
  have h0 := hB.1
  have hp := pow_bd h0
  refine jmet_of (ls := [some (vR 539), some (vI s), none, none, none, none, none, none]) sX2_fits rfl (by decide +kernel) (by decide) rfl (by simp [jent]) ?_
  unfold fitsA at hQ
  refine jW_step ?_
  simp (disch := (first | decide | omega)) only [bX2_fits, jxs, hps, jtsw, jlsw, List.length_cons, List.length_nil, true_and, and_true, true_implies, false_implies, implies_true, not_true_eq_false, not_false_eq_true, false_and, and_false, if_true, if_false, or_true, true_or, or_false, false_or, Classical.not_not, and_self, Int.reduceAdd, Int.reduceMul, Int.reduceSub, Int.reduceNeg, Int.reduceLT, Int.reduceLE, Int.reduceEq, Int.reduceNe, Int.reduceToNat, Nat.reduceAdd, Nat.reduceMul, Nat.reduceSub, Nat.reduceLeDiff, Nat.reduceLT, Nat.reduceEqDiff, reduceIte, Nat.zero_le, Nat.le_refl, Nat.add_zero, Nat.zero_add, twT hT, twV hV]
  (repeat (refine And.intro (by (first | omega | assumption | trivial | (simp only [inI]; omega) | (simp only [inL]; omega) | (refine jb_01) | (exact jb_in))) ?_))
  refine ⟨0, 0, ⟨by omega, by omega⟩, tw_isShelf hT (by (first | assumption | (repeat (first | assumption | refine PV.A ?_ (by decide) | refine PV.F ?_ ?_ | refine twR.up ?_ (by decide) | refine PV.r ?_)))) (by (first | omega | assumption | trivial | (simp only [inI]; omega) | (simp only [inL]; omega) | (refine jb_01) | (exact jb_in))) ?_⟩
  simp (disch := (first | decide | omega)) only [jxs, hps, jtsw, jlsw, List.length_cons, List.length_nil, true_and, and_true, true_implies, false_implies, implies_true, not_true_eq_false, not_false_eq_true, false_and, and_false, if_true, if_false, or_true, true_or, or_false, false_or, Classical.not_not, and_self, Int.reduceAdd, Int.reduceMul, Int.reduceSub, Int.reduceNeg, Int.reduceLT, Int.reduceLE, Int.reduceEq, Int.reduceNe, Int.reduceToNat, Nat.reduceAdd, Nat.reduceMul, Nat.reduceSub, Nat.reduceLeDiff, Nat.reduceLT, Nat.reduceEqDiff, reduceIte, Nat.zero_le, Nat.le_refl, Nat.add_zero, Nat.zero_add, twT hT, twV hV]
  refine ⟨fun h => ?_, fun h => ?_⟩
  · rw [if_pos h] at hQ
    have w := hW (10 + s) (by omega) (by omega)
    have hm := hB.2.2.2.2.2.1 (13 + s) (by omega) (by omega)
    have fb := fuF_bd (X := v 542) hB (s := s) (by omega) (v 540 (13 + s)).toNat (by omega)
    have fe : fuA (v 540) (v 542) s = fuF (v 540) (v 542) s (v 540 (13 + s)).toNat := rfl
    rw [← fe] at fb
    (repeat (refine And.intro (by (first | omega | assumption | trivial | (simp only [inI]; omega) | (simp only [inL]; omega) | (refine jb_01) | (exact jb_in))) ?_))
    refine ⟨0, 0, ⟨by omega, by omega⟩, tw_fullOf hT hV ⟨hE, by omega, by omega⟩ ?_⟩
    intro u hu
    have ea := hu.a
    have ex := hu.x
    simp (disch := (first | decide | omega)) only [jxs, hps, jtsw, jlsw, List.length_cons, List.length_nil, true_and, and_true, true_implies, false_implies, implies_true, not_true_eq_false, not_false_eq_true, false_and, and_false, if_true, if_false, or_true, true_or, or_false, false_or, Classical.not_not, and_self, Int.reduceAdd, Int.reduceMul, Int.reduceSub, Int.reduceNeg, Int.reduceLT, Int.reduceLE, Int.reduceEq, Int.reduceNe, Int.reduceToNat, Nat.reduceAdd, Nat.reduceMul, Nat.reduceSub, Nat.reduceLeDiff, Nat.reduceLT, Nat.reduceEqDiff, reduceIte, Nat.zero_le, Nat.le_refl, Nat.add_zero, Nat.zero_add, twT hT, twV hV]
    (repeat (refine And.intro (by (first | omega | assumption | trivial | (simp only [inI]; omega) | (simp only [inL]; omega) | (refine jb_01) | (exact jb_in))) ?_))
    refine tw_fits_1 hT ((2 : Int) ^ (v 540 0).toNat - 1).toNat 1 0 0 u (hu.pv hV) (hu.te hE) (by omega) (by rw [ea]; omega) (by omega) ?_
    rw [ea, ex]
    intro y hy
    exact hQ y (hu.tr hy)
  · rw [if_neg h] at hQ
    (repeat (refine And.intro (by (first | omega | assumption | trivial | (simp only [inI]; omega) | (simp only [inL]; omega) | (refine jb_01) | (exact jb_in))) ?_))
    exact hQ v jk.rf
end TG
