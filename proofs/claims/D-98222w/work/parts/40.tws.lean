/-! ===== the reference: tells, fits ===== -/
set_option maxRecDepth 100000
def psF (A X : Int → Int) (set b o r : Int) : Nat → Int
  | 0 => 0
  | n + 1 => psF A X set b o r n + (if set / 2 ^ n % 2 = 1 ∧ ¬ pbA A X n b o r = 0 then 1 else 0)
theorem psF_bd {A X : Int → Int} {set b o r : Int} : ∀ n : Nat, 0 ≤ psF A X set b o r n ∧ psF A X set b o r n ≤ n
  | 0 => by unfold psF; omega
  | n + 1 => by
    have := psF_bd (A := A) (X := X) (set := set) (b := b) (o := o) (r := r) n
    unfold psF
    split <;> omega
def tlM (A X : Int → Int) (set b k : Int) : Int := if psF A X set b (k / 2) (k % 2) 6 < bc set - psF A X set b (k / 2) (k % 2) 6 then bc set - psF A X set b (k / 2) (k % 2) 6 else psF A X set b (k / 2) (k % 2) 6
def tlL (A X : Int → Int) (set b : Int) : Nat → Int → Int → Int → Int
  | 0, _, f, _ => f
  | n + 1, k, f, l => if k / 2 = b then tlL A X set b n (k + 1) f l else if l ≤ tlM A X set b k then tlL A X set b n (k + 1) f l else tlL A X set b n (k + 1) k (tlM A X set b k)
def telA (A X : Int → Int) (b : Int) : Int := if 0 ≤ b ∧ b ≤ A 0 - 1 then (if lwsA A X b = 0 then -1 else tlL A X (lwsA A X b) b (2 * A 0).toNat 0 (-1) 1000000) else -1
theorem bc_bd {s : Int} : 0 ≤ bc s ∧ bc s ≤ 10 := bcF_le 10
section TG
variable {g : jjG} {d : Nat} {T : jjT} {Q : jjQ}
theorem tw_tells_2 {b set k f l : Int} (hT : PT T) (hs : 0 ≤ set ∧ set ≤ 1023) (hb : 0 ≤ b ∧ b < 10) (hk : 0 ≤ k ∧ k < 20) : ∀ (n j : Nat) (v : Int → Int → Int), PV v → TE v → j + n = 6 →
    (∀ u, jk v u → jW bX2_tells (g, d + 6, 0, 0, Q) 6 [some (vR 539), some (vI b), some (vI set), some (vI f), some (vI l), some (vI k), none, none] [vI (tlM (v 540) (v 542) set b k)] (u, T) 0 0) →
    jW bX2_tells (g, d + 6, 0, 0, Q) 2 [some (vR 539), some (vI b), some (vI set), some (vI f), some (vI l), some (vI k), some (vI (psF (v 540) (v 542) set b (k / 2) (k % 2) j)), some (vI (j : Int))] [] (v, T) 0 0 := by
  intro n
  have hbc := bc_bd (s := set)
  induction n with
  | zero =>
    intro j v hV hE hj hQ
    have e : j = 6 := by omega
    subst e
    have hp := psF_bd (A := v 540) (X := v 542) (set := set) (b := b) (o := k / 2) (r := k % 2) 6
    unfold tlM at hQ
    generalize psF (v 540) (v 542) set b (k / 2) (k % 2) 6 = p at *
    have sub : ∀ z, jW bX2_tells (g, d + 6, 0, 0, Q) 6 [some (vR 539), some (vI b), some (vI set), some (vI f), some (vI l), some (vI k), none, none] [vI z] (v, T) 0 0 → jW bX2_tells (g, d + 6, 0, 0, Q) 6 [some (vR 539), some (vI b), some (vI set), some (vI f), some (vI l), some (vI k), some (vI p), some (vI 6)] [vI z] (v, T) 0 0 := fun z h => jW_sub (by simp [jsub]) h
    have hq := hQ v jk.rf
    refine jW_step ?_
    simp (disch := (first | decide | omega)) only [bX2_tells, jxs, hps, jtsw, jlsw, List.length_cons, List.length_nil, true_and, and_true, true_implies, false_implies, implies_true, not_true_eq_false, not_false_eq_true, false_and, and_false, if_true, if_false, or_true, true_or, or_false, false_or, Classical.not_not, and_self, Int.reduceAdd, Int.reduceMul, Int.reduceSub, Int.reduceNeg, Int.reduceLT, Int.reduceLE, Int.reduceEq, Int.reduceNe, Int.reduceToNat, Nat.reduceAdd, Nat.reduceMul, Nat.reduceSub, Nat.reduceLeDiff, Nat.reduceLT, Nat.reduceEqDiff, reduceIte, Nat.zero_le, Nat.le_refl, Nat.add_zero, Nat.zero_add, twT hT, twV hV]
    (try refine ⟨fun _ => ?_, fun h9 => (by exfalso; omega)⟩)
    (repeat (refine And.intro (by (first | omega | assumption | trivial | (simp only [inI]; omega) | (simp only [inL]; omega) | (refine jb_01) | (exact jb_in))) ?_))
    refine ⟨0, 0, ⟨by omega, by omega⟩, tw_bits hT hV ⟨by omega, by omega⟩ ?_⟩
    simp (disch := (first | decide | omega)) only [jxs, hps, jtsw, jlsw, List.length_cons, List.length_nil, true_and, and_true, true_implies, false_implies, implies_true, not_true_eq_false, not_false_eq_true, false_and, and_false, if_true, if_false, or_true, true_or, or_false, false_or, Classical.not_not, and_self, Int.reduceAdd, Int.reduceMul, Int.reduceSub, Int.reduceNeg, Int.reduceLT, Int.reduceLE, Int.reduceEq, Int.reduceNe, Int.reduceToNat, Nat.reduceAdd, Nat.reduceMul, Nat.reduceSub, Nat.reduceLeDiff, Nat.reduceLT, Nat.reduceEqDiff, reduceIte, Nat.zero_le, Nat.le_refl, Nat.add_zero, Nat.zero_add, twT hT, twV hV]
    (repeat (refine And.intro (by (first | omega | assumption | trivial | (simp only [inI]; omega) | (simp only [inL]; omega) | (refine jb_01) | (exact jb_in))) ?_))
    refine ⟨fun h => ?_, fun h => ?_⟩
    · rw [if_neg (by omega)] at hq
      exact sub _ hq
    · rw [if_pos (by omega)] at hq
      (repeat (refine And.intro (by (first | omega | assumption | trivial | (simp only [inI]; omega) | (simp only [inL]; omega) | (refine jb_01) | (exact jb_in))) ?_))
      refine ⟨0, 0, ⟨by omega, by omega⟩, tw_bits hT hV ⟨by omega, by omega⟩ ?_⟩
      simp (disch := (first | decide | omega)) only [jxs, hps, jtsw, jlsw, List.length_cons, List.length_nil, true_and, and_true, true_implies, false_implies, implies_true, not_true_eq_false, not_false_eq_true, false_and, and_false, if_true, if_false, or_true, true_or, or_false, false_or, Classical.not_not, and_self, Int.reduceAdd, Int.reduceMul, Int.reduceSub, Int.reduceNeg, Int.reduceLT, Int.reduceLE, Int.reduceEq, Int.reduceNe, Int.reduceToNat, Nat.reduceAdd, Nat.reduceMul, Nat.reduceSub, Nat.reduceLeDiff, Nat.reduceLT, Nat.reduceEqDiff, reduceIte, Nat.zero_le, Nat.le_refl, Nat.add_zero, Nat.zero_add, twT hT, twV hV]
      (repeat (refine And.intro (by (first | omega | assumption | trivial | (simp only [inI]; omega) | (simp only [inL]; omega) | (refine jb_01) | (exact jb_in))) ?_))
      exact sub _ hq
  | succ n ih =>
    intro j v hV hE hj hQ
    have hp := psF_bd (A := v 540) (X := v 542) (set := set) (b := b) (o := k / 2) (r := k % 2) j
    have k5 : ∀ u z, jk v u → z = (if set / 2 ^ j % 2 = 1 ∧ ¬ pbA (v 540) (v 542) j b (k / 2) (k % 2) = 0 then (1 : Int) else 0) → jW bX2_tells (g, d + 6, 0, 0, Q) 5 [some (vR 539), some (vI b), some (vI set), some (vI f), some (vI l), some (vI k), some (vI (psF (v 540) (v 542) set b (k / 2) (k % 2) j)), some (vI (j : Int))] [vI z, vI (psF (v 540) (v 542) set b (k / 2) (k % 2) j)] (u, T) 0 0 := by
      intro u z hu hz
      have z1 : 0 ≤ z ∧ z ≤ 1 := by rw [hz]; split <;> omega
      have ea := hu.a
      have ex := hu.x
      refine jW_step ?_
      simp (disch := (first | decide | omega)) only [bX2_tells, jxs, hps, jtsw, jlsw, List.length_cons, List.length_nil, true_and, and_true, true_implies, false_implies, implies_true, not_true_eq_false, not_false_eq_true, false_and, and_false, if_true, if_false, or_true, true_or, or_false, false_or, Classical.not_not, and_self, Int.reduceAdd, Int.reduceMul, Int.reduceSub, Int.reduceNeg, Int.reduceLT, Int.reduceLE, Int.reduceEq, Int.reduceNe, Int.reduceToNat, Nat.reduceAdd, Nat.reduceMul, Nat.reduceSub, Nat.reduceLeDiff, Nat.reduceLT, Nat.reduceEqDiff, reduceIte, Nat.zero_le, Nat.le_refl, Nat.add_zero, Nat.zero_add, twT hT, twV hV]
      (repeat (refine And.intro (by (first | omega | assumption | trivial | (simp only [inI]; omega) | (simp only [inL]; omega) | (refine jb_01) | (exact jb_in))) ?_))
      have q := ih (j + 1) u (hu.pv hV) (hu.te hE) (by omega) (by rw [ea, ex]; intro y hy; exact hQ y (hu.tr hy))
      rw [ea, ex] at q
      have e : psF (v 540) (v 542) set b (k / 2) (k % 2) (j + 1) = psF (v 540) (v 542) set b (k / 2) (k % 2) j + z := by rw [hz]; rfl
      rw [e] at q
      exact q
    have k4 : ∀ u, jk v u → ¬ (set / 2 ^ j % 2 = 1 ∧ ¬ pbA (v 540) (v 542) j b (k / 2) (k % 2) = 0) → jW bX2_tells (g, d + 6, 0, 0, Q) 4 [some (vR 539), some (vI b), some (vI set), some (vI f), some (vI l), some (vI k), some (vI (psF (v 540) (v 542) set b (k / 2) (k % 2) j)), some (vI (j : Int))] [vI (psF (v 540) (v 542) set b (k / 2) (k % 2) j)] (u, T) 0 0 := by
      intro u hu h
      refine jW_step ?_
      simp (disch := (first | decide | omega)) only [bX2_tells, jxs, hps, jtsw, jlsw, List.length_cons, List.length_nil, true_and, and_true, true_implies, false_implies, implies_true, not_true_eq_false, not_false_eq_true, false_and, and_false, if_true, if_false, or_true, true_or, or_false, false_or, Classical.not_not, and_self, Int.reduceAdd, Int.reduceMul, Int.reduceSub, Int.reduceNeg, Int.reduceLT, Int.reduceLE, Int.reduceEq, Int.reduceNe, Int.reduceToNat, Nat.reduceAdd, Nat.reduceMul, Nat.reduceSub, Nat.reduceLeDiff, Nat.reduceLT, Nat.reduceEqDiff, reduceIte, Nat.zero_le, Nat.le_refl, Nat.add_zero, Nat.zero_add, twT hT, twV hV]
      exact k5 u 0 hu (by rw [if_neg h])
    refine jW_step ?_
    simp (disch := (first | decide | omega)) only [bX2_tells, jxs, hps, jtsw, jlsw, List.length_cons, List.length_nil, true_and, and_true, true_implies, false_implies, implies_true, not_true_eq_false, not_false_eq_true, false_and, and_false, if_true, if_false, or_true, true_or, or_false, false_or, Classical.not_not, and_self, Int.reduceAdd, Int.reduceMul, Int.reduceSub, Int.reduceNeg, Int.reduceLT, Int.reduceLE, Int.reduceEq, Int.reduceNe, Int.reduceToNat, Nat.reduceAdd, Nat.reduceMul, Nat.reduceSub, Nat.reduceLeDiff, Nat.reduceLT, Nat.reduceEqDiff, reduceIte, Nat.zero_le, Nat.le_refl, Nat.add_zero, Nat.zero_add, twT hT, twV hV]
    (first | refine ⟨fun h9 => (by exfalso; omega), fun _ => ?_⟩ | intro _)
    (repeat (refine And.intro (by (first | omega | assumption | trivial | (simp only [inI]; omega) | (simp only [inL]; omega) | (refine jb_01) | (exact jb_in))) ?_))
    refine ⟨0, 0, ⟨by omega, by omega⟩, tw_has hT hV ⟨⟨by omega, by omega⟩, by omega, by omega⟩ ?_⟩
    rw [Int.toNat_natCast]
    simp (disch := (first | decide | omega)) only [jxs, hps, jtsw, jlsw, List.length_cons, List.length_nil, true_and, and_true, true_implies, false_implies, implies_true, not_true_eq_false, not_false_eq_true, false_and, and_false, if_true, if_false, or_true, true_or, or_false, false_or, Classical.not_not, and_self, Int.reduceAdd, Int.reduceMul, Int.reduceSub, Int.reduceNeg, Int.reduceLT, Int.reduceLE, Int.reduceEq, Int.reduceNe, Int.reduceToNat, Nat.reduceAdd, Nat.reduceMul, Nat.reduceSub, Nat.reduceLeDiff, Nat.reduceLT, Nat.reduceEqDiff, reduceIte, Nat.zero_le, Nat.le_refl, Nat.add_zero, Nat.zero_add, twT hT, twV hV]
    refine ⟨fun h => ?_, fun h => ?_⟩
    · exact k4 v jk.rf (fun q => by omega)
    · (repeat (refine And.intro (by (first | omega | assumption | trivial | (simp only [inI]; omega) | (simp only [inL]; omega) | (refine jb_01) | (exact jb_in))) ?_))
      have k3 : ∀ r, r = k % 2 → jW bX2_tells (g, d + 6, 0, 0, Q) 3 [some (vR 539), some (vI b), some (vI set), some (vI f), some (vI l), some (vI k), some (vI (psF (v 540) (v 542) set b (k / 2) (k % 2) j)), some (vI (j : Int))] [vI r, vI (k / 2), vI b, vI (j : Int), vR 539, vI (psF (v 540) (v 542) set b (k / 2) (k % 2) j)] (v, T) 0 0 := by
        intro r hr
        subst hr
        refine jW_step ?_
        simp (disch := (first | decide | omega)) only [bX2_tells, jxs, hps, jtsw, jlsw, List.length_cons, List.length_nil, true_and, and_true, true_implies, false_implies, implies_true, not_true_eq_false, not_false_eq_true, false_and, and_false, if_true, if_false, or_true, true_or, or_false, false_or, Classical.not_not, and_self, Int.reduceAdd, Int.reduceMul, Int.reduceSub, Int.reduceNeg, Int.reduceLT, Int.reduceLE, Int.reduceEq, Int.reduceNe, Int.reduceToNat, Nat.reduceAdd, Nat.reduceMul, Nat.reduceSub, Nat.reduceLeDiff, Nat.reduceLT, Nat.reduceEqDiff, reduceIte, Nat.zero_le, Nat.le_refl, Nat.add_zero, Nat.zero_add, twT hT, twV hV]
        (repeat (refine And.intro (by (first | omega | assumption | trivial | (simp only [inI]; omega) | (simp only [inL]; omega) | (refine jb_01) | (exact jb_in))) ?_))
        refine ⟨0, 0, ⟨by omega, by omega⟩, tw_pushesBy hT hV ⟨hE, hb, by omega, by omega⟩ ?_⟩
        intro u hu
        simp (disch := (first | decide | omega)) only [jxs, hps, jtsw, jlsw, List.length_cons, List.length_nil, true_and, and_true, true_implies, false_implies, implies_true, not_true_eq_false, not_false_eq_true, false_and, and_false, if_true, if_false, or_true, true_or, or_false, false_or, Classical.not_not, and_self, Int.reduceAdd, Int.reduceMul, Int.reduceSub, Int.reduceNeg, Int.reduceLT, Int.reduceLE, Int.reduceEq, Int.reduceNe, Int.reduceToNat, Nat.reduceAdd, Nat.reduceMul, Nat.reduceSub, Nat.reduceLeDiff, Nat.reduceLT, Nat.reduceEqDiff, reduceIte, Nat.zero_le, Nat.le_refl, Nat.add_zero, Nat.zero_add, twT hT, twV hV]
        refine ⟨fun h2 => ?_, fun h2 => ?_⟩
        · exact k4 u hu (fun q => q.2 h2)
        · exact k5 u 1 hu (by rw [if_pos ⟨by omega, h2⟩])
      refine ⟨fun h2 => ?_, fun h2 => ?_⟩
      · exact k3 0 (by omega)
      · exact k3 1 (by omega)
theorem tw_tells_1 {b set : Int} {l7 l8 : Option jjV} (hT : PT T) (hs : 0 ≤ set ∧ set ≤ 1023) (hs0 : ¬ set = 0) (hb : 0 ≤ b ∧ b < 10) : ∀ (n : Nat) (k f l : Int) (v : Int → Int → Int), PV v → TE v → 0 ≤ k → 2 * v 540 0 = k + n →
    (∀ u, jk v u → Q (.inl (some (vI (tlL (v 540) (v 542) set b n k f l)))) (u, T)) →
    jW bX2_tells (g, d + 6, 0, 0, Q) 1 [some (vR 539), some (vI b), some (vI set), some (vI f), some (vI l), some (vI k), none, none] [] (v, T) 0 0 := by
  intro n
  induction n with
  | zero =>
    intro k f l v hV hE hk hn hQ
    have h0 := hE.1.1
    refine jW_step ?_
    simp (disch := (first | decide | omega)) only [bX2_tells, jxs, hps, jtsw, jlsw, List.length_cons, List.length_nil, true_and, and_true, true_implies, false_implies, implies_true, not_true_eq_false, not_false_eq_true, false_and, and_false, if_true, if_false, or_true, true_or, or_false, false_or, Classical.not_not, and_self, Int.reduceAdd, Int.reduceMul, Int.reduceSub, Int.reduceNeg, Int.reduceLT, Int.reduceLE, Int.reduceEq, Int.reduceNe, Int.reduceToNat, Nat.reduceAdd, Nat.reduceMul, Nat.reduceSub, Nat.reduceLeDiff, Nat.reduceLT, Nat.reduceEqDiff, reduceIte, Nat.zero_le, Nat.le_refl, Nat.add_zero, Nat.zero_add, twT hT, twV hV]
    (repeat (refine And.intro (by (first | omega | assumption | trivial | (simp only [inI]; omega) | (simp only [inL]; omega) | (refine jb_01) | (exact jb_in))) ?_))
    (try refine ⟨fun _ => ?_, fun h9 => (by exfalso; omega)⟩)
    refine jW_step ?_
    simp (disch := (first | decide | omega)) only [bX2_tells, jxs, hps, jtsw, jlsw, List.length_cons, List.length_nil, true_and, and_true, true_implies, false_implies, implies_true, not_true_eq_false, not_false_eq_true, false_and, and_false, if_true, if_false, or_true, true_or, or_false, false_or, Classical.not_not, and_self, Int.reduceAdd, Int.reduceMul, Int.reduceSub, Int.reduceNeg, Int.reduceLT, Int.reduceLE, Int.reduceEq, Int.reduceNe, Int.reduceToNat, Nat.reduceAdd, Nat.reduceMul, Nat.reduceSub, Nat.reduceLeDiff, Nat.reduceLT, Nat.reduceEqDiff, reduceIte, Nat.zero_le, Nat.le_refl, Nat.add_zero, Nat.zero_add, twT hT, twV hV]
    (repeat (refine And.intro (by (first | omega | assumption | trivial | (simp only [inI]; omega) | (simp only [inL]; omega) | (refine jb_01) | (exact jb_in))) ?_))
    exact hQ v jk.rf
  | succ n ih =>
    intro k f l v hV hE hk hn hQ
    have h0 := hE.1.1
    unfold tlL at hQ
    have k7 : ∀ u f' l', jk v u → (∀ y, jk v y → Q (.inl (some (vI (tlL (v 540) (v 542) set b n (k + 1) f' l')))) (y, T)) → jW bX2_tells (g, d + 6, 0, 0, Q) 7 [some (vR 539), some (vI b), some (vI set), some (vI f'), some (vI l'), some (vI k), none, none] [] (u, T) 0 0 := by
      intro u f' l' hu hq
      have ea := hu.a
      have ex := hu.x
      refine jW_step ?_
      simp (disch := (first | decide | omega)) only [bX2_tells, jxs, hps, jtsw, jlsw, List.length_cons, List.length_nil, true_and, and_true, true_implies, false_implies, implies_true, not_true_eq_false, not_false_eq_true, false_and, and_false, if_true, if_false, or_true, true_or, or_false, false_or, Classical.not_not, and_self, Int.reduceAdd, Int.reduceMul, Int.reduceSub, Int.reduceNeg, Int.reduceLT, Int.reduceLE, Int.reduceEq, Int.reduceNe, Int.reduceToNat, Nat.reduceAdd, Nat.reduceMul, Nat.reduceSub, Nat.reduceLeDiff, Nat.reduceLT, Nat.reduceEqDiff, reduceIte, Nat.zero_le, Nat.le_refl, Nat.add_zero, Nat.zero_add, twT hT, twV hV]
      (repeat (refine And.intro (by (first | omega | assumption | trivial | (simp only [inI]; omega) | (simp only [inL]; omega) | (refine jb_01) | (exact jb_in))) ?_))
      refine ih (k + 1) f' l' u (hu.pv hV) (hu.te hE) (by omega) (by rw [ea]; omega) ?_
      rw [ea, ex]
      intro y hy
      exact hq y (hu.tr hy)
    refine jW_step ?_
    simp (disch := (first | decide | omega)) only [bX2_tells, jxs, hps, jtsw, jlsw, List.length_cons, List.length_nil, true_and, and_true, true_implies, false_implies, implies_true, not_true_eq_false, not_false_eq_true, false_and, and_false, if_true, if_false, or_true, true_or, or_false, false_or, Classical.not_not, and_self, Int.reduceAdd, Int.reduceMul, Int.reduceSub, Int.reduceNeg, Int.reduceLT, Int.reduceLE, Int.reduceEq, Int.reduceNe, Int.reduceToNat, Nat.reduceAdd, Nat.reduceMul, Nat.reduceSub, Nat.reduceLeDiff, Nat.reduceLT, Nat.reduceEqDiff, reduceIte, Nat.zero_le, Nat.le_refl, Nat.add_zero, Nat.zero_add, twT hT, twV hV]
    (repeat (refine And.intro (by (first | omega | assumption | trivial | (simp only [inI]; omega) | (simp only [inL]; omega) | (refine jb_01) | (exact jb_in))) ?_))
    (first | refine ⟨fun h9 => (by exfalso; omega), fun _ => ?_⟩ | intro _)
    (first | refine ⟨fun h9 => (by exfalso; omega), fun _ => ?_⟩ | intro _)
    (repeat (refine And.intro (by (first | omega | assumption | trivial | (simp only [inI]; omega) | (simp only [inL]; omega) | (refine jb_01) | (exact jb_in))) ?_))
    refine ⟨fun h => ?_, fun h => ?_⟩
    · rw [if_neg h] at hQ
      refine tw_tells_2 hT hs hb (by omega) 6 0 v hV hE rfl ?_
      intro u hu
      have h7 := fun f' l' hq => jW_sub (ls := [some (vR 539), some (vI b), some (vI set), some (vI f'), some (vI l'), some (vI k), none, some (vI (tlM (v 540) (v 542) set b k))]) (ls' := [some (vR 539), some (vI b), some (vI set), some (vI f'), some (vI l'), some (vI k), none, none]) (by simp [jsub]) (k7 u f' l' hu hq)
      refine jW_step ?_
      simp (disch := (first | decide | omega)) only [bX2_tells, jxs, hps, jtsw, jlsw, List.length_cons, List.length_nil, true_and, and_true, true_implies, false_implies, implies_true, not_true_eq_false, not_false_eq_true, false_and, and_false, if_true, if_false, or_true, true_or, or_false, false_or, Classical.not_not, and_self, Int.reduceAdd, Int.reduceMul, Int.reduceSub, Int.reduceNeg, Int.reduceLT, Int.reduceLE, Int.reduceEq, Int.reduceNe, Int.reduceToNat, Nat.reduceAdd, Nat.reduceMul, Nat.reduceSub, Nat.reduceLeDiff, Nat.reduceLT, Nat.reduceEqDiff, reduceIte, Nat.zero_le, Nat.le_refl, Nat.add_zero, Nat.zero_add, twT hT, twV hV]
      refine ⟨fun h2 => ?_, fun h2 => ?_⟩
      · rw [if_neg (by omega)] at hQ
        exact h7 k _ hQ
      · rw [if_pos (by omega)] at hQ
        (repeat (refine And.intro (by (first | omega | assumption | trivial | (simp only [inI]; omega) | (simp only [inL]; omega) | (refine jb_01) | (exact jb_in))) ?_))
        exact h7 f l hQ
    · rw [if_pos h] at hQ
      (repeat (refine And.intro (by (first | omega | assumption | trivial | (simp only [inI]; omega) | (simp only [inL]; omega) | (refine jb_01) | (exact jb_in))) ?_))
      exact k7 v f l jk.rf hQ
theorem tw_tells {v : Int → Int → Int} {b : Int} (hT : PT T) (hV : PV v) (hS : TE v ∧ TD (v 540)) (hQ : ∀ u, jk v u → Q (.inl (some (vI (telA (v 540) (v 542) b)))) (u, T)) : jmet g (d + 7) 0 0 MX2_tells [vR 539, vI b] (v, T) Q := by
  have h0 := hS.1.1.1
  refine jmet_of (ls := [some (vR 539), some (vI b), none, none, none, none, none, none]) sX2_tells rfl (by decide +kernel) (by decide) rfl (by simp [jent]) ?_
  unfold telA at hQ
  refine jW_step ?_
  simp (disch := (first | decide | omega)) only [bX2_tells, jxs, hps, jtsw, jlsw, List.length_cons, List.length_nil, true_and, and_true, true_implies, false_implies, implies_true, not_true_eq_false, not_false_eq_true, false_and, and_false, if_true, if_false, or_true, true_or, or_false, false_or, Classical.not_not, and_self, Int.reduceAdd, Int.reduceMul, Int.reduceSub, Int.reduceNeg, Int.reduceLT, Int.reduceLE, Int.reduceEq, Int.reduceNe, Int.reduceToNat, Nat.reduceAdd, Nat.reduceMul, Nat.reduceSub, Nat.reduceLeDiff, Nat.reduceLT, Nat.reduceEqDiff, reduceIte, Nat.zero_le, Nat.le_refl, Nat.add_zero, Nat.zero_add, twT hT, twV hV]
  (repeat (refine And.intro (by (first | omega | assumption | trivial | (simp only [inI]; omega) | (simp only [inL]; omega) | (refine jb_01) | (exact jb_in))) ?_))
  refine ⟨0, 0, ⟨by omega, by omega⟩, tw_isBook hT (by (first | assumption | (repeat (first | assumption | refine PV.A ?_ (by decide) | refine PV.F ?_ ?_ | refine twR.up ?_ (by decide) | refine PV.r ?_)))) (by (first | omega | assumption | trivial | (simp only [inI]; omega) | (simp only [inL]; omega) | (refine jb_01) | (exact jb_in))) ?_⟩
  simp (disch := (first | decide | omega)) only [jxs, hps, jtsw, jlsw, List.length_cons, List.length_nil, true_and, and_true, true_implies, false_implies, implies_true, not_true_eq_false, not_false_eq_true, false_and, and_false, if_true, if_false, or_true, true_or, or_false, false_or, Classical.not_not, and_self, Int.reduceAdd, Int.reduceMul, Int.reduceSub, Int.reduceNeg, Int.reduceLT, Int.reduceLE, Int.reduceEq, Int.reduceNe, Int.reduceToNat, Nat.reduceAdd, Nat.reduceMul, Nat.reduceSub, Nat.reduceLeDiff, Nat.reduceLT, Nat.reduceEqDiff, reduceIte, Nat.zero_le, Nat.le_refl, Nat.add_zero, Nat.zero_add, twT hT, twV hV]
  refine ⟨fun h => ?_, fun h => ?_⟩
  · rw [if_pos h] at hQ
    (repeat (refine And.intro (by (first | omega | assumption | trivial | (simp only [inI]; omega) | (simp only [inL]; omega) | (refine jb_01) | (exact jb_in))) ?_))
    refine ⟨0, 0, ⟨by omega, by omega⟩, tw_lawsOf hT hV ⟨hS.1, hS.2, by omega⟩ ?_⟩
    intro u hu
    have hs := gat_in (p := fun la => decide (¬ fitA (v 540) (v 542) la b = 0)) (n := 6) (by omega)
    have es : lwsA (v 540) (v 542) b = gat (fun la => decide (¬ fitA (v 540) (v 542) la b = 0)) 6 := rfl
    rw [← es] at hs
    have ea := hu.a
    have ex := hu.x
    have hE := hu.te hS.1
    have hV := hu.pv hV
    generalize lwsA (v 540) (v 542) b = set at *
    simp (disch := (first | decide | omega)) only [jxs, hps, jtsw, jlsw, List.length_cons, List.length_nil, true_and, and_true, true_implies, false_implies, implies_true, not_true_eq_false, not_false_eq_true, false_and, and_false, if_true, if_false, or_true, true_or, or_false, false_or, Classical.not_not, and_self, Int.reduceAdd, Int.reduceMul, Int.reduceSub, Int.reduceNeg, Int.reduceLT, Int.reduceLE, Int.reduceEq, Int.reduceNe, Int.reduceToNat, Nat.reduceAdd, Nat.reduceMul, Nat.reduceSub, Nat.reduceLeDiff, Nat.reduceLT, Nat.reduceEqDiff, reduceIte, Nat.zero_le, Nat.le_refl, Nat.add_zero, Nat.zero_add, twT hT, twV hV]
    by_cases h2 : set = 0
    · rw [if_pos h2] at hQ
      by_cases h3 : v 540 0 = 0
      · omega
      · refine jW_step ?_
        simp (disch := (first | decide | omega)) only [bX2_tells, jxs, hps, jtsw, jlsw, List.length_cons, List.length_nil, true_and, and_true, true_implies, false_implies, implies_true, not_true_eq_false, not_false_eq_true, false_and, and_false, if_true, if_false, or_true, true_or, or_false, false_or, Classical.not_not, and_self, Int.reduceAdd, Int.reduceMul, Int.reduceSub, Int.reduceNeg, Int.reduceLT, Int.reduceLE, Int.reduceEq, Int.reduceNe, Int.reduceToNat, Nat.reduceAdd, Nat.reduceMul, Nat.reduceSub, Nat.reduceLeDiff, Nat.reduceLT, Nat.reduceEqDiff, reduceIte, Nat.zero_le, Nat.le_refl, Nat.add_zero, Nat.zero_add, twT hT, twV hV, ea]
        (repeat (refine And.intro (by (first | omega | assumption | trivial | (simp only [inI]; omega) | (simp only [inL]; omega) | (refine jb_01) | (exact jb_in))) ?_))
        (first | refine ⟨fun h9 => (by exfalso; omega), fun _ => ?_⟩ | intro _)
        (try refine ⟨fun _ => ?_, fun h9 => (by exfalso; omega)⟩)
        refine jW_step ?_
        simp (disch := (first | decide | omega)) only [bX2_tells, jxs, hps, jtsw, jlsw, List.length_cons, List.length_nil, true_and, and_true, true_implies, false_implies, implies_true, not_true_eq_false, not_false_eq_true, false_and, and_false, if_true, if_false, or_true, true_or, or_false, false_or, Classical.not_not, and_self, Int.reduceAdd, Int.reduceMul, Int.reduceSub, Int.reduceNeg, Int.reduceLT, Int.reduceLE, Int.reduceEq, Int.reduceNe, Int.reduceToNat, Nat.reduceAdd, Nat.reduceMul, Nat.reduceSub, Nat.reduceLeDiff, Nat.reduceLT, Nat.reduceEqDiff, reduceIte, Nat.zero_le, Nat.le_refl, Nat.add_zero, Nat.zero_add, twT hT, twV hV]
        (repeat (refine And.intro (by (first | omega | assumption | trivial | (simp only [inI]; omega) | (simp only [inL]; omega) | (refine jb_01) | (exact jb_in))) ?_))
        exact hQ u hu
    · rw [if_neg h2] at hQ
      refine tw_tells_1 (l7 := none) (l8 := none) hT hs h2 (by omega) (2 * v 540 0).toNat 0 (-1) 1000000 u hV hE (by omega) (by rw [ea]; omega) ?_
      rw [ea, ex]
      intro y hy
      exact hQ y (hu.tr hy)
  · rw [if_neg h] at hQ
    (repeat (refine And.intro (by (first | omega | assumption | trivial | (simp only [inI]; omega) | (simp only [inL]; omega) | (refine jb_01) | (exact jb_in))) ?_))
    exact hQ v jk.rf
end TG
