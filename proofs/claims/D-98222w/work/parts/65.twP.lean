/-! ===== the reference: trouble, rank ===== -/
set_option maxRecDepth 100000
/-- whether a set holds an order that never rests -/
def hnS (A X : Int → Int) (s : Int) : Int := hnF (ldJ (tbS A X s) (elZ (A 0) s).2) (clE (tbS A X s) (elZ (A 0) s).2) (fac (elZ (A 0) s).2) (fac (elZ (A 0) s).2).toNat 0
def trF2 (A X : Int → Int) (n : Int) : Nat → Int → Int
  | 0, _ => -1
  | r + 1, s => if bc s = n then (if hnS A X s = 0 then trF2 A X n r (s + 1) else s) else trF2 A X n r (s + 1)
def trF1 (A X : Int → Int) : Nat → Int → Int
  | 0, _ => -1
  | r + 1, n => if trF2 A X n (2 ^ (A 0).toNat : Int).toNat 0 < 0 then trF1 A X r (n + 1) else trF2 A X n (2 ^ (A 0).toNat : Int).toNat 0
def trbA (A X : Int → Int) : Int := trF1 A X 4 2
def rk2 (c w : Int → Int) (p : Int) : Nat → Int → Int
  | 0, _ => 1
  | r + 1, q => if c (10 * w p + w q) = 0 then (if c (10 * w q + w p) = 0 then 0 else rk2 c w p r (q + 1)) else 0
def rk1 (c w : Int → Int) (m : Int) : Nat → Int → Int
  | 0, _ => 1
  | r + 1, p => if rk2 c w p (m - p - 1).toNat (p + 1) = 0 then 0 else rk1 c w m r (p + 1)
def rkA (c w : Int → Int) (m : Int) : Int := rk1 c w m m.toNat 0
def rkF (c : Int → Int) (m : Int) : Nat → Int → Int
  | 0, _ => -1
  | r + 1, n => if rkA c (dec m n) m = 0 then rkF c m r (n + 1) else n
def rnkS (A X : Int → Int) (s pl : Int) : Int := if rkF (tbS A X s) (elZ (A 0) s).2 (fac (elZ (A 0) s).2).toNat 0 < 0 then -1 else (elZ (A 0) s).1 (dec (elZ (A 0) s).2 (rkF (tbS A X s) (elZ (A 0) s).2 (fac (elZ (A 0) s).2).toNat 0) pl)
def rnkA (A X : Int → Int) (s pl : Int) : Int := if (1 ≤ s ∧ s ≤ 2 ^ (A 0).toNat - 1) ∧ bc s ≤ 6 then (if 0 ≤ pl ∧ pl ≤ bc s - 1 then rnkS A X s pl else -1) else -1
section TG
variable {g : jjG} {d : Nat} {T : jjT} {Q : jjQ}
theorem tw_trb_2 {N n : Int} (hT : PT T) (hN : 0 ≤ N ∧ N ≤ 10) (hn : 2 ≤ n ∧ n ≤ 5) : ∀ (r : Nat) (s : Int) (v : Int → Int → Int), PV v → TE v → v 540 0 = N → CH (v 540) (v 542) (v 548) → 0 ≤ s → s + r = 2 ^ N.toNat →
    (∀ u, jkl v u → (trF2 (v 540) (v 542) n r s < 0 → jW bX2_trouble (g, d + 7, 0, 0, Q) 1 [some (vR 539), some (vI (n + 1)), none] [] (u, T) 0 0) ∧ (0 ≤ trF2 (v 540) (v 542) n r s → Q (.inl (some (vI (trF2 (v 540) (v 542) n r s)))) (u, T))) →
    jW bX2_trouble (g, d + 7, 0, 0, Q) 2 [some (vR 539), some (vI n), some (vI s)] [] (v, T) 0 0 := by
  have p := pow_bd hN
  intro r
  induction r with
  | zero =>
    intro s v hV hE h0 hC hs hr hQ
    unfold trF2 at hQ
    refine jW_step ?_
    simp (disch := (first | decide | omega)) only [bX2_trouble, jxs, hps, jtsw, jlsw, List.length_cons, List.length_nil, true_and, and_true, true_implies, false_implies, implies_true, not_true_eq_false, not_false_eq_true, false_and, and_false, if_true, if_false, or_true, true_or, or_false, false_or, Classical.not_not, and_self, Int.reduceAdd, Int.reduceMul, Int.reduceSub, Int.reduceNeg, Int.reduceLT, Int.reduceLE, Int.reduceEq, Int.reduceNe, Int.reduceToNat, Nat.reduceAdd, Nat.reduceMul, Nat.reduceSub, Nat.reduceLeDiff, Nat.reduceLT, Nat.reduceEqDiff, reduceIte, Nat.zero_le, Nat.le_refl, Nat.add_zero, Nat.zero_add, twT hT, twV hV, h0]
    (repeat (refine And.intro (by (first | omega | assumption | trivial | (simp only [inI]; omega) | (simp only [inL]; omega) | (refine jb_01) | (exact jb_in))) ?_))
    rw [jshl_1 hN.1 (by omega)]
    (try refine ⟨fun _ => ?_, fun h9 => (by exfalso; omega)⟩)
    (repeat (refine And.intro (by (first | omega | assumption | trivial | (simp only [inI]; omega) | (simp only [inL]; omega) | (refine jb_01) | (exact jb_in))) ?_))
    exact jW_sub (by simp [jsub]) ((hQ v ⟨⟨v 539 34, v 539 35, by rw [up1_id, up1_id]⟩, fun _ _ _ => rfl⟩).1 (by omega))
  | succ r ih =>
    intro s v hV hE h0 hC hs hr hQ
    unfold trF2 at hQ
    have rf : jkl v v := ⟨⟨v 539 34, v 539 35, by rw [up1_id, up1_id]⟩, fun _ _ _ => rfl⟩
    refine jW_step ?_
    simp (disch := (first | decide | omega)) only [bX2_trouble, jxs, hps, jtsw, jlsw, List.length_cons, List.length_nil, true_and, and_true, true_implies, false_implies, implies_true, not_true_eq_false, not_false_eq_true, false_and, and_false, if_true, if_false, or_true, true_or, or_false, false_or, Classical.not_not, and_self, Int.reduceAdd, Int.reduceMul, Int.reduceSub, Int.reduceNeg, Int.reduceLT, Int.reduceLE, Int.reduceEq, Int.reduceNe, Int.reduceToNat, Nat.reduceAdd, Nat.reduceMul, Nat.reduceSub, Nat.reduceLeDiff, Nat.reduceLT, Nat.reduceEqDiff, reduceIte, Nat.zero_le, Nat.le_refl, Nat.add_zero, Nat.zero_add, twT hT, twV hV, h0]
    (repeat (refine And.intro (by (first | omega | assumption | trivial | (simp only [inI]; omega) | (simp only [inL]; omega) | (refine jb_01) | (exact jb_in))) ?_))
    rw [jshl_1 hN.1 (by omega)]
    (first | refine ⟨fun h9 => (by exfalso; omega), fun _ => ?_⟩ | intro _)
    refine ⟨0, 0, ⟨by omega, by omega⟩, tw_bits hT hV ⟨by omega, by omega⟩ ?_⟩
    simp (disch := (first | decide | omega)) only [jxs, hps, jtsw, jlsw, List.length_cons, List.length_nil, true_and, and_true, true_implies, false_implies, implies_true, not_true_eq_false, not_false_eq_true, false_and, and_false, if_true, if_false, or_true, true_or, or_false, false_or, Classical.not_not, and_self, Int.reduceAdd, Int.reduceMul, Int.reduceSub, Int.reduceNeg, Int.reduceLT, Int.reduceLE, Int.reduceEq, Int.reduceNe, Int.reduceToNat, Nat.reduceAdd, Nat.reduceMul, Nat.reduceSub, Nat.reduceLeDiff, Nat.reduceLT, Nat.reduceEqDiff, reduceIte, Nat.zero_le, Nat.le_refl, Nat.add_zero, Nat.zero_add, twT hT, twV hV]
    refine ⟨fun h => ?_, fun h => ?_⟩
    · rw [if_pos h] at hQ
      have hm := elZ_bc (s := s) hN hs (by omega)
      refine ⟨0, 0, ⟨by omega, by omega⟩, tw_layElements hT hV ⟨by rw [h0]; exact hN, ⟨by omega, by omega⟩, by rw [h0]; omega, hC⟩ ?_⟩
      intro w hw jw
      have hVw := jw.o.pv hV
      have ea := jw.o.a
      have ex := jw.o.x
      have e48 : w 548 = v 548 := jw.2 548 (by omega) (by omega)
      unfold hnS at hQ
      have m0 := elZ_sp (N := v 540 0) (s := s) (by omega)
      have m6 : 0 ≤ (elZ (v 540 0) s).2 ∧ (elZ (v 540 0) s).2 ≤ 6 := ⟨m0.2.2.1, by rw [h0]; omega⟩
      generalize tbS (v 540) (v 542) s = c at *
      generalize (elZ (v 540 0) s).2 = m at *
      have hf := fac_bd m6.2
      obtain ⟨w34, w35, w54, w51, wF⟩ := hw
      have cl := wF.cl
      have ld := wF.ld
      have LDj := ldJ_LD (c := c) m6
      have hLw : LD (w 552) (w 539 35) := by rw [w35]; exact LDj.cg ld
      have hV := hVw
      simp (disch := (first | decide | omega)) only [jxs, hps, jtsw, jlsw, List.length_cons, List.length_nil, true_and, and_true, true_implies, false_implies, implies_true, not_true_eq_false, not_false_eq_true, false_and, and_false, if_true, if_false, or_true, true_or, or_false, false_or, Classical.not_not, and_self, Int.reduceAdd, Int.reduceMul, Int.reduceSub, Int.reduceNeg, Int.reduceLT, Int.reduceLE, Int.reduceEq, Int.reduceNe, Int.reduceToNat, Nat.reduceAdd, Nat.reduceMul, Nat.reduceSub, Nat.reduceLeDiff, Nat.reduceLT, Nat.reduceEqDiff, reduceIte, Nat.zero_le, Nat.le_refl, Nat.add_zero, Nat.zero_add, twT hT, twV hV]
      refine ⟨0, 0, ⟨by omega, by omega⟩, tw_hasNever hT hV hLw ?_⟩
      rw [w35, hnF_cg ld cl LDj (fac m).toNat 0 (by omega) (by omega)]
      simp (disch := (first | decide | omega)) only [jxs, hps, jtsw, jlsw, List.length_cons, List.length_nil, true_and, and_true, true_implies, false_implies, implies_true, not_true_eq_false, not_false_eq_true, false_and, and_false, if_true, if_false, or_true, true_or, or_false, false_or, Classical.not_not, and_self, Int.reduceAdd, Int.reduceMul, Int.reduceSub, Int.reduceNeg, Int.reduceLT, Int.reduceLE, Int.reduceEq, Int.reduceNe, Int.reduceToNat, Nat.reduceAdd, Nat.reduceMul, Nat.reduceSub, Nat.reduceLeDiff, Nat.reduceLT, Nat.reduceEqDiff, reduceIte, Nat.zero_le, Nat.le_refl, Nat.add_zero, Nat.zero_add, twT hT, twV hV]
      refine ⟨fun h2 => ?_, fun h2 => ?_⟩
      · rw [if_pos h2] at hQ
        refine jW_step ?_
        simp (disch := (first | decide | omega)) only [bX2_trouble, jxs, hps, jtsw, jlsw, List.length_cons, List.length_nil, true_and, and_true, true_implies, false_implies, implies_true, not_true_eq_false, not_false_eq_true, false_and, and_false, if_true, if_false, or_true, true_or, or_false, false_or, Classical.not_not, and_self, Int.reduceAdd, Int.reduceMul, Int.reduceSub, Int.reduceNeg, Int.reduceLT, Int.reduceLE, Int.reduceEq, Int.reduceNe, Int.reduceToNat, Nat.reduceAdd, Nat.reduceMul, Nat.reduceSub, Nat.reduceLeDiff, Nat.reduceLT, Nat.reduceEqDiff, reduceIte, Nat.zero_le, Nat.le_refl, Nat.add_zero, Nat.zero_add, twT hT, twV hV]
        (repeat (refine And.intro (by (first | omega | assumption | trivial | (simp only [inI]; omega) | (simp only [inL]; omega) | (refine jb_01) | (exact jb_in))) ?_))
        refine ih (s + 1) w hVw (jw.o.te hE) (by rw [ea]; exact h0) (by rw [ea, ex, e48]; exact hC) (by omega) (by omega) ?_
        rw [ea, ex]
        intro u hu
        exact hQ u (jw.tr hu)
      · rw [if_neg h2] at hQ
        (repeat (refine And.intro (by (first | omega | assumption | trivial | (simp only [inI]; omega) | (simp only [inL]; omega) | (refine jb_01) | (exact jb_in))) ?_))
        exact (hQ w jw).2 (by omega)
    · rw [if_neg h] at hQ
      refine jW_step ?_
      simp (disch := (first | decide | omega)) only [bX2_trouble, jxs, hps, jtsw, jlsw, List.length_cons, List.length_nil, true_and, and_true, true_implies, false_implies, implies_true, not_true_eq_false, not_false_eq_true, false_and, and_false, if_true, if_false, or_true, true_or, or_false, false_or, Classical.not_not, and_self, Int.reduceAdd, Int.reduceMul, Int.reduceSub, Int.reduceNeg, Int.reduceLT, Int.reduceLE, Int.reduceEq, Int.reduceNe, Int.reduceToNat, Nat.reduceAdd, Nat.reduceMul, Nat.reduceSub, Nat.reduceLeDiff, Nat.reduceLT, Nat.reduceEqDiff, reduceIte, Nat.zero_le, Nat.le_refl, Nat.add_zero, Nat.zero_add, twT hT, twV hV]
      (repeat (refine And.intro (by (first | omega | assumption | trivial | (simp only [inI]; omega) | (simp only [inL]; omega) | (refine jb_01) | (exact jb_in))) ?_))
      exact ih (s + 1) v hV hE h0 hC (by omega) (by omega) hQ
theorem trF2_bd {A X : Int → Int} {n : Int} : ∀ (r : Nat) (s : Int), 0 ≤ s → -1 ≤ trF2 A X n r s
  | 0, s, _ => by unfold trF2; omega
  | r + 1, s, h => by
    have := trF2_bd (A := A) (X := X) (n := n) r (s + 1) (by omega)
    unfold trF2
    split
    · split <;> omega
    · omega
theorem tw_trb_1 {N : Int} (hT : PT T) (hN : 0 ≤ N ∧ N ≤ 10) : ∀ (r : Nat) (n : Int) (v : Int → Int → Int), PV v → TE v → v 540 0 = N → CH (v 540) (v 542) (v 548) → 2 ≤ n → n + r = 6 →
    (∀ u, jkl v u → Q (.inl (some (vI (trF1 (v 540) (v 542) r n)))) (u, T)) →
    jW bX2_trouble (g, d + 7, 0, 0, Q) 1 [some (vR 539), some (vI n), none] [] (v, T) 0 0 := by
  have p := pow_bd hN
  intro r
  induction r with
  | zero =>
    intro n v hV hE h0 hC hn hr hQ
    unfold trF1 at hQ
    refine jW_step ?_
    simp (disch := (first | decide | omega)) only [bX2_trouble, jxs, hps, jtsw, jlsw, List.length_cons, List.length_nil, true_and, and_true, true_implies, false_implies, implies_true, not_true_eq_false, not_false_eq_true, false_and, and_false, if_true, if_false, or_true, true_or, or_false, false_or, Classical.not_not, and_self, Int.reduceAdd, Int.reduceMul, Int.reduceSub, Int.reduceNeg, Int.reduceLT, Int.reduceLE, Int.reduceEq, Int.reduceNe, Int.reduceToNat, Nat.reduceAdd, Nat.reduceMul, Nat.reduceSub, Nat.reduceLeDiff, Nat.reduceLT, Nat.reduceEqDiff, reduceIte, Nat.zero_le, Nat.le_refl, Nat.add_zero, Nat.zero_add, twT hT, twV hV]
    (try refine ⟨fun _ => ?_, fun h9 => (by exfalso; omega)⟩)
    (repeat (refine And.intro (by (first | omega | assumption | trivial | (simp only [inI]; omega) | (simp only [inL]; omega) | (refine jb_01) | (exact jb_in))) ?_))
    exact hQ v ⟨⟨v 539 34, v 539 35, by rw [up1_id, up1_id]⟩, fun _ _ _ => rfl⟩
  | succ r ih =>
    intro n v hV hE h0 hC hn hr hQ
    unfold trF1 at hQ
    refine jW_step ?_
    simp (disch := (first | decide | omega)) only [bX2_trouble, jxs, hps, jtsw, jlsw, List.length_cons, List.length_nil, true_and, and_true, true_implies, false_implies, implies_true, not_true_eq_false, not_false_eq_true, false_and, and_false, if_true, if_false, or_true, true_or, or_false, false_or, Classical.not_not, and_self, Int.reduceAdd, Int.reduceMul, Int.reduceSub, Int.reduceNeg, Int.reduceLT, Int.reduceLE, Int.reduceEq, Int.reduceNe, Int.reduceToNat, Nat.reduceAdd, Nat.reduceMul, Nat.reduceSub, Nat.reduceLeDiff, Nat.reduceLT, Nat.reduceEqDiff, reduceIte, Nat.zero_le, Nat.le_refl, Nat.add_zero, Nat.zero_add, twT hT, twV hV]
    (first | refine ⟨fun h9 => (by exfalso; omega), fun _ => ?_⟩ | intro _)
    refine tw_trb_2 hT hN (by omega) (2 ^ N.toNat : Int).toNat 0 v hV hE h0 hC (by omega) (by omega) ?_
    rw [h0] at hQ
    intro u hu
    have ea := hu.o.a
    have ex := hu.o.x
    refine ⟨fun q => ?_, fun q => ?_⟩
    · rw [if_pos q] at hQ
      refine ih (n + 1) u (hu.o.pv hV) (hu.o.te hE) (by rw [ea]; exact h0) (by rw [ea, ex, hu.2 548 (by omega) (by omega)]; exact hC) (by omega) (by omega) ?_
      rw [ea, ex]
      intro y hy
      exact hQ y (hu.tr hy)
    · rw [if_neg (by omega)] at hQ
      exact hQ u hu
theorem tw_trouble {v : Int → Int → Int} (hT : PT T) (hV : PV v) (hS : TE v) (hQ : ∀ u, jko v u → Q (.inl (some (vI (trbA (v 540) (v 542))))) (u, T)) : jmet g (d + 8) 0 0 MX2_trouble [vR 539] (v, T) Q := by
  have hE := hS
  have h0 := hE.1.1
  refine jmet_of (ls := [some (vR 539), none, none]) sX2_trouble rfl (by decide +kernel) (by decide) rfl (by simp [jent]) ?_
  refine jW_step ?_
  simp (disch := (first | decide | omega)) only [bX2_trouble, jxs, hps, jtsw, jlsw, List.length_cons, List.length_nil, true_and, and_true, true_implies, false_implies, implies_true, not_true_eq_false, not_false_eq_true, false_and, and_false, if_true, if_false, or_true, true_or, or_false, false_or, Classical.not_not, and_self, Int.reduceAdd, Int.reduceMul, Int.reduceSub, Int.reduceNeg, Int.reduceLT, Int.reduceLE, Int.reduceEq, Int.reduceNe, Int.reduceToNat, Nat.reduceAdd, Nat.reduceMul, Nat.reduceSub, Nat.reduceLeDiff, Nat.reduceLT, Nat.reduceEqDiff, reduceIte, Nat.zero_le, Nat.le_refl, Nat.add_zero, Nat.zero_add, twT hT, twV hV]
  refine ⟨0, 0, ⟨by omega, by omega⟩, tw_findChanges hT hV hE ?_⟩
  intro w hw hC
  have ea := hw.a
  have ex := hw.x
  have hVw := hw.pv hV
  simp (disch := (first | decide | omega)) only [jxs, hps, jtsw, jlsw, List.length_cons, List.length_nil, true_and, and_true, true_implies, false_implies, implies_true, not_true_eq_false, not_false_eq_true, false_and, and_false, if_true, if_false, or_true, true_or, or_false, false_or, Classical.not_not, and_self, Int.reduceAdd, Int.reduceMul, Int.reduceSub, Int.reduceNeg, Int.reduceLT, Int.reduceLE, Int.reduceEq, Int.reduceNe, Int.reduceToNat, Nat.reduceAdd, Nat.reduceMul, Nat.reduceSub, Nat.reduceLeDiff, Nat.reduceLT, Nat.reduceEqDiff, reduceIte, Nat.zero_le, Nat.le_refl, Nat.add_zero, Nat.zero_add, twT hT, twV hV]
  refine tw_trb_1 (N := v 540 0) hT h0 4 2 w hVw (hw.te hE) (by rw [ea]) (by rw [ea, ex]; exact hC) (by omega) (by omega) ?_
  rw [ea, ex]
  intro u hu
  exact hQ u (hw.o.tr hu.o)
theorem tw_isRank_2 {k p m : Int} {v : Int → Int → Int} {c : Int → Int} (hT : PT T) (hV : PV v) (hO : OEL v m c) (hm : 0 ≤ m ∧ m ≤ 6) (hk : 0 ≤ k ∧ k < fac m) (hR : ORD (v 551) m (fac m) 0) (hp : 0 ≤ p ∧ p < m) : ∀ (r : Nat) (q : Int), p < q → m = q + r →
    ((rk2 c (dec m k) p r q = 0 → Q (.inl (some (vI 0))) (v, T)) ∧ (rk2 c (dec m k) p r q ≠ 0 → jW bX2_isRank (g, d, 0, 0, Q) 1 [some (vR 539), some (vI k), some (vI (p + 1)), none, none, none] [] (v, T) 0 0)) →
    jW bX2_isRank (g, d, 0, 0, Q) 2 [some (vR 539), some (vI k), some (vI p), some (vI q), none, none] [] (v, T) 0 0 := by
  have hf := fac_bd hm.2
  have h34 := hO.1
  intro r
  induction r with
  | zero =>
    intro q hq hr hQ
    unfold rk2 at hQ
    refine jW_step ?_
    simp (disch := (first | decide | omega)) only [bX2_isRank, jxs, hps, jtsw, jlsw, List.length_cons, List.length_nil, true_and, and_true, true_implies, false_implies, implies_true, not_true_eq_false, not_false_eq_true, false_and, and_false, if_true, if_false, or_true, true_or, or_false, false_or, Classical.not_not, and_self, Int.reduceAdd, Int.reduceMul, Int.reduceSub, Int.reduceNeg, Int.reduceLT, Int.reduceLE, Int.reduceEq, Int.reduceNe, Int.reduceToNat, Nat.reduceAdd, Nat.reduceMul, Nat.reduceSub, Nat.reduceLeDiff, Nat.reduceLT, Nat.reduceEqDiff, reduceIte, Nat.zero_le, Nat.le_refl, Nat.add_zero, Nat.zero_add, twT hT, twV hV, h34]
    (repeat (refine And.intro (by (first | omega | assumption | trivial | (simp only [inI]; omega) | (simp only [inL]; omega) | (refine jb_01) | (exact jb_in))) ?_))
    (try refine ⟨fun _ => ?_, fun h9 => (by exfalso; omega)⟩)
    (repeat (refine And.intro (by (first | omega | assumption | trivial | (simp only [inI]; omega) | (simp only [inL]; omega) | (refine jb_01) | (exact jb_in))) ?_))
    exact jW_sub (by simp [jsub]) (hQ.2 (by omega))
  | succ r ih =>
    intro q hq hr hQ
    unfold rk2 at hQ
    have a := (dec_st hm hk ⟨hp.1, hp.2⟩).2.2.1
    have b := (dec_st hm hk (p := q) ⟨by omega, by omega⟩).2.2.1
    have ra := hR k p (by omega) (by omega) (by omega) (by omega)
    have rb := hR k q (by omega) (by omega) (by omega) (by omega)
    have ea := hO.2.1 _ a.1 a.2
    have eb := hO.2.1 _ b.1 b.2
    have c1 := hO.2.2 _ _ a.1 a.2 b.1 b.2
    have c2 := hO.2.2 _ _ b.1 b.2 a.1 a.2
    have bad : Q (.inl (some (vI 0))) (v, T) → ∀ l4 l5, jW bX2_isRank (g, d, 0, 0, Q) 3 [some (vR 539), some (vI k), some (vI p), some (vI q), some (vI l4), some (vI l5)] [] (v, T) 0 0 := by
      intro hq l4 l5
      refine jW_step ?_
      simp (disch := (first | decide | omega)) only [bX2_isRank, jxs, hps, jtsw, jlsw, List.length_cons, List.length_nil, true_and, and_true, true_implies, false_implies, implies_true, not_true_eq_false, not_false_eq_true, false_and, and_false, if_true, if_false, or_true, true_or, or_false, false_or, Classical.not_not, and_self, Int.reduceAdd, Int.reduceMul, Int.reduceSub, Int.reduceNeg, Int.reduceLT, Int.reduceLE, Int.reduceEq, Int.reduceNe, Int.reduceToNat, Nat.reduceAdd, Nat.reduceMul, Nat.reduceSub, Nat.reduceLeDiff, Nat.reduceLT, Nat.reduceEqDiff, reduceIte, Nat.zero_le, Nat.le_refl, Nat.add_zero, Nat.zero_add, twT hT, twV hV]
      (repeat (refine And.intro (by (first | omega | assumption | trivial | (simp only [inI]; omega) | (simp only [inL]; omega) | (refine jb_01) | (exact jb_in))) ?_))
      exact hq
    generalize dec m k p = x at *
    generalize dec m k q = y at *
    refine jW_step ?_
    simp (disch := (first | decide | omega)) only [bX2_isRank, jxs, hps, jtsw, jlsw, List.length_cons, List.length_nil, true_and, and_true, true_implies, false_implies, implies_true, not_true_eq_false, not_false_eq_true, false_and, and_false, if_true, if_false, or_true, true_or, or_false, false_or, Classical.not_not, and_self, Int.reduceAdd, Int.reduceMul, Int.reduceSub, Int.reduceNeg, Int.reduceLT, Int.reduceLE, Int.reduceEq, Int.reduceNe, Int.reduceToNat, Nat.reduceAdd, Nat.reduceMul, Nat.reduceSub, Nat.reduceLeDiff, Nat.reduceLT, Nat.reduceEqDiff, reduceIte, Nat.zero_le, Nat.le_refl, Nat.add_zero, Nat.zero_add, twT hT, twV hV, h34]
    (repeat (refine And.intro (by (first | omega | assumption | trivial | (simp only [inI]; omega) | (simp only [inL]; omega) | (refine jb_01) | (exact jb_in))) ?_))
    (first | refine ⟨fun h9 => (by exfalso; omega), fun _ => ?_⟩ | intro _)
    (repeat (refine And.intro (by (first | omega | assumption | trivial | (simp only [inI]; omega) | (simp only [inL]; omega) | (refine jb_01) | (exact jb_in))) ?_))
    rw [ra, rb]
    (repeat (refine And.intro (by (first | omega | assumption | trivial | (simp only [inI]; omega) | (simp only [inL]; omega) | (refine jb_01) | (exact jb_in))) ?_))
    rw [c1.1]
    refine ⟨fun h => ?_, fun h => ?_⟩
    · first | (rw [if_neg h] at hQ; exact bad (hQ.1 rfl) _ _) | skip
    · rw [if_pos (by omega)] at hQ
      (repeat (refine And.intro (by (first | omega | assumption | trivial | (simp only [inI]; omega) | (simp only [inL]; omega) | (refine jb_01) | (exact jb_in))) ?_))
      rw [c2.1]
      refine ⟨fun h2 => ?_, fun h2 => ?_⟩
      · rw [if_neg h2] at hQ
        (repeat (refine And.intro (by (first | omega | assumption | trivial | (simp only [inI]; omega) | (simp only [inL]; omega) | (refine jb_01) | (exact jb_in))) ?_))
        refine jW_sub (ls' := [some (vR 539), some (vI k), some (vI p), some (vI (q + 1)), none, none]) (by simp [jsub]) ?_
        exact ih (q + 1) (by omega) (by omega) hQ
      · rw [if_pos (by omega)] at hQ
        exact bad (hQ.1 rfl) _ _
theorem tw_isRank_1 {k m : Int} {v : Int → Int → Int} {c : Int → Int} (hT : PT T) (hV : PV v) (hO : OEL v m c) (hm : 0 ≤ m ∧ m ≤ 6) (hk : 0 ≤ k ∧ k < fac m) (hR : ORD (v 551) m (fac m) 0) : ∀ (r : Nat) (p : Int), 0 ≤ p → m = p + r →
    Q (.inl (some (vI (rk1 c (dec m k) m r p)))) (v, T) →
    jW bX2_isRank (g, d, 0, 0, Q) 1 [some (vR 539), some (vI k), some (vI p), none, none, none] [] (v, T) 0 0 := by
  have h34 := hO.1
  intro r
  induction r with
  | zero =>
    intro p hp hr hQ
    refine jW_step ?_
    simp (disch := (first | decide | omega)) only [bX2_isRank, jxs, hps, jtsw, jlsw, List.length_cons, List.length_nil, true_and, and_true, true_implies, false_implies, implies_true, not_true_eq_false, not_false_eq_true, false_and, and_false, if_true, if_false, or_true, true_or, or_false, false_or, Classical.not_not, and_self, Int.reduceAdd, Int.reduceMul, Int.reduceSub, Int.reduceNeg, Int.reduceLT, Int.reduceLE, Int.reduceEq, Int.reduceNe, Int.reduceToNat, Nat.reduceAdd, Nat.reduceMul, Nat.reduceSub, Nat.reduceLeDiff, Nat.reduceLT, Nat.reduceEqDiff, reduceIte, Nat.zero_le, Nat.le_refl, Nat.add_zero, Nat.zero_add, twT hT, twV hV, h34]
    (repeat (refine And.intro (by (first | omega | assumption | trivial | (simp only [inI]; omega) | (simp only [inL]; omega) | (refine jb_01) | (exact jb_in))) ?_))
    (try refine ⟨fun _ => ?_, fun h9 => (by exfalso; omega)⟩)
    (repeat (refine And.intro (by (first | omega | assumption | trivial | (simp only [inI]; omega) | (simp only [inL]; omega) | (refine jb_01) | (exact jb_in))) ?_))
    exact hQ
  | succ r ih =>
    intro p hp hr hQ
    unfold rk1 at hQ
    refine jW_step ?_
    simp (disch := (first | decide | omega)) only [bX2_isRank, jxs, hps, jtsw, jlsw, List.length_cons, List.length_nil, true_and, and_true, true_implies, false_implies, implies_true, not_true_eq_false, not_false_eq_true, false_and, and_false, if_true, if_false, or_true, true_or, or_false, false_or, Classical.not_not, and_self, Int.reduceAdd, Int.reduceMul, Int.reduceSub, Int.reduceNeg, Int.reduceLT, Int.reduceLE, Int.reduceEq, Int.reduceNe, Int.reduceToNat, Nat.reduceAdd, Nat.reduceMul, Nat.reduceSub, Nat.reduceLeDiff, Nat.reduceLT, Nat.reduceEqDiff, reduceIte, Nat.zero_le, Nat.le_refl, Nat.add_zero, Nat.zero_add, twT hT, twV hV, h34]
    (repeat (refine And.intro (by (first | omega | assumption | trivial | (simp only [inI]; omega) | (simp only [inL]; omega) | (refine jb_01) | (exact jb_in))) ?_))
    (first | refine ⟨fun h9 => (by exfalso; omega), fun _ => ?_⟩ | intro _)
    (repeat (refine And.intro (by (first | omega | assumption | trivial | (simp only [inI]; omega) | (simp only [inL]; omega) | (refine jb_01) | (exact jb_in))) ?_))
    refine tw_isRank_2 hT hV hO hm hk hR (by omega) (m - p - 1).toNat (p + 1) (by omega) (by omega) ⟨fun h => ?_, fun h => ?_⟩
    · rw [if_pos h] at hQ
      exact hQ
    · rw [if_neg h] at hQ
      exact ih (p + 1) (by omega) (by omega) hQ
theorem tw_isRank {k m : Int} {v : Int → Int → Int} {c : Int → Int} (hT : PT T) (hV : PV v) (hS : OEL v m c ∧ (0 ≤ m ∧ m ≤ 6) ∧ (0 ≤ k ∧ k < fac m) ∧ ORD (v 551) m (fac m) 0) (hQ : Q (.inl (some (vI (rkA c (dec m k) m)))) (v, T)) : jmet g (d + 1) 0 0 MX2_isRank [vR 539, vI k] (v, T) Q := by
  obtain ⟨hO, hm, hk, hR⟩ := hS
  have hf := fac_bd hm.2
  refine jmet_of (ls := [some (vR 539), some (vI k), none, none, none, none]) sX2_isRank rfl (by decide +kernel) (by decide) rfl (by simp [jent]) ?_
  refine jW_step ?_
  simp (disch := (first | decide | omega)) only [bX2_isRank, jxs, hps, jtsw, jlsw, List.length_cons, List.length_nil, true_and, and_true, true_implies, false_implies, implies_true, not_true_eq_false, not_false_eq_true, false_and, and_false, if_true, if_false, or_true, true_or, or_false, false_or, Classical.not_not, and_self, Int.reduceAdd, Int.reduceMul, Int.reduceSub, Int.reduceNeg, Int.reduceLT, Int.reduceLE, Int.reduceEq, Int.reduceNe, Int.reduceToNat, Nat.reduceAdd, Nat.reduceMul, Nat.reduceSub, Nat.reduceLeDiff, Nat.reduceLT, Nat.reduceEqDiff, reduceIte, Nat.zero_le, Nat.le_refl, Nat.add_zero, Nat.zero_add, twT hT, twV hV]
  exact tw_isRank_1 hT hV hO hm hk hR m.toNat 0 (by omega) (by omega) hQ
end TG
