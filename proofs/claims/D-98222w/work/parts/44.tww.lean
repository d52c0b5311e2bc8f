/-! ===== the reference: rows rest ===== -/
set_option maxRecDepth 100000
def tbl (A X : Int → Int) : Int → Int := fun i => cgA A X (i / 10) (i % 10)
/-- rows that agree as far as they go; tables that agree for N books -/
def EQm (m : Int) (f f' : Int → Int) : Prop := ∀ i, 0 ≤ i → i < m → f i = f' i
def TAG (N : Int) (c c' : Int → Int) : Prop := ∀ x y, 0 ≤ x → x < N → 0 ≤ y → y < N → c (10 * x + y) = c' (10 * x + y)
def RN (f : Int → Int) (m N : Int) : Prop := ∀ i, 0 ≤ i → i < m → 0 ≤ f i ∧ f i < N
theorem CH.tag {A X f : Int → Int} (h : CH A X f) (h0 : A 0 ≤ 10) : TAG (A 0) f (tbl A X) := by
  intro x y x0 x1 y0 y1
  rw [h x y x0 x1 y0 y1]
  unfold tbl
  rw [show (10 * x + y) / 10 = x by omega, show (10 * x + y) % 10 = y by omega]
theorem clmF_cg {N m : Int} {c c' f f' : Int → Int} (hc : TAG N c c') (hf : EQm m f f') (hr : RN f m N) : ∀ (n : Nat) (p : Int), 0 ≤ p → clmF c f m n p = clmF c' f' m n p
  | 0, _, _ => rfl
  | n + 1, p, hp => by
    unfold clmF
    by_cases h : m ≤ p + 1
    · rw [if_pos h, if_pos h]
    · rw [if_neg h, if_neg h, ← hf p hp (by omega), ← hf (p + 1) (by omega) (by omega)]
      have a := hr p hp (by omega)
      have b := hr (p + 1) (by omega) (by omega)
      rw [hc _ _ a.1 a.2 b.1 b.2, clmF_cg hc hf hr n (p + 1) (by omega)]
theorem swp_cg {m p : Int} {f f' : Int → Int} (hf : EQm m f f') (hp : 0 ≤ p ∧ p + 1 < m) : EQm m (swp f p) (swp f' p) := by
  intro i h0 h1
  unfold swp
  by_cases e : i = p + 1
  · subst e; rw [up1_eq, up1_eq]; exact hf p (by omega) (by omega)
  · rw [up1_ne e, up1_ne e]
    by_cases e2 : i = p
    · subst e2; rw [up1_eq, up1_eq]; exact hf (i + 1) (by omega) (by omega)
    · rw [up1_ne e2, up1_ne e2]; exact hf i h0 h1
theorem RN.sw {m p N : Int} {f : Int → Int} (h : RN f m N) (hp : 0 ≤ p ∧ p + 1 < m) : RN (swp f p) m N := by
  intro i h0 h1
  unfold swp
  by_cases e : i = p + 1
  · subst e; rw [up1_eq]; exact h p (by omega) (by omega)
  · rw [up1_ne e]
    by_cases e2 : i = p
    · subst e2; rw [up1_eq]; exact h (i + 1) (by omega) (by omega)
    · rw [up1_ne e2]; exact h i h0 h1
theorem nitL_cg {N m : Int} {c c' : Int → Int} (hc : TAG N c c') : ∀ (n : Nat) (p : Int) (f f' : Int → Int), EQm m f f' → RN f m N → 0 ≤ p → EQm m (nitL c m n p f) (nitL c' m n p f') ∧ RN (nitL c m n p f) m N
  | 0, _, f, f', hf, hr, _ => by unfold nitL; exact ⟨hf, hr⟩
  | n + 1, p, f, f', hf, hr, hp => by
    unfold nitL
    by_cases h : m ≤ p + 1
    · rw [if_pos h, if_pos h]; exact ⟨hf, hr⟩
    · rw [if_neg h, if_neg h]
      have a := hr p hp (by omega)
      have b := hr (p + 1) (by omega) (by omega)
      rw [← hf p hp (by omega), ← hf (p + 1) (by omega) (by omega), hc _ _ a.1 a.2 b.1 b.2]
      by_cases h2 : c' (10 * f p + f (p + 1)) = 0
      · rw [if_pos h2, if_pos h2]; exact nitL_cg hc n (p + 2) f f' hf hr (by omega)
      · rw [if_neg h2, if_neg h2]; exact nitL_cg hc n (p + 2) _ _ (swp_cg hf ⟨hp, by omega⟩) (hr.sw ⟨hp, by omega⟩) (by omega)
theorem nitR_cg {N m kind : Int} {c c' f f' : Int → Int} (hk : 0 ≤ kind) (hc : TAG N c c') (hf : EQm m f f') (hr : RN f m N) : EQm m (nitR c m kind f) (nitR c' m kind f') ∧ RN (nitR c m kind f) m N := nitL_cg hc 6 kind f f' hf hr hk
theorem rstL_cg {N m ni : Int} {c c' : Int → Int} (hc : TAG N c c') : ∀ (n : Nat) (k : Int) (f f' : Int → Int), EQm m f f' → RN f m N →
    EQm m (rstL c m ni n k f).1 (rstL c' m ni n k f').1 ∧ (rstL c m ni n k f).2 = (rstL c' m ni n k f').2 ∧ RN (rstL c m ni n k f).1 m N
  | 0, _, f, f', hf, hr => by unfold rstL; exact ⟨hf, rfl, hr⟩
  | n + 1, k, f, f', hf, hr => by
    unfold rstL clmR
    rw [clmF_cg hc hf hr 10 0 (by omega)]
    by_cases h : clmF c' f' m 10 0 = 0
    · rw [if_pos h, if_pos h]
      have q := nitR_cg (kind := (ni + k) % 2) (by omega) hc hf hr
      exact rstL_cg hc n (k + 1) _ _ q.1 q.2
    · rw [if_neg h, if_neg h]; exact ⟨hf, rfl, hr⟩
theorem lrF_cg {A : Int → Int} {s wo N : Int} (hB : TB A) (hS : SH A) (hs : 0 ≤ s ∧ s < 3) (hN : N = A 0) : ∀ (n : Nat) (p m : Int) (f f' : Int → Int), 0 ≤ p → p + n = A (13 + s) → 0 ≤ m ∧ m ≤ p → EQm m f f' → RN f m N →
    (lrF A s wo n p m f).2 = (lrF A s wo n p m f').2 ∧ EQm (lrF A s wo n p m f).2 (lrF A s wo n p m f).1 (lrF A s wo n p m f').1 ∧ RN (lrF A s wo n p m f).1 (lrF A s wo n p m f).2 N ∧ (0 ≤ (lrF A s wo n p m f).2 ∧ (lrF A s wo n p m f).2 ≤ p + n)
  | 0, p, m, f, f', hp, hn, hm, hf, hr => by unfold lrF; exact ⟨rfl, hf, hr, hm.1, by dsimp only; omega⟩
  | n + 1, p, m, f, f', hp, hn, hm, hf, hr => by
    have h10 := hB.2.2.2.2.2.1 (13 + s) (by omega) (by omega)
    have a := hS.1 s p hs.1 hs.2 hp (by omega)
    have b := (hB.2.2.2.2.2.2 (16 + 10 * s + p) (by omega) (by omega)).1
    unfold lrF
    by_cases h : A (16 + 10 * s + p) = wo
    · rw [if_pos h, if_pos h]
      have r := lrF_cg hB hS hs hN n (p + 1) m f f' (by omega) (by omega) (by omega) hf hr (wo := wo)
      exact ⟨r.1, r.2.1, r.2.2.1, r.2.2.2.1, by omega⟩
    · rw [if_neg h, if_neg h]
      have r := lrF_cg hB hS hs hN n (p + 1) (m + 1) (up1 f m (A (16 + 10 * s + p))) (up1 f' m (A (16 + 10 * s + p))) (by omega) (by omega) (by omega) (fun i h0 h1 => ?_) (fun i h0 h1 => ?_) (wo := wo)
      · exact ⟨r.1, r.2.1, r.2.2.1, r.2.2.2.1, by omega⟩
      · by_cases e : i = m
        · subst e; rw [up1_eq, up1_eq]
        · rw [up1_ne e, up1_ne e]; exact hf i h0 (by omega)
      · by_cases e : i = m
        · subst e; rw [up1_eq]; exact ⟨b, by omega⟩
        · rw [up1_ne e]; exact hr i h0 (by omega)
/-- a shelf's row (without a book), how many -/
def lrZ (A : Int → Int) (s wo : Int) : (Int → Int) × Int := lrA A s wo (fun _ => 0)
/-- a row is laid out: the table, the row -/
def jkw (v : Int → Int → Int) (f : Int → Int) (m : Int) (w : Int → Int → Int) : Prop := EQm m (w 549) f ∧ RN (w 549) m (v 540 0) ∧ (0 ≤ m ∧ m ≤ 10) ∧ w 539 = up1 (v 539) 28 m ∧ CH (v 540) (v 542) (w 548) ∧ ∀ a, a ≠ 539 → a ≠ 545 → a ≠ 546 → a ≠ 547 → a ≠ 548 → a ≠ 549 → w a = v a
theorem jkw.pv {v w : Int → Int → Int} {f : Int → Int} {m : Int} (h : jkw v f m w) (hV : PV v) : PV w := by
  intro q hq
  by_cases e : q.1 = 539
  · rw [e, h.2.2.2.1]
    exact (PV.r hV).up (by decide) q hq e
  · have := pvL_A q hq
    rw [h.2.2.2.2.2 q.1 e (fun e2 => by rw [e2] at this; revert this; decide) (fun e2 => by rw [e2] at this; revert this; decide) (fun e2 => by rw [e2] at this; revert this; decide) (fun e2 => by rw [e2] at this; revert this; decide) (fun e2 => by rw [e2] at this; revert this; decide)]
    exact hV q hq
section TG
variable {g : jjG} {d : Nat} {T : jjT} {Q : jjQ}
theorem tw_layRow2 {v : Int → Int → Int} {s wo : Int} (hT : PT T) (hV : PV v) (hS : TE v ∧ SH (v 540) ∧ (0 ≤ s ∧ s < 3)) (hQ : ∀ w, jkw v (lrZ (v 540) s wo).1 (lrZ (v 540) s wo).2 w → Q (.inl none) (w, T)) : jmet g (d + 8) 0 0 MX2_layRow [vR 539, vI s, vI wo] (v, T) Q := by
  obtain ⟨hE, hH, hs⟩ := hS
  have hm := hE.1.2.2.2.2.2.1 (13 + s) (by omega) (by omega)
  refine tw_layRow hT hV ⟨hE, hs⟩ ?_
  intro w w2 hw hc hr
  have q := lrF_cg (wo := wo) hE.1 hH hs rfl (v 540 (13 + s)).toNat 0 0 (v 549) (fun _ => 0) (by omega) (by omega) (by omega) (fun i h0 h1 => by omega) (fun i h0 h1 => by omega)
  refine hQ w2 ⟨?_, ?_, ?_, ?_, ?_, ?_⟩
  · rw [hr.1]
    unfold lrZ
    have e : (lrA (v 540) s wo (fun _ => 0)).2 = (lrA (v 540) s wo (v 549)).2 := q.1.symm
    rw [e]
    exact q.2.1
  · rw [hr.1]
    have e : (lrZ (v 540) s wo).2 = (lrA (v 540) s wo (v 549)).2 := q.1.symm
    rw [e]
    exact q.2.2.1
  · have e : (lrZ (v 540) s wo).2 = (lrA (v 540) s wo (v 549)).2 := q.1.symm
    rw [e]
    have := q.2.2.2
    unfold lrA
    omega
  · rw [hr.2.1, hw 539 (by omega) (by omega) (by omega) (by omega)]
    have e : (lrZ (v 540) s wo).2 = (lrA (v 540) s wo (v 549)).2 := q.1.symm
    rw [e]
  · rw [hr.2.2 548 (by omega) (by omega)]
    exact hc
  · intro a a1 a2 a3 a4 a5 a6
    exact (hr.2.2 a a1 a6).trans (hw a a2 a3 a4 a5)
/-- where a shelf comes to (without a book), by nights -/
def rsA (A X : Int → Int) (s wo : Int) : (Int → Int) × Int := rstR (tbl A X) (lrZ A s wo).2 (A 1) (lrZ A s wo).1
def restA (A X : Int → Int) (s : Int) : Int := if 0 ≤ s ∧ s ≤ 2 then (rsA A X s (-1)).2 else -1
theorem tw_rest {v : Int → Int → Int} {s : Int} (hT : PT T) (hV : PV v) (hS : TE v ∧ SH (v 540) ∧ (0 ≤ v 540 1 ∧ v 540 1 < 100000)) (hQ : (∀ w, w = v ∨ jkw v (rsA (v 540) (v 542) s (-1)).1 (lrZ (v 540) s (-1)).2 w → Q (.inl (some (vI (restA (v 540) (v 542) s)))) (w, T))) : jmet g (d + 9) 0 0 MX2_rest [vR 539, vI s] (v, T) Q := by
  obtain ⟨hE, hH, h1⟩ := hS
  have h0 := hE.1.1
  refine jmet_of (ls := [some (vR 539), some (vI s)]) sX2_rest rfl (by decide +kernel) (by decide) rfl (by simp [jent]) ?_
  unfold restA at hQ
  refine jW_step ?_
  simp (disch := (first | decide | omega)) only [bX2_rest, jxs, hps, jtsw, jlsw, List.length_cons, List.length_nil, true_and, and_true, true_implies, false_implies, implies_true, not_true_eq_false, not_false_eq_true, false_and, and_false, if_true, if_false, or_true, true_or, or_false, false_or, Classical.not_not, and_self, Int.reduceAdd, Int.reduceMul, Int.reduceSub, Int.reduceNeg, Int.reduceLT, Int.reduceLE, Int.reduceEq, Int.reduceNe, Int.reduceToNat, Nat.reduceAdd, Nat.reduceMul, Nat.reduceSub, Nat.reduceLeDiff, Nat.reduceLT, Nat.reduceEqDiff, reduceIte, Nat.zero_le, Nat.le_refl, Nat.add_zero, Nat.zero_add, twT hT, twV hV]
  (repeat (refine And.intro (by (first | omega | assumption | trivial | (simp only [inI]; omega) | (simp only [inL]; omega) | (refine jb_01) | (exact jb_in))) ?_))
  refine ⟨0, 0, ⟨by omega, by omega⟩, tw_isShelf hT (by (first | assumption | (repeat (first | assumption | refine PV.A ?_ (by decide) | refine PV.F ?_ ?_ | refine twR.up ?_ (by decide) | refine PV.r ?_)))) (by (first | omega | assumption | trivial | (simp only [inI]; omega) | (simp only [inL]; omega) | (refine jb_01) | (exact jb_in))) ?_⟩
  simp (disch := (first | decide | omega)) only [jxs, hps, jtsw, jlsw, List.length_cons, List.length_nil, true_and, and_true, true_implies, false_implies, implies_true, not_true_eq_false, not_false_eq_true, false_and, and_false, if_true, if_false, or_true, true_or, or_false, false_or, Classical.not_not, and_self, Int.reduceAdd, Int.reduceMul, Int.reduceSub, Int.reduceNeg, Int.reduceLT, Int.reduceLE, Int.reduceEq, Int.reduceNe, Int.reduceToNat, Nat.reduceAdd, Nat.reduceMul, Nat.reduceSub, Nat.reduceLeDiff, Nat.reduceLT, Nat.reduceEqDiff, reduceIte, Nat.zero_le, Nat.le_refl, Nat.add_zero, Nat.zero_add, twT hT, twV hV]
  refine ⟨fun h => ?_, fun h => ?_⟩
  · rw [if_pos h] at hQ
    (repeat (refine And.intro (by (first | omega | assumption | trivial | (simp only [inI]; omega) | (simp only [inL]; omega) | (refine jb_01) | (exact jb_in))) ?_))
    refine ⟨0, 0, ⟨by omega, by omega⟩, tw_layRow2 hT hV ⟨hE, hH, by omega⟩ ?_⟩
    intro w hw
    have hVw := hw.pv hV
    have e28 : w 539 28 = (lrZ (v 540) s (-1)).2 := by rw [hw.2.2.2.1, up1_eq]
    have e40 : w 540 = v 540 := hw.2.2.2.2.2 540 (by omega) (by omega) (by omega) (by omega) (by omega) (by omega)
    have cg := rstL_cg (ni := v 540 1) (hw.2.2.2.2.1.tag h0.2) 501 0 (w 549) (lrZ (v 540) s (-1)).1 hw.1 hw.2.1
    have hV := hVw
    simp (disch := (first | decide | omega)) only [jxs, hps, jtsw, jlsw, List.length_cons, List.length_nil, true_and, and_true, true_implies, false_implies, implies_true, not_true_eq_false, not_false_eq_true, false_and, and_false, if_true, if_false, or_true, true_or, or_false, false_or, Classical.not_not, and_self, Int.reduceAdd, Int.reduceMul, Int.reduceSub, Int.reduceNeg, Int.reduceLT, Int.reduceLE, Int.reduceEq, Int.reduceNe, Int.reduceToNat, Nat.reduceAdd, Nat.reduceMul, Nat.reduceSub, Nat.reduceLeDiff, Nat.reduceLT, Nat.reduceEqDiff, reduceIte, Nat.zero_le, Nat.le_refl, Nat.add_zero, Nat.zero_add, twT hT, twV hV]
    (repeat (refine And.intro (by (first | omega | assumption | trivial | (simp only [inI]; omega) | (simp only [inL]; omega) | (refine jb_01) | (exact jb_in))) ?_))
    refine ⟨0, 0, ⟨by omega, by omega⟩, tw_goToRest hT hV ⟨⟨by rw [e28]; exact hw.2.2.1, fun i i0 i1 => by rw [e28] at i1; have := hw.2.1 i i0 i1; omega⟩, by rw [e40]; exact h1⟩ ?_⟩
    rw [e28, e40]
    simp (disch := (first | decide | omega)) only [jxs, hps, jtsw, jlsw, List.length_cons, List.length_nil, true_and, and_true, true_implies, false_implies, implies_true, not_true_eq_false, not_false_eq_true, false_and, and_false, if_true, if_false, or_true, true_or, or_false, false_or, Classical.not_not, and_self, Int.reduceAdd, Int.reduceMul, Int.reduceSub, Int.reduceNeg, Int.reduceLT, Int.reduceLE, Int.reduceEq, Int.reduceNe, Int.reduceToNat, Nat.reduceAdd, Nat.reduceMul, Nat.reduceSub, Nat.reduceLeDiff, Nat.reduceLT, Nat.reduceEqDiff, reduceIte, Nat.zero_le, Nat.le_refl, Nat.add_zero, Nat.zero_add, twT hT, twV hV]
    (repeat (refine And.intro (by (first | omega | assumption | trivial | (simp only [inI]; omega) | (simp only [inL]; omega) | (refine jb_01) | (exact jb_in))) ?_))
    have e2 : (rstR (w 548) (lrZ (v 540) s (-1)).2 (v 540 1) (w 549)).2 = (rsA (v 540) (v 542) s (-1)).2 := cg.2.1
    rw [e2]
    refine hQ _ (Or.inr ⟨?_, ?_, hw.2.2.1, ?_, ?_, ?_⟩)
    · rw [upA_eq]; exact cg.1
    · rw [upA_eq]; exact cg.2.2
    · rw [upA_ne (by omega)]; exact hw.2.2.2.1
    · rw [upA_ne (by omega)]; exact hw.2.2.2.2.1
    · intro a a1 a2 a3 a4 a5 a6
      rw [upA_ne a6]
      exact hw.2.2.2.2.2 a a1 a2 a3 a4 a5 a6
  · rw [if_neg h] at hQ
    (repeat (refine And.intro (by (first | omega | assumption | trivial | (simp only [inI]; omega) | (simp only [inL]; omega) | (refine jb_01) | (exact jb_in))) ?_))
    exact hQ v (Or.inl rfl)
end TG
