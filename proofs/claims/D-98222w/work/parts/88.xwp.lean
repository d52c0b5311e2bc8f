/-! ===== the class: the fall ===== -/
-- MODE X
set_option maxRecDepth 100000
/-- the row and names alone differ -/
def jkR (v w : Int → Int → Int) : Prop := ∀ a, a ≠ 404 → a ≠ 522 → w a = v a
theorem jkR.pv {v w : Int → Int → Int} (h : jkR v w) (hV : PV v) : PV w := hV.fr (fun a ha => h a (fun e => by subst e; revert ha; decide) (fun e => by subst e; revert ha; decide))
theorem jkR.tr {u v w : Int → Int → Int} (h : jkR u v) (h2 : jkR v w) : jkR u w := fun a ha hb => (h2 a ha hb).trans (h a ha hb)
theorem jkR.rf {v : Int → Int → Int} : jkR v v := fun _ _ _ => rfl
theorem jkq.r {v w : Int → Int → Int} (h : jkq v w) : jkR v w := fun a _ hb => h.1 a hb
theorem jkR.up {v : Int → Int → Int} {f : Int → Int} : jkR v (upA v 404 f) := fun a ha _ => upA_ne ha
theorem CI.pull {T : jjT} {A X : Int → Int} {v : Int → Int → Int} {s p to : Int} (h : CI (v, T) A X) (hs : 0 ≤ s ∧ s < 3) (hp : 0 ≤ p ∧ p < A (13 + s)) (hb : A (16 + 10 * s + p) < A 0) (ht : 0 ≤ to ∧ to ≤ 9) : CI (upA v 404 (up1 (rmF (v 404) s p (A (13 + s))) (33 + A (16 + 10 * s + p)) to), T) (pullA A s p to) X := by
  have hB := h.tb
  have hm := hB.2.2.2.2.2.1 (13 + s) (by omega) (by omega)
  have b0 := hB.2.2.2.2.2.2 (16 + 10 * s + p) (by omega) (by omega)
  exact h.row (RW_rm hB h.r hs hp hb) (FR.pull hB hs hp) (fun b w b1 b2 w1 w2 => pullA_o hs hp hm.2 b1 ⟨w1, w2⟩) (hB.pull hs hp ht)
theorem CI.set {T : jjT} {A X : Int → Int} {v : Int → Int → Int} {s p b : Int} (h : CI (v, T) A X) (hs : 0 ≤ s ∧ s < 3) (hp : 0 ≤ p ∧ p ≤ A (13 + s)) (hm : A (13 + s) < 10) (hb : 0 ≤ b ∧ b < A 0) : CI (upA v 404 (inF2 (v 404) s p b (A (13 + s))), T) (setA A b s p) X := by
  have hB := h.tb
  have h0 := hB.1
  refine h.row (RW_in hB h.r hs hp hm hb) ?_ (fun c w c1 c2 w1 w2 => setA_o hs hp hm hb.1 c1 ⟨w1, w2⟩) (hB.set hs hp hm (by omega))
  intro i hi
  unfold setA shr
  have hM := hB.2.2.2.2.2.1 (13 + s) (by omega) (by omega)
  rw [up1_ne (by omega), up1_ne (by omega), up1_ne (by omega), if_neg (by omega)]
theorem ffW_m {X : Int → Int} {s : Int} (hs : 0 ≤ s ∧ s < 3) : ∀ (n : Nat) (gn : Int) (A : Int → Int), TB A → A (13 + s) = n → (ffW X s n gn A).1 (13 + s) = A (13 + s) - ((ffW X s n gn A).2 - gn)
  | 0, gn, A, hB, h => by unfold ffW; dsimp only; omega
  | n + 1, gn, A, hB, h => by
    unfold ffW
    split
    · dsimp only; omega
    · have hp : 0 ≤ A (13 + s) - 1 ∧ A (13 + s) - 1 < A (13 + s) := by omega
      have pm := pullA_m hB (to := 4) hs hp
      have r := ffW_m (X := X) hs n (gn + 1) (pullA A s (A (13 + s) - 1) 4) (hB.pull hs hp (by omega)) (by rw [pm]; omega)
      rw [r, pm]
      omega
theorem clA_6 {A A' X : Int → Int} {so la : Int} (h : A' 6 = A 6) : clA A' X so la = clA A X so la := by unfold clA; rw [h]
section XG
variable {g : jjG} {d : Nat} {T : jjT} {Q : jjQ} {X : Int → Int}
theorem xw_drops {A : Int → Int} {s p : Int} {v : Int → Int → Int} (hT : PT T) (hV : PV v) (hC : CI (v, T) A X) (hH : SH A) (hs : 0 ≤ s ∧ s < 3) (hp : 0 ≤ p ∧ p < A (13 + s)) (hQ : ∀ w, CI (w, T) (pullA A s p 4) X → SH (pullA A s p 4) → jkR v w → Q (.inl none) (w, T)) : jmet g (d + 3) 0 0 MX0_drops [vR 400, vI s, vI p] (v, T) Q := by
  have hB := hC.tb
  have h0 := hB.1
  have hm := hB.2.2.2.2.2.1 (13 + s) (by omega) (by omega)
  have b0 := hB.2.2.2.2.2.2 (16 + 10 * s + p) (by omega) (by omega)
  have hb := (hH.1 s p hs.1 hs.2 hp.1 hp.2).1
  have ci := hC.pull hs hp hb (to := 4) (by omega)
  have e := hC.m hs
  refine jmet_of (ls := [some (vR 400), some (vI s), some (vI p)]) sX0_drops rfl (by decide +kernel) (by decide) rfl (by simp [jent]) ?_
  refine jW_step ?_
  simp (disch := (first | decide | omega)) only [bX0_drops, jxs, hps, jtsw, jlsw, List.length_cons, List.length_nil, true_and, and_true, true_implies, false_implies, implies_true, not_true_eq_false, not_false_eq_true, false_and, and_false, if_true, if_false, or_true, true_or, or_false, false_or, Classical.not_not, and_self, Int.reduceAdd, Int.reduceMul, Int.reduceSub, Int.reduceNeg, Int.reduceLT, Int.reduceLE, Int.reduceEq, Int.reduceNe, Int.reduceToNat, Nat.reduceAdd, Nat.reduceMul, Nat.reduceSub, Nat.reduceLeDiff, Nat.reduceLT, Nat.reduceEqDiff, reduceIte, Nat.zero_le, Nat.le_refl, Nat.add_zero, Nat.zero_add, xwT hT, xwV hV]
  refine ⟨0, 0, ⟨by omega, by omega⟩, xw_bookAt hT hV hC hs hp ?_⟩
  simp (disch := (first | decide | omega)) only [jxs, hps, jtsw, jlsw, List.length_cons, List.length_nil, true_and, and_true, true_implies, false_implies, implies_true, not_true_eq_false, not_false_eq_true, false_and, and_false, if_true, if_false, or_true, true_or, or_false, false_or, Classical.not_not, and_self, Int.reduceAdd, Int.reduceMul, Int.reduceSub, Int.reduceNeg, Int.reduceLT, Int.reduceLE, Int.reduceEq, Int.reduceNe, Int.reduceToNat, Nat.reduceAdd, Nat.reduceMul, Nat.reduceSub, Nat.reduceLeDiff, Nat.reduceLT, Nat.reduceEqDiff, reduceIte, Nat.zero_le, Nat.le_refl, Nat.add_zero, Nat.zero_add, xwT hT, xwV hV]
  (repeat (refine And.intro (by (first | omega | assumption | trivial | (simp only [inI]; omega) | (simp only [inL]; omega) | (refine jb_01) | (exact jb_in))) ?_))
  have u404 : (upA v 404 (up1 (v 404) (33 + A (16 + 10 * s + p)) 4)) 404 = up1 (v 404) (33 + A (16 + 10 * s + p)) 4 := upA_eq
  have hVu : PV (upA v 404 (up1 (v 404) (33 + A (16 + 10 * s + p)) 4)) := by (first | assumption | (repeat (first | assumption | refine PV.A ?_ (by decide) | refine PV.F ?_ ?_ | refine twR.up ?_ (by decide) | refine PV.r ?_)))
  have um : (upA v 404 (up1 (v 404) (33 + A (16 + 10 * s + p)) 4)) 404 (11 * s) = A (13 + s) := by rw [u404, up1_ne (by omega)]; exact e
  refine ⟨0, 0, ⟨by omega, by omega⟩, xw_removes hT hVu (by rw [um]; exact hm) hs (by rw [um]; exact hp) ?_⟩
  rw [um, u404, upA_same, rmF_up hs hp.1 hm.2 b0.1]
  simp (disch := (first | decide | omega)) only [jxs, hps, jtsw, jlsw, List.length_cons, List.length_nil, true_and, and_true, true_implies, false_implies, implies_true, not_true_eq_false, not_false_eq_true, false_and, and_false, if_true, if_false, or_true, true_or, or_false, false_or, Classical.not_not, and_self, Int.reduceAdd, Int.reduceMul, Int.reduceSub, Int.reduceNeg, Int.reduceLT, Int.reduceLE, Int.reduceEq, Int.reduceNe, Int.reduceToNat, Nat.reduceAdd, Nat.reduceMul, Nat.reduceSub, Nat.reduceLeDiff, Nat.reduceLT, Nat.reduceEqDiff, reduceIte, Nat.zero_le, Nat.le_refl, Nat.add_zero, Nat.zero_add, xwT hT, xwV hV]
  (repeat (refine And.intro (by (first | omega | assumption | trivial | (simp only [inI]; omega) | (simp only [inL]; omega) | (refine jb_01) | (exact jb_in))) ?_))
  exact hQ _ ci (hH.pull hB hs hp (by omega)) jkR.up
theorem xw_fall_2 {s m fl c : Int} (hT : PT T) (hs : 0 ≤ s ∧ s < 3) (hm : 0 ≤ m ∧ m ≤ 10) : ∀ (n : Nat) (p gn : Int) (A : Int → Int) (v : Int → Int → Int), PV v → CI (v, T) A X → SH A → clA A X 1 0 = c → A (13 + s) = m - gn → (0 ≤ gn ∧ gn ≤ p) → p + n = m →
    (∀ w, CI (w, T) (if c < 0 then A else (ffL X c s m n p gn A).1) X → SH (if c < 0 then A else (ffL X c s m n p gn A).1) → jkR v w → jW bX0_fall (g, d + 113, 0, 0, Q) 4 [some (vR 400), some (vI fl), some (vI s), some (vI m), none, none] [] (w, T) 0 0) →
    jW bX0_fall (g, d + 113, 0, 0, Q) 2 [some (vR 400), some (vI fl), some (vI s), some (vI m), some (vI p), some (vI (p - gn))] [] (v, T) 0 0 := by
  intro n
  induction n with
  | zero =>
    intro p gn A v hV hC hH hc hA hg hn hQ
    have e : (if c < 0 then A else (ffL X c s m 0 p gn A).1) = A := by unfold ffL; split <;> rfl
    rw [e] at hQ
    refine jW_step ?_
    simp (disch := (first | decide | omega)) only [bX0_fall, jxs, hps, jtsw, jlsw, List.length_cons, List.length_nil, true_and, and_true, true_implies, false_implies, implies_true, not_true_eq_false, not_false_eq_true, false_and, and_false, if_true, if_false, or_true, true_or, or_false, false_or, Classical.not_not, and_self, Int.reduceAdd, Int.reduceMul, Int.reduceSub, Int.reduceNeg, Int.reduceLT, Int.reduceLE, Int.reduceEq, Int.reduceNe, Int.reduceToNat, Nat.reduceAdd, Nat.reduceMul, Nat.reduceSub, Nat.reduceLeDiff, Nat.reduceLT, Nat.reduceEqDiff, reduceIte, Nat.zero_le, Nat.le_refl, Nat.add_zero, Nat.zero_add, xwT hT, xwV hV]
    (try refine ⟨fun _ => ?_, fun h9 => (by exfalso; omega)⟩)
    exact jW_sub (by simp [jsub]) (hQ v hC hH jkR.rf)
  | succ n ih =>
    intro p gn A v hV hC hH hc hA hg hn hQ
    have hB := hC.tb
    have h0 := hB.1
    have hp : 0 ≤ p - gn ∧ p - gn < A (13 + s) := by omega
    have hb := (hH.1 s (p - gn) hs.1 hs.2 hp.1 hp.2).1
    have b0 := hB.2.2.2.2.2.2 (16 + 10 * s + (p - gn)) (by omega) (by omega)
    unfold ffL at hQ
    refine jW_step ?_
    simp (disch := (first | decide | omega)) only [bX0_fall, jxs, hps, jtsw, jlsw, List.length_cons, List.length_nil, true_and, and_true, true_implies, false_implies, implies_true, not_true_eq_false, not_false_eq_true, false_and, and_false, if_true, if_false, or_true, true_or, or_false, false_or, Classical.not_not, and_self, Int.reduceAdd, Int.reduceMul, Int.reduceSub, Int.reduceNeg, Int.reduceLT, Int.reduceLE, Int.reduceEq, Int.reduceNe, Int.reduceToNat, Nat.reduceAdd, Nat.reduceMul, Nat.reduceSub, Nat.reduceLeDiff, Nat.reduceLT, Nat.reduceEqDiff, reduceIte, Nat.zero_le, Nat.le_refl, Nat.add_zero, Nat.zero_add, xwT hT, xwV hV]
    (first | refine ⟨fun h9 => (by exfalso; omega), fun _ => ?_⟩ | intro _)
    refine ⟨0, 0, ⟨by omega, by omega⟩, xw_bookAt hT hV hC hs hp ?_⟩
    simp (disch := (first | decide | omega)) only [jxs, hps, jtsw, jlsw, List.length_cons, List.length_nil, true_and, and_true, true_implies, false_implies, implies_true, not_true_eq_false, not_false_eq_true, false_and, and_false, if_true, if_false, or_true, true_or, or_false, false_or, Classical.not_not, and_self, Int.reduceAdd, Int.reduceMul, Int.reduceSub, Int.reduceNeg, Int.reduceLT, Int.reduceLE, Int.reduceEq, Int.reduceNe, Int.reduceToNat, Nat.reduceAdd, Nat.reduceMul, Nat.reduceSub, Nat.reduceLeDiff, Nat.reduceLT, Nat.reduceEqDiff, reduceIte, Nat.zero_le, Nat.le_refl, Nat.add_zero, Nat.zero_add, xwT hT, xwV hV]
    refine ⟨0, 0, ⟨by omega, by omega⟩, xw_falls hT hV hC ⟨b0.1, hb⟩ (by omega) (by omega) (by omega) ?_⟩
    rw [hc]
    intro w hw
    have hVw := hw.pv hV
    have hCw := hw.ci hC
    have stay : (∀ y, CI (y, T) (if c < 0 then A else (ffL X c s m n (p + 1) gn A).1) X → SH (if c < 0 then A else (ffL X c s m n (p + 1) gn A).1) → jkR v y → jW bX0_fall (g, d + 113, 0, 0, Q) 4 [some (vR 400), some (vI fl), some (vI s), some (vI m), none, none] [] (y, T) 0 0) → jW bX0_fall (g, d + 113, 0, 0, Q) 3 [some (vR 400), some (vI fl), some (vI s), some (vI m), some (vI p), some (vI (p - gn + 1))] [] (w, T) 0 0 := by
      intro hq
      have hV := hVw
      refine jW_step ?_
      simp (disch := (first | decide | omega)) only [bX0_fall, jxs, hps, jtsw, jlsw, List.length_cons, List.length_nil, true_and, and_true, true_implies, false_implies, implies_true, not_true_eq_false, not_false_eq_true, false_and, and_false, if_true, if_false, or_true, true_or, or_false, false_or, Classical.not_not, and_self, Int.reduceAdd, Int.reduceMul, Int.reduceSub, Int.reduceNeg, Int.reduceLT, Int.reduceLE, Int.reduceEq, Int.reduceNe, Int.reduceToNat, Nat.reduceAdd, Nat.reduceMul, Nat.reduceSub, Nat.reduceLeDiff, Nat.reduceLT, Nat.reduceEqDiff, reduceIte, Nat.zero_le, Nat.le_refl, Nat.add_zero, Nat.zero_add, xwT hT, xwV hV]
      (repeat (refine And.intro (by (first | omega | assumption | trivial | (simp only [inI]; omega) | (simp only [inL]; omega) | (refine jb_01) | (exact jb_in))) ?_))
      rw [show p - gn + 1 = p + 1 - gn by omega]
      exact ih (p + 1) gn A w hVw hCw hH hc hA (by omega) (by omega) (fun y y1 y2 y3 => hq y y1 y2 (hw.r.tr y3))
    by_cases h : c < 0
    · rw [if_pos h]
      rw [if_pos h] at hQ
      have hV := hVw
      simp (disch := (first | decide | omega)) only [jxs, hps, jtsw, jlsw, List.length_cons, List.length_nil, true_and, and_true, true_implies, false_implies, implies_true, not_true_eq_false, not_false_eq_true, false_and, and_false, if_true, if_false, or_true, true_or, or_false, false_or, Classical.not_not, and_self, Int.reduceAdd, Int.reduceMul, Int.reduceSub, Int.reduceNeg, Int.reduceLT, Int.reduceLE, Int.reduceEq, Int.reduceNe, Int.reduceToNat, Nat.reduceAdd, Nat.reduceMul, Nat.reduceSub, Nat.reduceLeDiff, Nat.reduceLT, Nat.reduceEqDiff, reduceIte, Nat.zero_le, Nat.le_refl, Nat.add_zero, Nat.zero_add, xwT hT, xwV hV]
      (repeat (refine And.intro (by (first | omega | assumption | trivial | (simp only [inI]; omega) | (simp only [inL]; omega) | (refine jb_01) | (exact jb_in))) ?_))
      refine stay ?_
      rw [if_pos h]
      exact hQ
    · rw [if_neg h]
      rw [if_neg h] at hQ
      have hV := hVw
      by_cases h2 : flA A X c s p m (A (16 + 10 * s + (p - gn))) = 0
      · rw [if_pos h2] at hQ
        rw [h2]
        simp (disch := (first | decide | omega)) only [jxs, hps, jtsw, jlsw, List.length_cons, List.length_nil, true_and, and_true, true_implies, false_implies, implies_true, not_true_eq_false, not_false_eq_true, false_and, and_false, if_true, if_false, or_true, true_or, or_false, false_or, Classical.not_not, and_self, Int.reduceAdd, Int.reduceMul, Int.reduceSub, Int.reduceNeg, Int.reduceLT, Int.reduceLE, Int.reduceEq, Int.reduceNe, Int.reduceToNat, Nat.reduceAdd, Nat.reduceMul, Nat.reduceSub, Nat.reduceLeDiff, Nat.reduceLT, Nat.reduceEqDiff, reduceIte, Nat.zero_le, Nat.le_refl, Nat.add_zero, Nat.zero_add, xwT hT, xwV hV]
        (repeat (refine And.intro (by (first | omega | assumption | trivial | (simp only [inI]; omega) | (simp only [inL]; omega) | (refine jb_01) | (exact jb_in))) ?_))
        refine stay ?_
        rw [if_neg h]
        exact hQ
      · rw [if_neg h2] at hQ
        simp (disch := (first | decide | omega)) only [jxs, hps, jtsw, jlsw, List.length_cons, List.length_nil, true_and, and_true, true_implies, false_implies, implies_true, not_true_eq_false, not_false_eq_true, false_and, and_false, if_true, if_false, or_true, true_or, or_false, false_or, Classical.not_not, and_self, Int.reduceAdd, Int.reduceMul, Int.reduceSub, Int.reduceNeg, Int.reduceLT, Int.reduceLE, Int.reduceEq, Int.reduceNe, Int.reduceToNat, Nat.reduceAdd, Nat.reduceMul, Nat.reduceSub, Nat.reduceLeDiff, Nat.reduceLT, Nat.reduceEqDiff, reduceIte, Nat.zero_le, Nat.le_refl, Nat.add_zero, Nat.zero_add, xwT hT, xwV hV]
        refine ⟨fun h9 => absurd h9 h2, fun _ => ?_⟩
        refine ⟨0, 0, ⟨by omega, by omega⟩, xw_drops hT hVw hCw hH hs hp ?_⟩
        intro y y1 y2 y3
        have hVy := y3.pv hVw
        have hV := hVy
        simp (disch := (first | decide | omega)) only [jxs, hps, jtsw, jlsw, List.length_cons, List.length_nil, true_and, and_true, true_implies, false_implies, implies_true, not_true_eq_false, not_false_eq_true, false_and, and_false, if_true, if_false, or_true, true_or, or_false, false_or, Classical.not_not, and_self, Int.reduceAdd, Int.reduceMul, Int.reduceSub, Int.reduceNeg, Int.reduceLT, Int.reduceLE, Int.reduceEq, Int.reduceNe, Int.reduceToNat, Nat.reduceAdd, Nat.reduceMul, Nat.reduceSub, Nat.reduceLeDiff, Nat.reduceLT, Nat.reduceEqDiff, reduceIte, Nat.zero_le, Nat.le_refl, Nat.add_zero, Nat.zero_add, xwT hT, xwV hV]
        refine jW_step ?_
        simp (disch := (first | decide | omega)) only [bX0_fall, jxs, hps, jtsw, jlsw, List.length_cons, List.length_nil, true_and, and_true, true_implies, false_implies, implies_true, not_true_eq_false, not_false_eq_true, false_and, and_false, if_true, if_false, or_true, true_or, or_false, false_or, Classical.not_not, and_self, Int.reduceAdd, Int.reduceMul, Int.reduceSub, Int.reduceNeg, Int.reduceLT, Int.reduceLE, Int.reduceEq, Int.reduceNe, Int.reduceToNat, Nat.reduceAdd, Nat.reduceMul, Nat.reduceSub, Nat.reduceLeDiff, Nat.reduceLT, Nat.reduceEqDiff, reduceIte, Nat.zero_le, Nat.le_refl, Nat.add_zero, Nat.zero_add, xwT hT, xwV hV]
        (repeat (refine And.intro (by (first | omega | assumption | trivial | (simp only [inI]; omega) | (simp only [inL]; omega) | (refine jb_01) | (exact jb_in))) ?_))
        have lo6 : pullA A s (p - gn) 4 6 = A 6 := FR.pull hB hs hp 6 (by omega)
        have nx := ih (p + 1) (gn + 1) (pullA A s (p - gn) 4) y hVy y1 y2 (by rw [clA_6 lo6]; exact hc) (by rw [pullA_m hB hs hp]; omega) (by omega) (by omega) (fun z z1 z2 z3 => by
          rw [if_neg h] at z1 z2
          exact hQ z z1 z2 ((hw.r.tr y3).tr z3))
        rw [show p + 1 - (gn + 1) = p - gn by omega] at nx
        exact nx
theorem xw_fall_4 {s m fl : Int} (hT : PT T) (hs : 0 ≤ s ∧ s < 3) (hm : 0 ≤ m ∧ m ≤ 10) (hfl : 0 ≤ fl ∧ fl ≤ 1000) : ∀ (n : Nat) (gn : Int) (A : Int → Int) (v : Int → Int → Int), PV v → CI (v, T) A X → SH A → TW A → A (13 + s) = n → (n : Int) ≤ m →
    (∀ w, CI (w, T) (ffW X s n gn A).1 X → SH (ffW X s n gn A).1 → jkR v w → jW bX0_fall (g, d + 113, 0, 0, Q) 1 [some (vR 400), some (vI (fl + (m - (ffW X s n gn A).1 (13 + s)))), some (vI (s + 1)), none, none, none] [] (w, T) 0 0) →
    jW bX0_fall (g, d + 113, 0, 0, Q) 4 [some (vR 400), some (vI fl), some (vI s), some (vI m), none, none] [] (v, T) 0 0 := by
  have ex : ∀ (A : Int → Int) (v u : Int → Int → Int), jkq v u → PV u → CI (u, T) A X → 0 ≤ A (13 + s) → A (13 + s) ≤ m → fuA A X s ≤ A (10 + s) → jW bX0_fall (g, d + 113, 0, 0, Q) 1 [some (vR 400), some (vI (fl + (m - A (13 + s)))), some (vI (s + 1)), none, none, none] [] (u, T) 0 0 →
      (fuA A X s ≤ A (10 + s)) ∧ jmet g (d + 113) 0 0 MX1_many [vR 401, vI s] (u, T) (jres (g, d + 113, 0, 0, Q) (ji_isub (ji_iadd (ji_istore 1 (ji_iinc 2 1 (ji_goto (jW bX0_fall (g, d + 113, 0, 0, Q) 1)))))) [some (vR 400), some (vI fl), some (vI s), some (vI m), none, none] [vI m, vI fl] 0 0) := by
    intro A v u hu hVu hCu h1 h2 hw hq
    have hV := hVu
    refine ⟨hw, xw_many hT hVu hCu hs ?_⟩
    simp (disch := (first | decide | omega)) only [jxs, hps, jtsw, jlsw, List.length_cons, List.length_nil, true_and, and_true, true_implies, false_implies, implies_true, not_true_eq_false, not_false_eq_true, false_and, and_false, if_true, if_false, or_true, true_or, or_false, false_or, Classical.not_not, and_self, Int.reduceAdd, Int.reduceMul, Int.reduceSub, Int.reduceNeg, Int.reduceLT, Int.reduceLE, Int.reduceEq, Int.reduceNe, Int.reduceToNat, Nat.reduceAdd, Nat.reduceMul, Nat.reduceSub, Nat.reduceLeDiff, Nat.reduceLT, Nat.reduceEqDiff, reduceIte, Nat.zero_le, Nat.le_refl, Nat.add_zero, Nat.zero_add, xwT hT, xwV hV]
    (repeat (refine And.intro (by (first | omega | assumption | trivial | (simp only [inI]; omega) | (simp only [inL]; omega) | (refine jb_01) | (exact jb_in))) ?_))
    exact jW_sub (by simp [jsub]) hq
  intro n
  induction n with
  | zero =>
    intro gn A v hV hC hH hW hA hn hQ
    have hB := hC.tb
    unfold ffW at hQ
    have fz : fuA A X s = 0 := by unfold fuA; rw [hA]; rfl
    have w1 := hW (10 + s) (by omega) (by omega)
    refine jW_step ?_
    simp (disch := (first | decide | omega)) only [bX0_fall, jxs, hps, jtsw, jlsw, List.length_cons, List.length_nil, true_and, and_true, true_implies, false_implies, implies_true, not_true_eq_false, not_false_eq_true, false_and, and_false, if_true, if_false, or_true, true_or, or_false, false_or, Classical.not_not, and_self, Int.reduceAdd, Int.reduceMul, Int.reduceSub, Int.reduceNeg, Int.reduceLT, Int.reduceLE, Int.reduceEq, Int.reduceNe, Int.reduceToNat, Nat.reduceAdd, Nat.reduceMul, Nat.reduceSub, Nat.reduceLeDiff, Nat.reduceLT, Nat.reduceEqDiff, reduceIte, Nat.zero_le, Nat.le_refl, Nat.add_zero, Nat.zero_add, xwT hT, xwV hV]
    refine ⟨0, 0, ⟨by omega, by omega⟩, xw_fullOf hT hV hC hH hs ?_⟩
    intro u hu
    have hVu := hu.pv hV
    have hCu := hu.ci hC
    have e := hCu.w hs
    have hV := hVu
    simp (disch := (first | decide | omega)) only [jxs, hps, jtsw, jlsw, List.length_cons, List.length_nil, true_and, and_true, true_implies, false_implies, implies_true, not_true_eq_false, not_false_eq_true, false_and, and_false, if_true, if_false, or_true, true_or, or_false, false_or, Classical.not_not, and_self, Int.reduceAdd, Int.reduceMul, Int.reduceSub, Int.reduceNeg, Int.reduceLT, Int.reduceLE, Int.reduceEq, Int.reduceNe, Int.reduceToNat, Nat.reduceAdd, Nat.reduceMul, Nat.reduceSub, Nat.reduceLeDiff, Nat.reduceLT, Nat.reduceEqDiff, reduceIte, Nat.zero_le, Nat.le_refl, Nat.add_zero, Nat.zero_add, xwT hT, xwV hV, e]
    (repeat (refine And.intro (by (first | omega | assumption | trivial | (simp only [inI]; omega) | (simp only [inL]; omega) | (refine jb_01) | (exact jb_in))) ?_))
    refine ⟨fun _ => ?_, fun h9 => by omega⟩
    exact ⟨0, 0, ⟨by omega, by omega⟩, (ex A v u hu hVu hCu (by omega) (by omega) (by omega) (hQ u hCu hH hu.r)).2⟩
  | succ n ih =>
    intro gn A v hV hC hH hW hA hn hQ
    have hB := hC.tb
    unfold ffW at hQ
    refine jW_step ?_
    simp (disch := (first | decide | omega)) only [bX0_fall, jxs, hps, jtsw, jlsw, List.length_cons, List.length_nil, true_and, and_true, true_implies, false_implies, implies_true, not_true_eq_false, not_false_eq_true, false_and, and_false, if_true, if_false, or_true, true_or, or_false, false_or, Classical.not_not, and_self, Int.reduceAdd, Int.reduceMul, Int.reduceSub, Int.reduceNeg, Int.reduceLT, Int.reduceLE, Int.reduceEq, Int.reduceNe, Int.reduceToNat, Nat.reduceAdd, Nat.reduceMul, Nat.reduceSub, Nat.reduceLeDiff, Nat.reduceLT, Nat.reduceEqDiff, reduceIte, Nat.zero_le, Nat.le_refl, Nat.add_zero, Nat.zero_add, xwT hT, xwV hV]
    refine ⟨0, 0, ⟨by omega, by omega⟩, xw_fullOf hT hV hC hH hs ?_⟩
    intro u hu
    have hVu := hu.pv hV
    have hCu := hu.ci hC
    have e := hCu.w hs
    have hV := hVu
    simp (disch := (first | decide | omega)) only [jxs, hps, jtsw, jlsw, List.length_cons, List.length_nil, true_and, and_true, true_implies, false_implies, implies_true, not_true_eq_false, not_false_eq_true, false_and, and_false, if_true, if_false, or_true, true_or, or_false, false_or, Classical.not_not, and_self, Int.reduceAdd, Int.reduceMul, Int.reduceSub, Int.reduceNeg, Int.reduceLT, Int.reduceLE, Int.reduceEq, Int.reduceNe, Int.reduceToNat, Nat.reduceAdd, Nat.reduceMul, Nat.reduceSub, Nat.reduceLeDiff, Nat.reduceLT, Nat.reduceEqDiff, reduceIte, Nat.zero_le, Nat.le_refl, Nat.add_zero, Nat.zero_add, xwT hT, xwV hV, e]
    (repeat (refine And.intro (by (first | omega | assumption | trivial | (simp only [inI]; omega) | (simp only [inL]; omega) | (refine jb_01) | (exact jb_in))) ?_))
    refine ⟨fun h => ?_, fun h => ?_⟩
    · rw [if_pos h] at hQ
      exact ⟨0, 0, ⟨by omega, by omega⟩, (ex A v u hu hVu hCu (by omega) (by omega) h (hQ u hCu hH hu.r)).2⟩
    · rw [if_neg h] at hQ
      have hp : 0 ≤ A (13 + s) - 1 ∧ A (13 + s) - 1 < A (13 + s) := by omega
      refine ⟨0, 0, ⟨by omega, by omega⟩, xw_many hT hVu hCu hs ?_⟩
      simp (disch := (first | decide | omega)) only [jxs, hps, jtsw, jlsw, List.length_cons, List.length_nil, true_and, and_true, true_implies, false_implies, implies_true, not_true_eq_false, not_false_eq_true, false_and, and_false, if_true, if_false, or_true, true_or, or_false, false_or, Classical.not_not, and_self, Int.reduceAdd, Int.reduceMul, Int.reduceSub, Int.reduceNeg, Int.reduceLT, Int.reduceLE, Int.reduceEq, Int.reduceNe, Int.reduceToNat, Nat.reduceAdd, Nat.reduceMul, Nat.reduceSub, Nat.reduceLeDiff, Nat.reduceLT, Nat.reduceEqDiff, reduceIte, Nat.zero_le, Nat.le_refl, Nat.add_zero, Nat.zero_add, xwT hT, xwV hV]
      (repeat (refine And.intro (by (first | omega | assumption | trivial | (simp only [inI]; omega) | (simp only [inL]; omega) | (refine jb_01) | (exact jb_in))) ?_))
      refine ⟨0, 0, ⟨by omega, by omega⟩, xw_drops hT hVu hCu hH hs hp ?_⟩
      intro y y1 y2 y3
      have hVy := y3.pv hVu
      have hV := hVy
      simp (disch := (first | decide | omega)) only [jxs, hps, jtsw, jlsw, List.length_cons, List.length_nil, true_and, and_true, true_implies, false_implies, implies_true, not_true_eq_false, not_false_eq_true, false_and, and_false, if_true, if_false, or_true, true_or, or_false, false_or, Classical.not_not, and_self, Int.reduceAdd, Int.reduceMul, Int.reduceSub, Int.reduceNeg, Int.reduceLT, Int.reduceLE, Int.reduceEq, Int.reduceNe, Int.reduceToNat, Nat.reduceAdd, Nat.reduceMul, Nat.reduceSub, Nat.reduceLeDiff, Nat.reduceLT, Nat.reduceEqDiff, reduceIte, Nat.zero_le, Nat.le_refl, Nat.add_zero, Nat.zero_add, xwT hT, xwV hV]
      exact ih (gn + 1) (pullA A s (A (13 + s) - 1) 4) y hVy y1 y2 ((FR.pull hB hs hp).tw hW) (by rw [pullA_m hB hs hp]; omega) (by omega) (fun z z1 z2 z3 => hQ z z1 z2 ((hu.r.tr y3).tr z3))
end XG
