/-! ===== the class: full, falls, who would change ===== -/
-- MODE X
set_option maxRecDepth 100000
theorem gat_bit {p : Int → Bool} : ∀ n j : Nat, j < n → gat p n / 2 ^ j % 2 = if p j then 1 else 0
  | 0, j, h => by omega
  | n + 1, j, h => by
    have b := gat_bd (p := p) n
    have p0 : (0 : Int) < 2 ^ n := Int.pow_pos (by omega)
    have q0 : (0 : Int) < 2 ^ j := Int.pow_pos (by omega)
    unfold gat
    by_cases e : j = n
    · subst e
      by_cases hp : p j
      · rw [if_pos hp, if_pos hp, Int.add_ediv_of_dvd_right (Int.dvd_refl _), Int.ediv_eq_zero_of_lt b.1 b.2, Int.ediv_self (by omega)]
        rfl
      · rw [if_neg hp, if_neg hp, Int.add_zero, Int.ediv_eq_zero_of_lt b.1 b.2]
        rfl
    · have ih := gat_bit (p := p) n j (by omega)
      by_cases hp : p n
      · rw [if_pos hp]
        have e2 : (2 : Int) ^ n = 2 ^ j * (2 * 2 ^ (n - j - 1)) := by
          rw [← Int.pow_succ', ← Int.pow_add]
          congr 1
          omega
        rw [e2, Int.add_mul_ediv_left _ _ (by omega)]
        rw [← ih]
        omega
      · rw [if_neg hp, Int.add_zero]
        exact ih
theorem PT.tx {T : jjT} (hT : PT T) {ra : Int} (r1 : jok T ra 4) : jfz ra := by
  by_cases q2 : 400 ≤ ra ∧ ra < 562
  · have key : ∀ a ∈ (List.range 162), ∃ q ∈ ptL, q.1 = 400 + (a : Int) ∧ q.2.1 ≠ 4 := by decide +kernel
    obtain ⟨q, m1, m2, m3⟩ := key (ra - 400).toNat (List.mem_range.2 (by omega))
    have := hT.ok q.1 q.2.1 q.2.2 m1
    rw [m2, show 400 + (((ra - 400).toNat : Nat) : Int) = ra by omega] at this
    exact absurd (this.2.2.symm.trans r1.2.2) m3
  · unfold jfz; omega
/-- names and changes alone differ -/
def jkz (v w : Int → Int → Int) : Prop := (∀ a, a ≠ 522 → a ≠ 523 → w a = v a) ∧ okN (w 522)
theorem jkz.ci {v w : Int → Int → Int} {T : jjT} {A X : Int → Int} (h : jkz v w) (q : CI (v, T) A X) : CI (w, T) A X := by
  have g : jGR (v, T) (w, T) := jGR_of (fun a ha => h.1 a (by unfold jfz at ha; omega) (by unfold jfz at ha; omega))
  exact ⟨q.1.fr q.2.2.2.1.1.2 q.2.2.2.2.2.1.2 q.2.2.2.2.2.2.1.2 (fun a a0 a1 => h.1 a (by omega) (by omega)) g, h.2, q.2.2.1.gr g, q.2.2.2⟩
theorem jkz.pv {v w : Int → Int → Int} (h : jkz v w) (hV : PV v) : PV w := hV.fr (fun a ha => h.1 a (fun e => by subst e; revert ha; decide) (fun e => by subst e; revert ha; decide))
theorem jkz.tr {u v w : Int → Int → Int} (h : jkz u v) (h2 : jkz v w) : jkz u w := ⟨fun a ha hb => (h2.1 a ha hb).trans (h.1 a ha hb), h2.2⟩
theorem jkz.rf {v : Int → Int → Int} (h : okN (v 522)) : jkz v v := ⟨fun _ _ _ => rfl, h⟩
theorem jkq.z {v w : Int → Int → Int} (h : jkq v w) : jkz v w := ⟨fun a ha _ => h.1 a ha, h.2⟩
theorem jkz.up {v : Int → Int → Int} {f : Int → Int} (h : okN (v 522)) : jkz v (upA v 523 f) := ⟨fun a _ hb => upA_ne hb, by rw [upA_ne (by omega)]; exact h⟩
/-- the rows of bits that tell who would change -/
def CHB (f A X : Int → Int) : Prop := ∀ a, 0 ≤ a → a < A 0 → (0 ≤ f a ∧ f a < 1024) ∧ ∀ b, 0 ≤ b → b < A 0 → f a / 2 ^ b.toNat % 2 = cgA A X a b
section XG
variable {g : jjG} {d : Nat} {T : jjT} {Q : jjQ} {A X : Int → Int}
theorem xw_fullOf_L {s : Int} (hT : PT T) (hs : 0 ≤ s ∧ s < 3) (hb : ∀ p, 0 ≤ p → p < A (13 + s) → 0 ≤ A (16 + 10 * s + p) ∧ A (16 + 10 * s + p) < A 0) : ∀ (r k : Nat) (v : Int → Int → Int), PV v → CI (v, T) A X → (k : Int) + r = A (13 + s) →
    (∀ w, jkq v w → Q (.inl (some (vI (fuA A X s)))) (w, T)) → jW bX0_fullOf (g, d + 112, 0, 0, Q) 1 [some (vR 400), some (vI s), some (vI (fuF A X s k)), some (vI (k : Int))] [] (v, T) 0 0 := by
  intro r
  induction r with
  | zero =>
    intro k v hV hC hk hQ
    have fb := fuF_bd (X := X) hC.tb hs k (by have := hC.tb.2.2.2.2.2.1 (13 + s) (by omega) (by omega); omega)
    refine jW_step ?_
    simp (disch := (first | decide | omega)) only [bX0_fullOf, jxs, hps, jtsw, jlsw, List.length_cons, List.length_nil, true_and, and_true, true_implies, false_implies, implies_true, not_true_eq_false, not_false_eq_true, false_and, and_false, if_true, if_false, or_true, true_or, or_false, false_or, Classical.not_not, and_self, Int.reduceAdd, Int.reduceMul, Int.reduceSub, Int.reduceNeg, Int.reduceLT, Int.reduceLE, Int.reduceEq, Int.reduceNe, Int.reduceToNat, Nat.reduceAdd, Nat.reduceMul, Nat.reduceSub, Nat.reduceLeDiff, Nat.reduceLT, Nat.reduceEqDiff, reduceIte, Nat.zero_le, Nat.le_refl, Nat.add_zero, Nat.zero_add, xwT hT, xwV hV]
    refine ⟨0, 0, ⟨by omega, by omega⟩, xw_many hT hV hC hs ?_⟩
    simp (disch := (first | decide | omega)) only [jxs, hps, jtsw, jlsw, List.length_cons, List.length_nil, true_and, and_true, true_implies, false_implies, implies_true, not_true_eq_false, not_false_eq_true, false_and, and_false, if_true, if_false, or_true, true_or, or_false, false_or, Classical.not_not, and_self, Int.reduceAdd, Int.reduceMul, Int.reduceSub, Int.reduceNeg, Int.reduceLT, Int.reduceLE, Int.reduceEq, Int.reduceNe, Int.reduceToNat, Nat.reduceAdd, Nat.reduceMul, Nat.reduceSub, Nat.reduceLeDiff, Nat.reduceLT, Nat.reduceEqDiff, reduceIte, Nat.zero_le, Nat.le_refl, Nat.add_zero, Nat.zero_add, xwT hT, xwV hV]
    (try refine ⟨fun _ => ?_, fun h9 => (by exfalso; omega)⟩)
    (repeat (refine And.intro (by (first | omega | assumption | trivial | (simp only [inI]; omega) | (simp only [inL]; omega) | (refine jb_01) | (exact jb_in))) ?_))
    have := hQ v (jkq.rf hC.nm)
    unfold fuA at this
    rwa [show (A (13 + s)).toNat = k by omega] at this
  | succ r ih =>
    intro k v hV hC hk hQ
    have h10 := hC.tb.2.2.2.2.2.1 (13 + s) (by omega) (by omega)
    have fb := fuF_bd (X := X) hC.tb hs k (by omega)
    have bb := hb k (by omega) (by omega)
    have tb := thA_bd (X := X) hC.tb (b := A (16 + 10 * s + k)) (by have := hC.tb.1; omega)
    refine jW_step ?_
    simp (disch := (first | decide | omega)) only [bX0_fullOf, jxs, hps, jtsw, jlsw, List.length_cons, List.length_nil, true_and, and_true, true_implies, false_implies, implies_true, not_true_eq_false, not_false_eq_true, false_and, and_false, if_true, if_false, or_true, true_or, or_false, false_or, Classical.not_not, and_self, Int.reduceAdd, Int.reduceMul, Int.reduceSub, Int.reduceNeg, Int.reduceLT, Int.reduceLE, Int.reduceEq, Int.reduceNe, Int.reduceToNat, Nat.reduceAdd, Nat.reduceMul, Nat.reduceSub, Nat.reduceLeDiff, Nat.reduceLT, Nat.reduceEqDiff, reduceIte, Nat.zero_le, Nat.le_refl, Nat.add_zero, Nat.zero_add, xwT hT, xwV hV]
    refine ⟨0, 0, ⟨by omega, by omega⟩, xw_many hT hV hC hs ?_⟩
    simp (disch := (first | decide | omega)) only [jxs, hps, jtsw, jlsw, List.length_cons, List.length_nil, true_and, and_true, true_implies, false_implies, implies_true, not_true_eq_false, not_false_eq_true, false_and, and_false, if_true, if_false, or_true, true_or, or_false, false_or, Classical.not_not, and_self, Int.reduceAdd, Int.reduceMul, Int.reduceSub, Int.reduceNeg, Int.reduceLT, Int.reduceLE, Int.reduceEq, Int.reduceNe, Int.reduceToNat, Nat.reduceAdd, Nat.reduceMul, Nat.reduceSub, Nat.reduceLeDiff, Nat.reduceLT, Nat.reduceEqDiff, reduceIte, Nat.zero_le, Nat.le_refl, Nat.add_zero, Nat.zero_add, xwT hT, xwV hV]
    (first | refine ⟨fun h9 => (by exfalso; omega), fun _ => ?_⟩ | intro _)
    refine ⟨0, 0, ⟨by omega, by omega⟩, xw_bookAt hT hV hC hs ⟨by omega, by omega⟩ ?_⟩
    simp (disch := (first | decide | omega)) only [jxs, hps, jtsw, jlsw, List.length_cons, List.length_nil, true_and, and_true, true_implies, false_implies, implies_true, not_true_eq_false, not_false_eq_true, false_and, and_false, if_true, if_false, or_true, true_or, or_false, false_or, Classical.not_not, and_self, Int.reduceAdd, Int.reduceMul, Int.reduceSub, Int.reduceNeg, Int.reduceLT, Int.reduceLE, Int.reduceEq, Int.reduceNe, Int.reduceToNat, Nat.reduceAdd, Nat.reduceMul, Nat.reduceSub, Nat.reduceLeDiff, Nat.reduceLT, Nat.reduceEqDiff, reduceIte, Nat.zero_le, Nat.le_refl, Nat.add_zero, Nat.zero_add, xwT hT, xwV hV]
    refine ⟨0, 0, ⟨by omega, by omega⟩, xw_thickNow hT hV hC bb ?_⟩
    intro w hw
    have e : fuF A X s k + thA A X (A (16 + 10 * s + k)) = fuF A X s (k + 1) := rfl
    simp (disch := (first | decide | omega)) only [jxs, hps, jtsw, jlsw, List.length_cons, List.length_nil, true_and, and_true, true_implies, false_implies, implies_true, not_true_eq_false, not_false_eq_true, false_and, and_false, if_true, if_false, or_true, true_or, or_false, false_or, Classical.not_not, and_self, Int.reduceAdd, Int.reduceMul, Int.reduceSub, Int.reduceNeg, Int.reduceLT, Int.reduceLE, Int.reduceEq, Int.reduceNe, Int.reduceToNat, Nat.reduceAdd, Nat.reduceMul, Nat.reduceSub, Nat.reduceLeDiff, Nat.reduceLT, Nat.reduceEqDiff, reduceIte, Nat.zero_le, Nat.le_refl, Nat.add_zero, Nat.zero_add, xwT hT, xwV hV]
    (repeat (refine And.intro (by (first | omega | assumption | trivial | (simp only [inI]; omega) | (simp only [inL]; omega) | (refine jb_01) | (exact jb_in))) ?_))
    have nx := ih (k + 1) w (hw.pv hV) (hw.ci hC) (by omega) (fun y hy => hQ y (hw.tr hy))
    rw [show ((k + 1 : Nat) : Int) = (k : Int) + 1 by omega] at nx
    exact nx
theorem xw_fullOf {s : Int} {v : Int → Int → Int} (hT : PT T) (hV : PV v) (hC : CI (v, T) A X) (hH : SH A) (hs : 0 ≤ s ∧ s < 3) (hQ : ∀ w, jkq v w → Q (.inl (some (vI (fuA A X s)))) (w, T)) : jmet g (d + 113) 0 0 MX0_fullOf [vR 400, vI s] (v, T) Q := by
  have h10 := hC.tb.2.2.2.2.2.1 (13 + s) (by omega) (by omega)
  refine jmet_of (ls := [some (vR 400), some (vI s), none, none]) sX0_fullOf rfl (by decide +kernel) (by decide) rfl (by simp [jent]) ?_
  refine jW_step ?_
  simp (disch := (first | decide | omega)) only [bX0_fullOf, jxs, hps, jtsw, jlsw, List.length_cons, List.length_nil, true_and, and_true, true_implies, false_implies, implies_true, not_true_eq_false, not_false_eq_true, false_and, and_false, if_true, if_false, or_true, true_or, or_false, false_or, Classical.not_not, and_self, Int.reduceAdd, Int.reduceMul, Int.reduceSub, Int.reduceNeg, Int.reduceLT, Int.reduceLE, Int.reduceEq, Int.reduceNe, Int.reduceToNat, Nat.reduceAdd, Nat.reduceMul, Nat.reduceSub, Nat.reduceLeDiff, Nat.reduceLT, Nat.reduceEqDiff, reduceIte, Nat.zero_le, Nat.le_refl, Nat.add_zero, Nat.zero_add, xwT hT, xwV hV]
  exact xw_fullOf_L hT hs (fun p p0 p1 => ⟨(hC.tb.2.2.2.2.2.2 (16 + 10 * s + p) (by omega) (by omega)).1, (hH.1 s p hs.1 hs.2 p0 p1).1⟩) (A (13 + s)).toNat 0 v hV hC (by omega) hQ
theorem xw_falls {b s p m : Int} {v : Int → Int → Int} (hT : PT T) (hV : PV v) (hC : CI (v, T) A X) (hb : 0 ≤ b ∧ b < A 0) (hs : 0 ≤ s ∧ s ≤ 100) (hp : 0 ≤ p ∧ p ≤ 100) (hm : 0 ≤ m ∧ m ≤ 100) (hQ : ∀ w, jkq v w → Q (.inl (some (vI (if clA A X 1 0 < 0 then 0 else flA A X (clA A X 1 0) s p m b)))) (w, T)) : jmet g (d + 110) 0 0 MX0_falls [vR 400, vI b, vI s, vI p, vI m] (v, T) Q := by
  have hB := hC.tb
  have h0 := hB.1
  obtain ⟨⟨r1, r2, r3⟩, -, r5, -⟩ := hC.ru
  dsimp only at r1 r2 r3 r5
  have zr := hT.tx r1
  refine jmet_of (ls := [some (vR 400), some (vI b), some (vI s), some (vI p), some (vI m)]) sX0_falls rfl (by decide +kernel) (by decide) rfl (by simp [jent]) ?_
  refine jW_step ?_
  simp (disch := (first | decide | omega)) only [bX0_falls, jxs, hps, jtsw, jlsw, List.length_cons, List.length_nil, true_and, and_true, true_implies, false_implies, implies_true, not_true_eq_false, not_false_eq_true, false_and, and_false, if_true, if_false, or_true, true_or, or_false, false_or, Classical.not_not, and_self, Int.reduceAdd, Int.reduceMul, Int.reduceSub, Int.reduceNeg, Int.reduceLT, Int.reduceLE, Int.reduceEq, Int.reduceNe, Int.reduceToNat, Nat.reduceAdd, Nat.reduceMul, Nat.reduceSub, Nat.reduceLeDiff, Nat.reduceLT, Nat.reduceEqDiff, reduceIte, Nat.zero_le, Nat.le_refl, Nat.add_zero, Nat.zero_add, xwT hT, xwV hV]
  refine ⟨0, 0, ⟨by omega, by omega⟩, xw_rules hT hV hC ?_⟩
  have hr0 : ∀ w, jkq v w → rul w A = rul v A := fun w hw => by unfold rul; rw [hw.1 460 (by omega)]
  generalize rul v A = ra at *
  simp (disch := (first | decide | omega)) only [jxs, hps, jtsw, jlsw, List.length_cons, List.length_nil, true_and, and_true, true_implies, false_implies, implies_true, not_true_eq_false, not_false_eq_true, false_and, and_false, if_true, if_false, or_true, true_or, or_false, false_or, Classical.not_not, and_self, Int.reduceAdd, Int.reduceMul, Int.reduceSub, Int.reduceNeg, Int.reduceLT, Int.reduceLE, Int.reduceEq, Int.reduceNe, Int.reduceToNat, Nat.reduceAdd, Nat.reduceMul, Nat.reduceSub, Nat.reduceLeDiff, Nat.reduceLT, Nat.reduceEqDiff, reduceIte, Nat.zero_le, Nat.le_refl, Nat.add_zero, Nat.zero_add, xwT hT, xwV hV, r1]
  by_cases hc : clA A X 1 0 < 0
  · rw [if_pos hc] at hQ
    have e := r5.1 hc
    rw [e]
    refine ⟨fun h => absurd rfl h, fun _ => ?_⟩
    (repeat (refine And.intro (by (first | omega | assumption | trivial | (simp only [inI]; omega) | (simp only [inL]; omega) | (refine jb_01) | (exact jb_in))) ?_))
    exact hQ v (jkq.rf hC.nm)
  rw [if_neg hc] at hQ
  have tr := r5.2 (by omega)
  have nz := tr.nz
  have cl := hC.cl (show 0 ≤ clA A X 1 0 by omega)
  have oc := (cl.1.2.1 (by omega)).2
  rw [cl.2] at oc
  refine ⟨fun _ => ?_, fun h => by omega⟩
  refine ⟨0, 0, ⟨by omega, by omega⟩, xw_namesOwn hT hV hC hb ?_⟩
  intro w hw w22
  have hVw := hw.pv hV
  have hV := hVw
  simp (disch := (first | decide | omega)) only [jxs, hps, jtsw, jlsw, List.length_cons, List.length_nil, true_and, and_true, true_implies, false_implies, implies_true, not_true_eq_false, not_false_eq_true, false_and, and_false, if_true, if_false, or_true, true_or, or_false, false_or, Classical.not_not, and_self, Int.reduceAdd, Int.reduceMul, Int.reduceSub, Int.reduceNeg, Int.reduceLT, Int.reduceLE, Int.reduceEq, Int.reduceNe, Int.reduceToNat, Nat.reduceAdd, Nat.reduceMul, Nat.reduceSub, Nat.reduceLeDiff, Nat.reduceLT, Nat.reduceEqDiff, reduceIte, Nat.zero_le, Nat.le_refl, Nat.add_zero, Nat.zero_add, xwT hT, xwV hV]
  (repeat (refine And.intro (by (first | omega | assumption | trivial | (simp only [inI]; omega) | (simp only [inL]; omega) | (refine jb_01) | (exact jb_in))) ?_))
  rw [w22]
  have en : up1 (up1 (up1 (nmO (v 522) A b) 12 s) 13 p) 14 m = nmF (v 522) A b s p m := rfl
  rw [en]
  have ju : jkq v (upA w 522 (nmF (v 522) A b s p m)) := by
    refine hw.tr ⟨fun a ha => upA_ne ha, ?_⟩
    rw [upA_eq]
    exact okN_nmF hC.nm hB (by omega) hs hp hm
  have u22 : (upA w 522 (nmF (v 522) A b s p m)) 522 = nmF (v 522) A b s p m := upA_eq
  generalize upA w 522 (nmF (v 522) A b s p m) = u at *
  have hVu := ju.pv (by assumption)
  have hCu := ju.ci hC
  have gr : jGR (v, T) (u, T) := jGR_of (fun a ha => ju.1 a (by unfold jfz at ha; omega))
  have ew : u ra = v ra := gr.at r1 zr
  have hV := hVu
  refine ⟨0, 0, ⟨by omega, by omega⟩, xw_rules hT hV hCu ?_⟩
  rw [hr0 u ju]
  simp (disch := (first | decide | omega)) only [jxs, hps, jtsw, jlsw, List.length_cons, List.length_nil, true_and, and_true, true_implies, false_implies, implies_true, not_true_eq_false, not_false_eq_true, false_and, and_false, if_true, if_false, or_true, true_or, or_false, false_or, Classical.not_not, and_self, Int.reduceAdd, Int.reduceMul, Int.reduceSub, Int.reduceNeg, Int.reduceLT, Int.reduceLE, Int.reduceEq, Int.reduceNe, Int.reduceToNat, Nat.reduceAdd, Nat.reduceMul, Nat.reduceSub, Nat.reduceLeDiff, Nat.reduceLT, Nat.reduceEqDiff, reduceIte, Nat.zero_le, Nat.le_refl, Nat.add_zero, Nat.zero_add, xwT hT, xwV hV, r1]
  rw [ew]
  obtain ⟨q, p1, p2, p3⟩ := xw_is (g := g) hT ju.2 100 (v ra 1) _ (d + 109) (by omega) (TR.gr gr _ _ _ tr)
  refine ⟨q, p1, p2, 0, 0, ⟨by omega, by omega⟩, p3 _ ?_⟩
  intro bv hbv hbb
  have ev : flA A X (clA A X 1 0) s p m b = bv := by
    unfold flA
    rw [← hbv.et, u22]
    exact ET_cg (nmF_ag rfl) oc
  rw [← ev] at hbb ⊢
  simp (disch := (first | decide | omega)) only [jxs, hps, jtsw, jlsw, List.length_cons, List.length_nil, true_and, and_true, true_implies, false_implies, implies_true, not_true_eq_false, not_false_eq_true, false_and, and_false, if_true, if_false, or_true, true_or, or_false, false_or, Classical.not_not, and_self, Int.reduceAdd, Int.reduceMul, Int.reduceSub, Int.reduceNeg, Int.reduceLT, Int.reduceLE, Int.reduceEq, Int.reduceNe, Int.reduceToNat, Nat.reduceAdd, Nat.reduceMul, Nat.reduceSub, Nat.reduceLeDiff, Nat.reduceLT, Nat.reduceEqDiff, reduceIte, Nat.zero_le, Nat.le_refl, Nat.add_zero, Nat.zero_add, xwT hT, xwV hV]
  (repeat (refine And.intro (by (first | omega | assumption | trivial | (simp only [inI]; omega) | (simp only [inL]; omega) | (refine jb_01) | (exact jb_in))) ?_))
  exact hQ u ju
end XG
