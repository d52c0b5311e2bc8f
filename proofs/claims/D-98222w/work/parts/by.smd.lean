/-! ===== the reference: a sum walked ===== -/
set_option maxRecDepth 100000
section LM
variable (B : Int → Int) (n : Nat)
/-- the machine of a sum -/
def smM (kd : Int) : Nat → Int → Nat → List Int → List (Int × Int) → Int → (Int × Nat) ⊕ (Nat × List (Int × Int) × Int)
  | 0, _, k, _, _, _ => .inl (1, k)
  | f + 1, z, k, P, acc, o =>
    if z = 1 then (if goM (stT B n k) P then smM kd f (behM B n k P acc o).1 (behM B n k P acc o).2.1 (behM B n k P acc o).2.2.1 (behM B n k P acc o).2.2.2.1 (behM B n k P acc o).2.2.2.2
      else if (seM 3 P acc).1 = [] then .inr (k, (seM 3 P acc).2, o) else .inl (1, k))
    else match begM B n kd k P acc o with
      | .inl e => .inl (e, k)
      | .inr s => smM kd f s.1 s.2.1 s.2.2.1 s.2.2.2.1 s.2.2.2.2
end LM
def qSM (Q : jjQ) (v : Int → Int → Int) (T : jjT) (t : Int) (B : Int → Int) (n : Nat) (r : (Int × Nat) ⊕ (Nat × List (Int × Int) × Int)) : Prop :=
  (∀ e k, r = .inl (e, k) → ∀ w, XS t v w → w 539 8 = (pl B n k : Int) → Q (.inl (some (vI e))) (w, T)) ∧ (∀ x, r = .inr x → ∀ w, XS t v w → MS w B n x.1 t [] x.2.1 x.2.2 1 → Q (.inl (some (vI 0))) (w, T))
theorem qSM.xs {Q : jjQ} {v w : Int → Int → Int} {T : jjT} {t : Int} {B : Int → Int} {n : Nat} {r : (Int × Nat) ⊕ (Nat × List (Int × Int) × Int)} (h : qSM Q v T t B n r) (q : XS t v w) : qSM Q w T t B n r :=
  ⟨fun e k he u u1 => h.1 e k he u (q.tr u1), fun x hx u u1 => h.2 x hx u (q.tr u1)⟩
theorem begM_z {B : Int → Int} {n k : Nat} {kd o : Int} {P : List Int} {acc : List (Int × Int)} {s : sM} (h : begM B n kd k P acc o = .inr s) : s.1 = 0 ∨ s.1 = 1 := by
  unfold begM at h
  (repeat' split at h) <;> (first | (cases h; first | exact Or.inl rfl | exact Or.inr rfl) | cases h)
theorem behM_z {B : Int → Int} {n k : Nat} {o : Int} {P : List Int} {acc : List (Int × Int)} : (behM B n k P acc o).1 = 0 ∨ (behM B n k P acc o).1 = 1 := by
  unfold behM
  (repeat' split) <;> (first | exact Or.inl rfl | exact Or.inr rfl)
theorem begM_e {B : Int → Int} {n k : Nat} {kd o e : Int} {P : List Int} {acc : List (Int × Int)} (h : begM B n kd k P acc o = .inl e) : 1 ≤ e ∧ e ≤ 5 := by
  unfold begM at h
  (repeat' split at h) <;> (first | (cases h; omega) | cases h)
section TG
variable {g : jjG} {d : Nat} {T : jjT} {Q : jjQ} {B : Int → Int} {n : Nat} {t kd : Int}
theorem tw_summed_1 : ∀ (f : Nat) (z : Int) (k : Nat) (P : List Int) (acc : List (Int × Int)) (o : Int) (v : Int → Int → Int) (l1 : Option jjV), n < f + k → PT T → PV v → MS v B n k t P acc o z → (z = 0 ∨ z = 1) → IV n k P acc o → v 539 20 = kd - 200 → qSM Q v T t B n (smM B n kd f z k P acc o) → jW bX2_summed (g, d + 6, 0, 0, Q) 1 [some (vR 539), l1] [] (v, T) 0 0
  | 0, z, k, P, acc, o, v, l1, hf, hT, hV, hS, hz, hI, h20, hQ => by
    have := hI.1
    omega
  | f + 1, z, k, P, acc, o, v, l1, hf, hT, hV, hS, hz, hI, h20, hQ => by
    have hn := hS.1.1.2.1.1
    have len := hI.len
    have hk := hI.1
    have i2 := hI.2.1
    have i4 := hI.2.2.2.1
    have i5 := hI.2.2.2.2
    have e19 : v 539 19 = z := hS.2.2.2.2
    have e8 : v 539 8 = (pl B n k : Int) := hS.1.2.1
    have k3z : ∀ w z' k' P' acc' o', XS t v w → k < k' → MS w B n k' t P' acc' o' z' → (z' = 0 ∨ z' = 1) → IV n k' P' acc' o' → qSM Q v T t B n (smM B n kd f z' k' P' acc' o') → jW bX2_summed (g, d + 6, 0, 0, Q) 3 [some (vR 539), l1] [vI 0] (w, T) 0 0 := by
      intro w z' k' P' acc' o' w1 hkk w2 hz' hI' hQ'
      have hVw := w1.pv hV
      have ih := tw_summed_1 f z' k' P' acc' o' w (some (vI 0)) (by omega) hT hVw w2 hz' hI' ((w1.2.1 20 (by omega)).trans h20) (hQ'.xs w1)
      refine jW_step ?_
      simp (disch := (first | decide | omega)) only [bX2_summed, jxs, hps, jtsw, jlsw, List.length_cons, List.length_nil, true_and, and_true, true_implies, false_implies, implies_true, not_true_eq_false, not_false_eq_true, false_and, and_false, if_true, if_false, or_true, true_or, or_false, false_or, Classical.not_not, and_self, Int.reduceAdd, Int.reduceMul, Int.reduceSub, Int.reduceNeg, Int.reduceLT, Int.reduceLE, Int.reduceEq, Int.reduceNe, Int.reduceToNat, Nat.reduceAdd, Nat.reduceMul, Nat.reduceSub, Nat.reduceLeDiff, Nat.reduceLT, Nat.reduceEqDiff, reduceIte, Nat.zero_le, Nat.le_refl, Nat.add_zero, Nat.zero_add, twT hT, twV hVw]
      exact ih
    have k3e : ∀ e : Int, 1 ≤ e → Q (.inl (some (vI e))) (v, T) → jW bX2_summed (g, d + 6, 0, 0, Q) 3 [some (vR 539), l1] [vI e] (v, T) 0 0 := by
      intro e he hq
      refine jW_step ?_
      simp (disch := (first | decide | omega)) only [bX2_summed, jxs, hps, jtsw, jlsw, List.length_cons, List.length_nil, true_and, and_true, true_implies, false_implies, implies_true, not_true_eq_false, not_false_eq_true, false_and, and_false, if_true, if_false, or_true, true_or, or_false, false_or, Classical.not_not, and_self, Int.reduceAdd, Int.reduceMul, Int.reduceSub, Int.reduceNeg, Int.reduceLT, Int.reduceLE, Int.reduceEq, Int.reduceNe, Int.reduceToNat, Nat.reduceAdd, Nat.reduceMul, Nat.reduceSub, Nat.reduceLeDiff, Nat.reduceLT, Nat.reduceEqDiff, reduceIte, Nat.zero_le, Nat.le_refl, Nat.add_zero, Nat.zero_add, twT hT, twV hV]
      (first | refine ⟨fun h9 => (by exfalso; omega), fun _ => ?_⟩ | intro _)
      (repeat (refine And.intro (by (first | omega | assumption | trivial | (simp only [inI]; omega) | (simp only [inL]; omega) | (refine jb_01) | (exact jb_in))) ?_))
      exact hq
    unfold smM at hQ
    rcases hz with hz | hz
    · rw [if_neg (by omega)] at hQ
      subst hz
      have k2 : jW bX2_summed (g, d + 6, 0, 0, Q) 2 [some (vR 539), l1] [] (v, T) 0 0 := by
        refine jW_step ?_
        simp (disch := (first | decide | omega)) only [bX2_summed, jxs, hps, jtsw, jlsw, List.length_cons, List.length_nil, true_and, and_true, true_implies, false_implies, implies_true, not_true_eq_false, not_false_eq_true, false_and, and_false, if_true, if_false, or_true, true_or, or_false, false_or, Classical.not_not, and_self, Int.reduceAdd, Int.reduceMul, Int.reduceSub, Int.reduceNeg, Int.reduceLT, Int.reduceLE, Int.reduceEq, Int.reduceNe, Int.reduceToNat, Nat.reduceAdd, Nat.reduceMul, Nat.reduceSub, Nat.reduceLeDiff, Nat.reduceLT, Nat.reduceEqDiff, reduceIte, Nat.zero_le, Nat.le_refl, Nat.add_zero, Nat.zero_add, twT hT, twV hV, e19]
        (repeat (refine And.intro (by (first | omega | assumption | trivial | (simp only [inI]; omega) | (simp only [inL]; omega) | (refine jb_01) | (exact jb_in))) ?_))
        refine ⟨0, 0, ⟨by omega, by omega⟩, tw_beginOne (d := d) hT hV hS h20 (by omega) (by omega) (fun e he => ?_) (fun s hs w w1 w2 => ?_)⟩
        · rw [he] at hQ
          simp (disch := (first | decide | omega)) only [jxs, hps, jtsw, jlsw, List.length_cons, List.length_nil, true_and, and_true, true_implies, false_implies, implies_true, not_true_eq_false, not_false_eq_true, false_and, and_false, if_true, if_false, or_true, true_or, or_false, false_or, Classical.not_not, and_self, Int.reduceAdd, Int.reduceMul, Int.reduceSub, Int.reduceNeg, Int.reduceLT, Int.reduceLE, Int.reduceEq, Int.reduceNe, Int.reduceToNat, Nat.reduceAdd, Nat.reduceMul, Nat.reduceSub, Nat.reduceLeDiff, Nat.reduceLT, Nat.reduceEqDiff, reduceIte, Nat.zero_le, Nat.le_refl, Nat.add_zero, Nat.zero_add, twT hT, twV hV]
          exact k3e e (begM_e he).1 (hQ.1 e k rfl v XS.rf e8)
        · have ii := hI.beg hs
          rw [hs] at hQ
          simp (disch := (first | decide | omega)) only [jxs, hps, jtsw, jlsw, List.length_cons, List.length_nil, true_and, and_true, true_implies, false_implies, implies_true, not_true_eq_false, not_false_eq_true, false_and, and_false, if_true, if_false, or_true, true_or, or_false, false_or, Classical.not_not, and_self, Int.reduceAdd, Int.reduceMul, Int.reduceSub, Int.reduceNeg, Int.reduceLT, Int.reduceLE, Int.reduceEq, Int.reduceNe, Int.reduceToNat, Nat.reduceAdd, Nat.reduceMul, Nat.reduceSub, Nat.reduceLeDiff, Nat.reduceLT, Nat.reduceEqDiff, reduceIte, Nat.zero_le, Nat.le_refl, Nat.add_zero, Nat.zero_add, twT hT, twV hV]
          exact k3z w s.1 s.2.1 s.2.2.1 s.2.2.2.1 s.2.2.2.2 w1 ii.1 w2 (begM_z hs) ii.2 hQ
      refine jW_step ?_
      simp (disch := (first | decide | omega)) only [bX2_summed, jxs, hps, jtsw, jlsw, List.length_cons, List.length_nil, true_and, and_true, true_implies, false_implies, implies_true, not_true_eq_false, not_false_eq_true, false_and, and_false, if_true, if_false, or_true, true_or, or_false, false_or, Classical.not_not, and_self, Int.reduceAdd, Int.reduceMul, Int.reduceSub, Int.reduceNeg, Int.reduceLT, Int.reduceLE, Int.reduceEq, Int.reduceNe, Int.reduceToNat, Nat.reduceAdd, Nat.reduceMul, Nat.reduceSub, Nat.reduceLeDiff, Nat.reduceLT, Nat.reduceEqDiff, reduceIte, Nat.zero_le, Nat.le_refl, Nat.add_zero, Nat.zero_add, twT hT, twV hV, e19]
      exact k2
    · rw [if_pos hz] at hQ
      subst hz
      have k2 : goM (stT B n k) P → jW bX2_summed (g, d + 6, 0, 0, Q) 2 [some (vR 539), l1] [] (v, T) 0 0 := by
        intro hg
        rw [if_pos hg] at hQ
        have ii := hI.beh hg
        refine jW_step ?_
        simp (disch := (first | decide | omega)) only [bX2_summed, jxs, hps, jtsw, jlsw, List.length_cons, List.length_nil, true_and, and_true, true_implies, false_implies, implies_true, not_true_eq_false, not_false_eq_true, false_and, and_false, if_true, if_false, or_true, true_or, or_false, false_or, Classical.not_not, and_self, Int.reduceAdd, Int.reduceMul, Int.reduceSub, Int.reduceNeg, Int.reduceLT, Int.reduceLE, Int.reduceEq, Int.reduceNe, Int.reduceToNat, Nat.reduceAdd, Nat.reduceMul, Nat.reduceSub, Nat.reduceLeDiff, Nat.reduceLT, Nat.reduceEqDiff, reduceIte, Nat.zero_le, Nat.le_refl, Nat.add_zero, Nat.zero_add, twT hT, twV hV, e19]
        (repeat (refine And.intro (by (first | omega | assumption | trivial | (simp only [inI]; omega) | (simp only [inL]; omega) | (refine jb_01) | (exact jb_in))) ?_))
        refine ⟨0, 0, ⟨by omega, by omega⟩, tw_behindOne (d := d) hT hV hS hg (by omega) (by omega) (fun w w1 w2 => ?_)⟩
        simp (disch := (first | decide | omega)) only [jxs, hps, jtsw, jlsw, List.length_cons, List.length_nil, true_and, and_true, true_implies, false_implies, implies_true, not_true_eq_false, not_false_eq_true, false_and, and_false, if_true, if_false, or_true, true_or, or_false, false_or, Classical.not_not, and_self, Int.reduceAdd, Int.reduceMul, Int.reduceSub, Int.reduceNeg, Int.reduceLT, Int.reduceLE, Int.reduceEq, Int.reduceNe, Int.reduceToNat, Nat.reduceAdd, Nat.reduceMul, Nat.reduceSub, Nat.reduceLeDiff, Nat.reduceLT, Nat.reduceEqDiff, reduceIte, Nat.zero_le, Nat.le_refl, Nat.add_zero, Nat.zero_add, twT hT, twV hV]
        exact k3z w _ _ _ _ _ w1 ii.1 w2 behM_z ii.2 hQ
      refine jW_step ?_
      simp (disch := (first | decide | omega)) only [bX2_summed, jxs, hps, jtsw, jlsw, List.length_cons, List.length_nil, true_and, and_true, true_implies, false_implies, implies_true, not_true_eq_false, not_false_eq_true, false_and, and_false, if_true, if_false, or_true, true_or, or_false, false_or, Classical.not_not, and_self, Int.reduceAdd, Int.reduceMul, Int.reduceSub, Int.reduceNeg, Int.reduceLT, Int.reduceLE, Int.reduceEq, Int.reduceNe, Int.reduceToNat, Nat.reduceAdd, Nat.reduceMul, Nat.reduceSub, Nat.reduceLeDiff, Nat.reduceLT, Nat.reduceEqDiff, reduceIte, Nat.zero_le, Nat.le_refl, Nat.add_zero, Nat.zero_add, twT hT, twV hV, e19]
      refine ⟨0, 0, ⟨by omega, by omega⟩, tw_goesOn (d := d + 4) hT hV hS ?_⟩
      simp (disch := (first | decide | omega)) only [jxs, hps, jtsw, jlsw, List.length_cons, List.length_nil, true_and, and_true, true_implies, false_implies, implies_true, not_true_eq_false, not_false_eq_true, false_and, and_false, if_true, if_false, or_true, true_or, or_false, false_or, Classical.not_not, and_self, Int.reduceAdd, Int.reduceMul, Int.reduceSub, Int.reduceNeg, Int.reduceLT, Int.reduceLE, Int.reduceEq, Int.reduceNe, Int.reduceToNat, Nat.reduceAdd, Nat.reduceMul, Nat.reduceSub, Nat.reduceLeDiff, Nat.reduceLT, Nat.reduceEqDiff, reduceIte, Nat.zero_le, Nat.le_refl, Nat.add_zero, Nat.zero_add, twT hT, twV hV]
      refine ⟨fun h => ?_, fun h => ?_⟩
      · have h' : ¬ goM (stT B n k) P := h
        rw [if_neg h'] at hQ
        refine ⟨0, 0, ⟨by omega, by omega⟩, tw_settle (d := d + 4) hT hV hS (by omega) ?_⟩
        intro w w1 w2
        have hVw := w1.pv hV
        have m1 := w2.2.2.1.1
        have e8w := w2.1.2.1
        simp (disch := (first | decide | omega)) only [jxs, hps, jtsw, jlsw, List.length_cons, List.length_nil, true_and, and_true, true_implies, false_implies, implies_true, not_true_eq_false, not_false_eq_true, false_and, and_false, if_true, if_false, or_true, true_or, or_false, false_or, Classical.not_not, and_self, Int.reduceAdd, Int.reduceMul, Int.reduceSub, Int.reduceNeg, Int.reduceLT, Int.reduceLE, Int.reduceEq, Int.reduceNe, Int.reduceToNat, Nat.reduceAdd, Nat.reduceMul, Nat.reduceSub, Nat.reduceLeDiff, Nat.reduceLT, Nat.reduceEqDiff, reduceIte, Nat.zero_le, Nat.le_refl, Nat.add_zero, Nat.zero_add, twT hT, twV hVw, m1]
        have k4 : ∀ e : Int, Q (.inl (some (vI e))) (w, T) → jW bX2_summed (g, d + 6, 0, 0, Q) 4 [some (vR 539), l1] [vI e] (w, T) 0 0 := by
          intro e hq
          refine jW_step ?_
          simp (disch := (first | decide | omega)) only [bX2_summed, jxs, hps, jtsw, jlsw, List.length_cons, List.length_nil, true_and, and_true, true_implies, false_implies, implies_true, not_true_eq_false, not_false_eq_true, false_and, and_false, if_true, if_false, or_true, true_or, or_false, false_or, Classical.not_not, and_self, Int.reduceAdd, Int.reduceMul, Int.reduceSub, Int.reduceNeg, Int.reduceLT, Int.reduceLE, Int.reduceEq, Int.reduceNe, Int.reduceToNat, Nat.reduceAdd, Nat.reduceMul, Nat.reduceSub, Nat.reduceLeDiff, Nat.reduceLT, Nat.reduceEqDiff, reduceIte, Nat.zero_le, Nat.le_refl, Nat.add_zero, Nat.zero_add]
          (repeat (refine And.intro (by (first | omega | assumption | trivial | (simp only [inI]; omega) | (simp only [inL]; omega) | (refine jb_01) | (exact jb_in))) ?_))
          exact hq
        by_cases c : (seM 3 P acc).1 = []
        · rw [if_pos c] at hQ
          rw [c] at w2 ⊢
          rw [List.length_nil]
          (try refine ⟨fun _ => ?_, fun h9 => (by exfalso; omega)⟩)
          exact k4 0 (hQ.2 _ rfl w w1 w2)
        · rw [if_neg c] at hQ
          have hl : 0 < (seM 3 P acc).1.length := List.length_pos_iff.2 c
          (first | refine ⟨fun h9 => (by exfalso; omega), fun _ => ?_⟩ | intro _)
          exact k4 1 (hQ.1 1 k rfl w w1 e8w)
      · exact k2 h
theorem tw_summed {k : Nat} {P : List Int} {acc : List (Int × Int)} {o z : Int} {v : Int → Int → Int} (hT : PT T) (hV : PV v) (hS : MS v B n k t P acc o z) (ha : acc.length ≤ k) (ho : 0 ≤ o ∧ o ≤ 8) (h20 : v 539 20 = kd - 200) (hQ : qSM Q v T t B n (smM B n kd (n + 1) 0 k [] acc o)) : jmet g (d + 7) 0 0 MX2_summed [vR 539] (v, T) Q := by
  have hk := hS.1.2.2.2.2.2
  have ej : ∀ j, j ≠ 17 → j ≠ 19 → (upA v 539 (up1 (up1 (v 539) 17 0) 19 0)) 539 j = v 539 j := fun j hj hj2 => by rw [upA_eq, up1_ne hj2, up1_ne hj]
  have xs : XS t v (upA v 539 (up1 (up1 (v 539) 17 0) 19 0)) := ⟨fun a a1 _ _ => upA_ne a1, fun j hj => ej j (by omega) (by omega), fun i _ => by rw [upA_ne (by decide)]⟩
  have S1 := hS.pl xs (fun j hj => ej j (by omega) (by omega)) (upA_ne (by decide)) (P' := []) ⟨by rw [upA_eq, up1_ne (by decide), up1_eq]; rfl, by simp, trivial⟩ ((ej 18 (by decide) (by decide)).trans hS.2.2.2.1) (z' := 0) (by rw [upA_eq, up1_eq])
  refine jmet_of (ls := [some (vR 539), none]) sX2_summed rfl (by decide +kernel) (by decide) rfl (by simp [jent]) ?_
  refine jW_step ?_
  simp (disch := (first | decide | omega)) only [bX2_summed, jxs, hps, jtsw, jlsw, List.length_cons, List.length_nil, true_and, and_true, true_implies, false_implies, implies_true, not_true_eq_false, not_false_eq_true, false_and, and_false, if_true, if_false, or_true, true_or, or_false, false_or, Classical.not_not, and_self, Int.reduceAdd, Int.reduceMul, Int.reduceSub, Int.reduceNeg, Int.reduceLT, Int.reduceLE, Int.reduceEq, Int.reduceNe, Int.reduceToNat, Nat.reduceAdd, Nat.reduceMul, Nat.reduceSub, Nat.reduceLeDiff, Nat.reduceLT, Nat.reduceEqDiff, reduceIte, Nat.zero_le, Nat.le_refl, Nat.add_zero, Nat.zero_add, twT hT, twV hV]
  (repeat (refine And.intro (by (first | omega | assumption | trivial | (simp only [inI]; omega) | (simp only [inL]; omega) | (refine jb_01) | (exact jb_in))) ?_))
  exact tw_summed_1 (n + 1) 0 k [] acc o _ _ (by omega) hT (xs.pv hV) S1 (Or.inl rfl) ⟨hk, by simp; omega, trivial, by show ((0 : Nat) : Int) ≤ o; omega, ho.2⟩ ((ej 20 (by decide) (by decide)).trans h20) (hQ.xs xs)
end TG
