/-! ===== the class: what grows while a text is read; lists that grow ===== -/
-- MODE N
set_option maxRecDepth 100000
/-- all but one cell stay, new ones come -/
def GRT (tk : Int) (v : Int → Int → Int) (T : jjT) (w : Int → Int → Int) (T' : jjT) : Prop := T.2 ≤ T'.2 ∧ (∀ a, 0 < a → a < T.2 → T'.1 a = T.1 a) ∧ ∀ a, 0 < a → a < T.2 → a ≠ tk → w a = v a
theorem GRT.rf {tk : Int} {v : Int → Int → Int} {T : jjT} : GRT tk v T v T := ⟨Int.le_refl _, fun _ _ _ => rfl, fun _ _ _ _ => rfl⟩
theorem GRT.tr {tk : Int} {u v w : Int → Int → Int} {T T' T'' : jjT} (h : GRT tk u T v T') (h2 : GRT tk v T' w T'') : GRT tk u T w T'' :=
  ⟨by have := h.1; have := h2.1; omega, fun a a0 a1 => (h2.2.1 a a0 (by have := h.1; omega)).trans (h.2.1 a a0 a1), fun a a0 a1 a2 => (h2.2.2 a a0 (by have := h.1; omega) a2).trans (h.2.2 a a0 a1 a2)⟩
theorem GRT.of {tk : Int} {v w : Int → Int → Int} {T : jjT} (h : ∀ a, a ≠ tk → w a = v a) : GRT tk v T w T := ⟨Int.le_refl _, fun _ _ _ => rfl, fun a _ _ a2 => h a a2⟩
theorem GRT.ok {tk : Int} {v w : Int → Int → Int} {T T' : jjT} (h : GRT tk v T w T') {a c : Int} (q : jok T a c) : jok T' a c := ⟨q.1, by have := q.2.1; have := h.1; omega, by rw [h.2.1 a q.1 q.2.1]; exact q.2.2⟩
theorem GRT.ln {tk : Int} {v w : Int → Int → Int} {T T' : jjT} (h : GRT tk v T w T') {a c : Int} (q : jok T a c) : jln T' a = jln T a := by unfold jln; rw [h.2.1 a q.1 q.2.1]
theorem GRT.nt {tk : Int} {v : Int → Int → Int} {T : jjT} {c n : Int} {f : Int → Int} : GRT tk v T (upA v T.2 f) (nt T c n) :=
  ⟨by show T.2 ≤ T.2 + 1; omega, fun a _ a1 => by show (if a = T.2 then (c, n) else T.1 a) = T.1 a; rw [if_neg (by omega)], fun a _ a1 _ => upA_ne (by omega)⟩
/-- a cell that came later may be written -/
theorem GRT.wr {tk : Int} {v w : Int → Int → Int} {T T' : jjT} {a : Int} {f : Int → Int} (h : GRT tk v T w T') (ha : T.2 ≤ a ∨ a = tk) : GRT tk v T (upA w a f) T' :=
  ⟨h.1, h.2.1, fun b b0 b1 b2 => by rw [upA_ne (by omega)]; exact h.2.2 b b0 b1 b2⟩
theorem jok_nt {T : jjT} {a c c' n : Int} (q : jok T a c) : jok (nt T c' n) a c := (GRT.nt (tk := 0) (v := fun _ _ => 0) (f := fun _ => 0)).ok q
theorem jln_nt {T : jjT} {a c c' n : Int} (q : jok T a c) : jln (nt T c' n) a = jln T a := (GRT.nt (tk := 0) (v := fun _ _ => 0) (f := fun _ => 0)).ln q
theorem TKN.gr {v w : Int → Int → Int} {T T' : jjT} {tk : Int} {B : Int → Int} {n k : Nat} {o kd : Int} (h : TKN v T tk B n k o kd) (q : GRT tk v T w T') (e : w tk = v tk) : TKN w T' tk B n k o kd := by
  obtain ⟨⟨a1, a2⟩, b, c, e1, ⟨t1, l1⟩, tb, ho, h2⟩ := h
  have e21 : w 521 = v 521 := q.2.2 521 (by omega) (by omega) (by omega)
  refine ⟨⟨q.ok a1, a2⟩, by rw [e]; exact b, by rw [e]; exact c, e1, ⟨q.ok t1, by rw [q.ln t1]; exact l1⟩, fun i hi => by rw [e21]; exact tb i hi, ?_, by have := q.1; omega⟩
  exact ho.fr (fun a a0 a4 => q.2.2 a a0 (by omega) (by omega)) (fun a a0 a4 => q.2.1 a a0 (by omega)) (by have := q.1; omega)
theorem TKS.gr {v w : Int → Int → Int} {T T' : jjT} {tk : Int} {B : Int → Int} {n k : Nat} {o kd : Int} (h : TKS v T tk B n k o kd) (q : GRT tk v T w T') (e : w tk = v tk) : TKS w T' tk B n k o kd := by
  obtain ⟨h1, h2, h3, h4, h5⟩ := h
  exact ⟨h1.gr q e, by rw [e]; exact h2, by rw [e]; exact h3, by rw [e]; exact h4, h5⟩
/-- a fault is thrown -/
def qEr (Q : jjQ) (v : Int → Int → Int) (T : jjT) (tk f p : Int) : Prop := ∀ w T' a, GRT tk v T w T' → jok T' a 5 → 562 ≤ a → w a 0 = f → w a 1 = p → Q (.inr a) (w, T')
theorem qEr.gr {Q : jjQ} {v w : Int → Int → Int} {T T' : jjT} {tk f p : Int} (h : qEr Q v T tk f p) (q : GRT tk v T w T') : qEr Q w T' tk f p := fun u T'' a h1 h2 h3 h4 h5 => h u T'' a (q.tr h1) h2 h3 h4 h5
section XG
variable {g : jjG} {d : Nat} {T : jjT} {Q : jjQ} {v : Int → Int → Int}
theorem xj_rec {a : Int} (ha : 0 < a) (hQ : Q (.inl none) (v, T)) : jmet g (d + 2) 0 0 MJ12_init [vR a] (v, T) Q := by
  refine jmet_of (ls := [some (vR a)]) sJ12_initO rfl (by decide +kernel) (by decide) rfl (by simp [jent]) ?_
  refine jW_step ?_
  simp (disch := (first | decide | omega)) only [bJ12_initO, jxs, hps, jtsw, jlsw, List.length_cons, List.length_nil, true_and, and_true, true_implies, false_implies, implies_true, not_true_eq_false, not_false_eq_true, false_and, and_false, if_true, if_false, or_true, true_or, or_false, false_or, Classical.not_not, and_self, Int.reduceAdd, Int.reduceMul, Int.reduceSub, Int.reduceNeg, Int.reduceLT, Int.reduceLE, Int.reduceEq, Int.reduceNe, Int.reduceToNat, Nat.reduceAdd, Nat.reduceMul, Nat.reduceSub, Nat.reduceLeDiff, Nat.reduceLT, Nat.reduceEqDiff, reduceIte, Nat.zero_le, Nat.le_refl, Nat.add_zero, Nat.zero_add, jx_obj]
  (repeat (refine And.intro (by (first | omega | assumption | trivial | (simp only [inI]; omega) | (simp only [inL]; omega) | (refine jb_01) | (exact jb_in))) ?_))
  exact hQ
theorem xj_plain {a n : Int} (t : jok T a 8) (ha : 562 ≤ a) (hQ : Q (.inl none) (upA v a (up1 (v a) 0 n), T)) : jmet g (d + 3) 0 0 MX8_init [vR a, vI n] (v, T) Q := by
  refine jmet_of (ls := [some (vR a), some (vI n)]) sX8_init rfl (by decide +kernel) (by decide) rfl (by simp [jent]) ?_
  refine jW_step ?_
  simp (disch := (first | decide | omega)) only [bX8_init, jxs, hps, jtsw, jlsw, List.length_cons, List.length_nil, true_and, and_true, true_implies, false_implies, implies_true, not_true_eq_false, not_false_eq_true, false_and, and_false, if_true, if_false, or_true, true_or, or_false, false_or, Classical.not_not, and_self, Int.reduceAdd, Int.reduceMul, Int.reduceSub, Int.reduceNeg, Int.reduceLT, Int.reduceLE, Int.reduceEq, Int.reduceNe, Int.reduceToNat, Nat.reduceAdd, Nat.reduceMul, Nat.reduceSub, Nat.reduceLeDiff, Nat.reduceLT, Nat.reduceEqDiff, reduceIte, Nat.zero_le, Nat.le_refl, Nat.add_zero, Nat.zero_add, t]
  (repeat (refine And.intro (by (first | omega | assumption | trivial | (simp only [inI]; omega) | (simp only [inL]; omega) | (refine jb_01) | (exact jb_in))) ?_))
  refine ⟨0, 0, ⟨by omega, by omega⟩, xj_rec (by omega) ?_⟩
  simp (disch := (first | decide | omega)) only [jxs, hps, jtsw, jlsw, List.length_cons, List.length_nil, true_and, and_true, true_implies, false_implies, implies_true, not_true_eq_false, not_false_eq_true, false_and, and_false, if_true, if_false, or_true, true_or, or_false, false_or, Classical.not_not, and_self, Int.reduceAdd, Int.reduceMul, Int.reduceSub, Int.reduceNeg, Int.reduceLT, Int.reduceLE, Int.reduceEq, Int.reduceNe, Int.reduceToNat, Nat.reduceAdd, Nat.reduceMul, Nat.reduceSub, Nat.reduceLeDiff, Nat.reduceLT, Nat.reduceEqDiff, reduceIte, Nat.zero_le, Nat.le_refl, Nat.add_zero, Nat.zero_add, t]
  (repeat (refine And.intro (by (first | omega | assumption | trivial | (simp only [inI]; omega) | (simp only [inL]; omega) | (refine jb_01) | (exact jb_in))) ?_))
  exact hQ
theorem xj_name {a n : Int} (t : jok T a 9) (ha : 562 ≤ a) (hQ : Q (.inl none) (upA v a (up1 (v a) 0 n), T)) : jmet g (d + 3) 0 0 MX9_init [vR a, vI n] (v, T) Q := by
  refine jmet_of (ls := [some (vR a), some (vI n)]) sX9_init rfl (by decide +kernel) (by decide) rfl (by simp [jent]) ?_
  refine jW_step ?_
  simp (disch := (first | decide | omega)) only [bX9_init, jxs, hps, jtsw, jlsw, List.length_cons, List.length_nil, true_and, and_true, true_implies, false_implies, implies_true, not_true_eq_false, not_false_eq_true, false_and, and_false, if_true, if_false, or_true, true_or, or_false, false_or, Classical.not_not, and_self, Int.reduceAdd, Int.reduceMul, Int.reduceSub, Int.reduceNeg, Int.reduceLT, Int.reduceLE, Int.reduceEq, Int.reduceNe, Int.reduceToNat, Nat.reduceAdd, Nat.reduceMul, Nat.reduceSub, Nat.reduceLeDiff, Nat.reduceLT, Nat.reduceEqDiff, reduceIte, Nat.zero_le, Nat.le_refl, Nat.add_zero, Nat.zero_add, t]
  (repeat (refine And.intro (by (first | omega | assumption | trivial | (simp only [inI]; omega) | (simp only [inL]; omega) | (refine jb_01) | (exact jb_in))) ?_))
  refine ⟨0, 0, ⟨by omega, by omega⟩, xj_rec (by omega) ?_⟩
  simp (disch := (first | decide | omega)) only [jxs, hps, jtsw, jlsw, List.length_cons, List.length_nil, true_and, and_true, true_implies, false_implies, implies_true, not_true_eq_false, not_false_eq_true, false_and, and_false, if_true, if_false, or_true, true_or, or_false, false_or, Classical.not_not, and_self, Int.reduceAdd, Int.reduceMul, Int.reduceSub, Int.reduceNeg, Int.reduceLT, Int.reduceLE, Int.reduceEq, Int.reduceNe, Int.reduceToNat, Nat.reduceAdd, Nat.reduceMul, Nat.reduceSub, Nat.reduceLeDiff, Nat.reduceLT, Nat.reduceEqDiff, reduceIte, Nat.zero_le, Nat.le_refl, Nat.add_zero, Nat.zero_add, t]
  (repeat (refine And.intro (by (first | omega | assumption | trivial | (simp only [inI]; omega) | (simp only [inL]; omega) | (refine jb_01) | (exact jb_in))) ?_))
  exact hQ
theorem xj_minus {a x : Int} (t : jok T a 10) (ha : 562 ≤ a) (hQ : Q (.inl none) (upA v a (up1 (v a) 0 x), T)) : jmet g (d + 3) 0 0 MX10_init [vR a, vR x] (v, T) Q := by
  refine jmet_of (ls := [some (vR a), some (vR x)]) sX10_init rfl (by decide +kernel) (by decide) rfl (by simp [jent]) ?_
  refine jW_step ?_
  simp (disch := (first | decide | omega)) only [bX10_init, jxs, hps, jtsw, jlsw, List.length_cons, List.length_nil, true_and, and_true, true_implies, false_implies, implies_true, not_true_eq_false, not_false_eq_true, false_and, and_false, if_true, if_false, or_true, true_or, or_false, false_or, Classical.not_not, and_self, Int.reduceAdd, Int.reduceMul, Int.reduceSub, Int.reduceNeg, Int.reduceLT, Int.reduceLE, Int.reduceEq, Int.reduceNe, Int.reduceToNat, Nat.reduceAdd, Nat.reduceMul, Nat.reduceSub, Nat.reduceLeDiff, Nat.reduceLT, Nat.reduceEqDiff, reduceIte, Nat.zero_le, Nat.le_refl, Nat.add_zero, Nat.zero_add, t]
  (repeat (refine And.intro (by (first | omega | assumption | trivial | (simp only [inI]; omega) | (simp only [inL]; omega) | (refine jb_01) | (exact jb_in))) ?_))
  refine ⟨0, 0, ⟨by omega, by omega⟩, xj_rec (by omega) ?_⟩
  simp (disch := (first | decide | omega)) only [jxs, hps, jtsw, jlsw, List.length_cons, List.length_nil, true_and, and_true, true_implies, false_implies, implies_true, not_true_eq_false, not_false_eq_true, false_and, and_false, if_true, if_false, or_true, true_or, or_false, false_or, Classical.not_not, and_self, Int.reduceAdd, Int.reduceMul, Int.reduceSub, Int.reduceNeg, Int.reduceLT, Int.reduceLE, Int.reduceEq, Int.reduceNe, Int.reduceToNat, Nat.reduceAdd, Nat.reduceMul, Nat.reduceSub, Nat.reduceLeDiff, Nat.reduceLT, Nat.reduceEqDiff, reduceIte, Nat.zero_le, Nat.le_refl, Nat.add_zero, Nat.zero_add, t]
  (repeat (refine And.intro (by (first | omega | assumption | trivial | (simp only [inI]; omega) | (simp only [inL]; omega) | (refine jb_01) | (exact jb_in))) ?_))
  exact hQ
theorem xj_not {a x : Int} (t : jok T a 6) (ha : 562 ≤ a) (hQ : Q (.inl none) (upA v a (up1 (v a) 0 x), T)) : jmet g (d + 3) 0 0 MX6_init [vR a, vR x] (v, T) Q := by
  refine jmet_of (ls := [some (vR a), some (vR x)]) sX6_init rfl (by decide +kernel) (by decide) rfl (by simp [jent]) ?_
  refine jW_step ?_
  simp (disch := (first | decide | omega)) only [bX6_init, jxs, hps, jtsw, jlsw, List.length_cons, List.length_nil, true_and, and_true, true_implies, false_implies, implies_true, not_true_eq_false, not_false_eq_true, false_and, and_false, if_true, if_false, or_true, true_or, or_false, false_or, Classical.not_not, and_self, Int.reduceAdd, Int.reduceMul, Int.reduceSub, Int.reduceNeg, Int.reduceLT, Int.reduceLE, Int.reduceEq, Int.reduceNe, Int.reduceToNat, Nat.reduceAdd, Nat.reduceMul, Nat.reduceSub, Nat.reduceLeDiff, Nat.reduceLT, Nat.reduceEqDiff, reduceIte, Nat.zero_le, Nat.le_refl, Nat.add_zero, Nat.zero_add, t]
  (repeat (refine And.intro (by (first | omega | assumption | trivial | (simp only [inI]; omega) | (simp only [inL]; omega) | (refine jb_01) | (exact jb_in))) ?_))
  refine ⟨0, 0, ⟨by omega, by omega⟩, xj_rec (by omega) ?_⟩
  simp (disch := (first | decide | omega)) only [jxs, hps, jtsw, jlsw, List.length_cons, List.length_nil, true_and, and_true, true_implies, false_implies, implies_true, not_true_eq_false, not_false_eq_true, false_and, and_false, if_true, if_false, or_true, true_or, or_false, false_or, Classical.not_not, and_self, Int.reduceAdd, Int.reduceMul, Int.reduceSub, Int.reduceNeg, Int.reduceLT, Int.reduceLE, Int.reduceEq, Int.reduceNe, Int.reduceToNat, Nat.reduceAdd, Nat.reduceMul, Nat.reduceSub, Nat.reduceLeDiff, Nat.reduceLT, Nat.reduceEqDiff, reduceIte, Nat.zero_le, Nat.le_refl, Nat.add_zero, Nat.zero_add, t]
  (repeat (refine And.intro (by (first | omega | assumption | trivial | (simp only [inI]; omega) | (simp only [inL]; omega) | (refine jb_01) | (exact jb_in))) ?_))
  exact hQ
theorem xj_cmpd {a s x y : Int} (t : jok T a 11) (ha : 562 ≤ a) (hQ : Q (.inl none) (upA v a (up1 (up1 (up1 (v a) 0 s) 1 x) 2 y), T)) : jmet g (d + 3) 0 0 MX11_init [vR a, vI s, vR x, vR y] (v, T) Q := by
  refine jmet_of (ls := [some (vR a), some (vI s), some (vR x), some (vR y)]) sX11_init rfl (by decide +kernel) (by decide) rfl (by simp [jent]) ?_
  refine jW_step ?_
  simp (disch := (first | decide | omega)) only [bX11_init, jxs, hps, jtsw, jlsw, List.length_cons, List.length_nil, true_and, and_true, true_implies, false_implies, implies_true, not_true_eq_false, not_false_eq_true, false_and, and_false, if_true, if_false, or_true, true_or, or_false, false_or, Classical.not_not, and_self, Int.reduceAdd, Int.reduceMul, Int.reduceSub, Int.reduceNeg, Int.reduceLT, Int.reduceLE, Int.reduceEq, Int.reduceNe, Int.reduceToNat, Nat.reduceAdd, Nat.reduceMul, Nat.reduceSub, Nat.reduceLeDiff, Nat.reduceLT, Nat.reduceEqDiff, reduceIte, Nat.zero_le, Nat.le_refl, Nat.add_zero, Nat.zero_add, t]
  (repeat (refine And.intro (by (first | omega | assumption | trivial | (simp only [inI]; omega) | (simp only [inL]; omega) | (refine jb_01) | (exact jb_in))) ?_))
  refine ⟨0, 0, ⟨by omega, by omega⟩, xj_rec (by omega) ?_⟩
  simp (disch := (first | decide | omega)) only [jxs, hps, jtsw, jlsw, List.length_cons, List.length_nil, true_and, and_true, true_implies, false_implies, implies_true, not_true_eq_false, not_false_eq_true, false_and, and_false, if_true, if_false, or_true, true_or, or_false, false_or, Classical.not_not, and_self, Int.reduceAdd, Int.reduceMul, Int.reduceSub, Int.reduceNeg, Int.reduceLT, Int.reduceLE, Int.reduceEq, Int.reduceNe, Int.reduceToNat, Nat.reduceAdd, Nat.reduceMul, Nat.reduceSub, Nat.reduceLeDiff, Nat.reduceLT, Nat.reduceEqDiff, reduceIte, Nat.zero_le, Nat.le_refl, Nat.add_zero, Nat.zero_add, t]
  (repeat (refine And.intro (by (first | omega | assumption | trivial | (simp only [inI]; omega) | (simp only [inL]; omega) | (refine jb_01) | (exact jb_in))) ?_))
  exact hQ
theorem xj_all {a s x : Int} (t : jok T a 12) (ha : 562 ≤ a) (hs : 0 ≤ s ∧ s ≤ 1) (hQ : Q (.inl none) (upA v a (up1 (up1 (v a) 0 s) 1 x), T)) : jmet g (d + 3) 0 0 MX12_init [vR a, vI s, vR x] (v, T) Q := by
  refine jmet_of (ls := [some (vR a), some (vI s), some (vR x)]) sX12_init rfl (by decide +kernel) (by decide) rfl (by simp [jent]) ?_
  refine jW_step ?_
  simp (disch := (first | decide | omega)) only [bX12_init, jxs, hps, jtsw, jlsw, List.length_cons, List.length_nil, true_and, and_true, true_implies, false_implies, implies_true, not_true_eq_false, not_false_eq_true, false_and, and_false, if_true, if_false, or_true, true_or, or_false, false_or, Classical.not_not, and_self, Int.reduceAdd, Int.reduceMul, Int.reduceSub, Int.reduceNeg, Int.reduceLT, Int.reduceLE, Int.reduceEq, Int.reduceNe, Int.reduceToNat, Nat.reduceAdd, Nat.reduceMul, Nat.reduceSub, Nat.reduceLeDiff, Nat.reduceLT, Nat.reduceEqDiff, reduceIte, Nat.zero_le, Nat.le_refl, Nat.add_zero, Nat.zero_add, t]
  (repeat (refine And.intro (by (first | omega | assumption | trivial | (simp only [inI]; omega) | (simp only [inL]; omega) | (refine jb_01) | (exact jb_in))) ?_))
  refine ⟨0, 0, ⟨by omega, by omega⟩, xj_rec (by omega) ?_⟩
  simp (disch := (first | decide | omega)) only [jxs, hps, jtsw, jlsw, List.length_cons, List.length_nil, true_and, and_true, true_implies, false_implies, implies_true, not_true_eq_false, not_false_eq_true, false_and, and_false, if_true, if_false, or_true, true_or, or_false, false_or, Classical.not_not, and_self, Int.reduceAdd, Int.reduceMul, Int.reduceSub, Int.reduceNeg, Int.reduceLT, Int.reduceLE, Int.reduceEq, Int.reduceNe, Int.reduceToNat, Nat.reduceAdd, Nat.reduceMul, Nat.reduceSub, Nat.reduceLeDiff, Nat.reduceLT, Nat.reduceEqDiff, reduceIte, Nat.zero_le, Nat.le_refl, Nat.add_zero, Nat.zero_add, t]
  (repeat (refine And.intro (by (first | omega | assumption | trivial | (simp only [inI]; omega) | (simp only [inL]; omega) | (refine jb_01) | (exact jb_in))) ?_))
  exact hQ
theorem xj_doing {a s x y z c : Int} (t : jok T a 13) (ha : 562 ≤ a) (hQ : Q (.inl none) (upA v a (up1 (up1 (up1 (up1 (up1 (v a) 0 s) 1 x) 2 y) 3 z) 4 c), T)) : jmet g (d + 3) 0 0 MX13_init [vR a, vI s, vI x, vI y, vI z, vI c] (v, T) Q := by
  refine jmet_of (ls := [some (vR a), some (vI s), some (vI x), some (vI y), some (vI z), some (vI c)]) sX13_init rfl (by decide +kernel) (by decide) rfl (by simp [jent]) ?_
  refine jW_step ?_
  simp (disch := (first | decide | omega)) only [bX13_init, jxs, hps, jtsw, jlsw, List.length_cons, List.length_nil, true_and, and_true, true_implies, false_implies, implies_true, not_true_eq_false, not_false_eq_true, false_and, and_false, if_true, if_false, or_true, true_or, or_false, false_or, Classical.not_not, and_self, Int.reduceAdd, Int.reduceMul, Int.reduceSub, Int.reduceNeg, Int.reduceLT, Int.reduceLE, Int.reduceEq, Int.reduceNe, Int.reduceToNat, Nat.reduceAdd, Nat.reduceMul, Nat.reduceSub, Nat.reduceLeDiff, Nat.reduceLT, Nat.reduceEqDiff, reduceIte, Nat.zero_le, Nat.le_refl, Nat.add_zero, Nat.zero_add, t]
  (repeat (refine And.intro (by (first | omega | assumption | trivial | (simp only [inI]; omega) | (simp only [inL]; omega) | (refine jb_01) | (exact jb_in))) ?_))
  refine ⟨0, 0, ⟨by omega, by omega⟩, xj_rec (by omega) ?_⟩
  simp (disch := (first | decide | omega)) only [jxs, hps, jtsw, jlsw, List.length_cons, List.length_nil, true_and, and_true, true_implies, false_implies, implies_true, not_true_eq_false, not_false_eq_true, false_and, and_false, if_true, if_false, or_true, true_or, or_false, false_or, Classical.not_not, and_self, Int.reduceAdd, Int.reduceMul, Int.reduceSub, Int.reduceNeg, Int.reduceLT, Int.reduceLE, Int.reduceEq, Int.reduceNe, Int.reduceToNat, Nat.reduceAdd, Nat.reduceMul, Nat.reduceSub, Nat.reduceLeDiff, Nat.reduceLT, Nat.reduceEqDiff, reduceIte, Nat.zero_le, Nat.le_refl, Nat.add_zero, Nat.zero_add, t]
  (repeat (refine And.intro (by (first | omega | assumption | trivial | (simp only [inI]; omega) | (simp only [inL]; omega) | (refine jb_01) | (exact jb_in))) ?_))
  exact hQ
theorem xj_wrongI {a f p : Int} (t : jok T a 5) (ha : 562 ≤ a) (hQ : Q (.inl none) (upA v a (up1 (up1 (v a) 0 f) 1 p), T)) : jmet g (d + 8) 0 0 MX5_init [vR a, vI f, vI p] (v, T) Q := by
  refine jmet_of (ls := [some (vR a), some (vI f), some (vI p)]) sX5_init rfl (by decide +kernel) (by decide) rfl (by simp [jent]) ?_
  refine jW_step ?_
  simp (disch := (first | decide | omega)) only [bX5_init, jxs, hps, jtsw, jlsw, List.length_cons, List.length_nil, true_and, and_true, true_implies, false_implies, implies_true, not_true_eq_false, not_false_eq_true, false_and, and_false, if_true, if_false, or_true, true_or, or_false, false_or, Classical.not_not, and_self, Int.reduceAdd, Int.reduceMul, Int.reduceSub, Int.reduceNeg, Int.reduceLT, Int.reduceLE, Int.reduceEq, Int.reduceNe, Int.reduceToNat, Nat.reduceAdd, Nat.reduceMul, Nat.reduceSub, Nat.reduceLeDiff, Nat.reduceLT, Nat.reduceEqDiff, reduceIte, Nat.zero_le, Nat.le_refl, Nat.add_zero, Nat.zero_add, t]
  (repeat (refine And.intro (by (first | omega | assumption | trivial | (simp only [inI]; omega) | (simp only [inL]; omega) | (refine jb_01) | (exact jb_in))) ?_))
  have k : jmet g (d + 7) 0 0 MJ11_init [vR a] (v, T) (jres (g, d + 7, 0, 0, Q) (ji_aload 0 (ji_iload 1 (ji_putfI 5 0 (ji_aload 0 (ji_iload 2 (ji_putfI 5 1 (ji_return (g, d + 7, 0, 0, Q)))))))) [some (vR a), some (vI f), some (vI p)] [] 0 0) := by
    refine jmet_of (ls := [some (vR a)]) sJ11_init rfl (by decide +kernel) (by decide) rfl (by simp [jent]) ?_
    refine jW_step ?_
    simp (disch := (first | decide | omega)) only [bJ11_init, jxs, hps, jtsw, jlsw, List.length_cons, List.length_nil, true_and, and_true, true_implies, false_implies, implies_true, not_true_eq_false, not_false_eq_true, false_and, and_false, if_true, if_false, or_true, true_or, or_false, false_or, Classical.not_not, and_self, Int.reduceAdd, Int.reduceMul, Int.reduceSub, Int.reduceNeg, Int.reduceLT, Int.reduceLE, Int.reduceEq, Int.reduceNe, Int.reduceToNat, Nat.reduceAdd, Nat.reduceMul, Nat.reduceSub, Nat.reduceLeDiff, Nat.reduceLT, Nat.reduceEqDiff, reduceIte, Nat.zero_le, Nat.le_refl, Nat.add_zero, Nat.zero_add]
    (repeat (refine And.intro (by (first | omega | assumption | trivial | (simp only [inI]; omega) | (simp only [inL]; omega) | (refine jb_01) | (exact jb_in))) ?_))
    refine ⟨0, 0, ⟨by omega, by omega⟩, xj_thrInit ⟨t, by omega⟩ ?_⟩
    simp (disch := (first | decide | omega)) only [jxs, hps, jtsw, jlsw, List.length_cons, List.length_nil, true_and, and_true, true_implies, false_implies, implies_true, not_true_eq_false, not_false_eq_true, false_and, and_false, if_true, if_false, or_true, true_or, or_false, false_or, Classical.not_not, and_self, Int.reduceAdd, Int.reduceMul, Int.reduceSub, Int.reduceNeg, Int.reduceLT, Int.reduceLE, Int.reduceEq, Int.reduceNe, Int.reduceToNat, Nat.reduceAdd, Nat.reduceMul, Nat.reduceSub, Nat.reduceLeDiff, Nat.reduceLT, Nat.reduceEqDiff, reduceIte, Nat.zero_le, Nat.le_refl, Nat.add_zero, Nat.zero_add, t]
    (repeat (refine And.intro (by (first | omega | assumption | trivial | (simp only [inI]; omega) | (simp only [inL]; omega) | (refine jb_01) | (exact jb_in))) ?_))
    exact hQ
  exact ⟨0, 0, ⟨by omega, by omega⟩, k⟩
theorem xw_wrong {tk f : Int} (t : jok T tk 3) (h2 : 562 ≤ T.2) (hQ : Q (.inl (some (vR T.2))) (upA v T.2 (up1 (up1 (fun _ => 0) 0 f) 1 (v tk 3)), nt T 5 8)) : jmet g (d + 9) 1 8 MX3_wrong [vR tk, vI f] (v, T) Q := by
  have tn : jok (nt T 5 8) T.2 5 := nt_ok (by omega)
  have tt : jok (nt T 5 8) tk 3 := jok_nt t
  have ne : ¬ tk = T.2 := by have := t.2.1; omega
  refine jmet_of (ls := [some (vR tk), some (vI f)]) sX3_wrong rfl (by decide +kernel) (by decide) rfl (by simp [jent]) ?_
  refine jW_step ?_
  simp (disch := (first | decide | omega)) only [bX3_wrong, jxs, hps, jtsw, jlsw, List.length_cons, List.length_nil, true_and, and_true, true_implies, false_implies, implies_true, not_true_eq_false, not_false_eq_true, false_and, and_false, if_true, if_false, or_true, true_or, or_false, false_or, Classical.not_not, and_self, Int.reduceAdd, Int.reduceMul, Int.reduceSub, Int.reduceNeg, Int.reduceLT, Int.reduceLE, Int.reduceEq, Int.reduceNe, Int.reduceToNat, Nat.reduceAdd, Nat.reduceMul, Nat.reduceSub, Nat.reduceLeDiff, Nat.reduceLT, Nat.reduceEqDiff, reduceIte, Nat.zero_le, Nat.le_refl, Nat.add_zero, Nat.zero_add, jnew_eq, tt]
  (repeat (refine And.intro (by (first | omega | assumption | trivial | (simp only [inI]; omega) | (simp only [inL]; omega) | (refine jb_01) | (exact jb_in))) ?_))
  refine ⟨0, 0, ⟨by omega, by omega⟩, xj_wrongI tn h2 ?_⟩
  rw [upA_eq, upA_same]
  simp (disch := (first | decide | omega)) only [jxs, hps, jtsw, jlsw, List.length_cons, List.length_nil, true_and, and_true, true_implies, false_implies, implies_true, not_true_eq_false, not_false_eq_true, false_and, and_false, if_true, if_false, or_true, true_or, or_false, false_or, Classical.not_not, and_self, Int.reduceAdd, Int.reduceMul, Int.reduceSub, Int.reduceNeg, Int.reduceLT, Int.reduceLE, Int.reduceEq, Int.reduceNe, Int.reduceToNat, Nat.reduceAdd, Nat.reduceMul, Nat.reduceSub, Nat.reduceLeDiff, Nat.reduceLT, Nat.reduceEqDiff, reduceIte, Nat.zero_le, Nat.le_refl, Nat.add_zero, Nat.zero_add]
  (repeat (refine And.intro (by (first | omega | assumption | trivial | (simp only [inI]; omega) | (simp only [inL]; omega) | (refine jb_01) | (exact jb_in))) ?_))
  exact hQ
/-- a list that grows: how many, how much room -/
def gcp (c : Int) : Int := if c = 0 then 10 else c + c / 2
def GLS (v : Int → Int → Int) (T : jjT) (L n c : Int) : Prop := aLst (v, T) L n ∧ jln T (v L 1) = c ∧ 562 ≤ L ∧ ((c = 0 ∧ v L 1 = 7) ∨ (10 ≤ c ∧ 562 ≤ v L 1)) ∧ (v L 0 = n ∧ n ≤ 600 ∧ c ≤ 1000)
theorem GLS.ne {L n c : Int} (h : GLS v T L n c) : v L 1 ≠ L := by
  intro e
  have a := h.1.1.2.2
  have b := h.1.2.2.2.1.2.2
  dsimp only at a b
  rw [e, a] at b
  omega
theorem GLS.fr {v w : Int → Int → Int} {T T' : jjT} {L n c : Int} (h : GLS v T L n c) (e : w L = v L) (ty : ∀ a, 0 < a → a < T.2 → T'.1 a = T.1 a) (hn : T.2 ≤ T'.2) : GLS w T' L n c := by
  obtain ⟨⟨l1, l2, l3, l4, l5⟩, h2, h3, h4, h5⟩ := h
  dsimp only at l1 l2 l4 l5
  have j : ∀ a c, jok T a c → jok T' a c := fun a c q => ⟨q.1, by have := q.2.1; omega, by rw [ty a q.1 q.2.1]; exact q.2.2⟩
  have jl : jln T' (v L 1) = jln T (v L 1) := by unfold jln; rw [ty _ l4.1 l4.2.1]
  refine ⟨⟨j _ _ l1, by dsimp only; rw [e]; exact l2, l3, by dsimp only; rw [e]; exact j _ _ l4, by dsimp only; rw [e, jl]; exact l5⟩, by rw [e, jl]; exact h2, h3, by rw [e]; exact h4, by rw [e]; exact h5⟩
theorem xj_linit {L : Int} (t : jok T L 14) (hL : 562 ≤ L) (hQ : Q (.inl none) (upA v L (up1 (up1 (v L) 0 0) 1 7), T)) : jmet g (d + 5) 0 0 MJ6_init [vR L] (v, T) Q := by
  have k4 : ∀ (Q : jjQ), Q (.inl none) (v, T) → jmet g (d + 3) 0 0 MJ4_init [vR L] (v, T) Q := by
    intro Q hQ
    refine jmet_of (ls := [some (vR L)]) sJ4_initO rfl (by decide +kernel) (by decide) rfl (by simp [jent]) ?_
    refine jW_step ?_
    simp (disch := (first | decide | omega)) only [bJ4_initO, jxs, hps, jtsw, jlsw, List.length_cons, List.length_nil, true_and, and_true, true_implies, false_implies, implies_true, not_true_eq_false, not_false_eq_true, false_and, and_false, if_true, if_false, or_true, true_or, or_false, false_or, Classical.not_not, and_self, Int.reduceAdd, Int.reduceMul, Int.reduceSub, Int.reduceNeg, Int.reduceLT, Int.reduceLE, Int.reduceEq, Int.reduceNe, Int.reduceToNat, Nat.reduceAdd, Nat.reduceMul, Nat.reduceSub, Nat.reduceLeDiff, Nat.reduceLT, Nat.reduceEqDiff, reduceIte, Nat.zero_le, Nat.le_refl, Nat.add_zero, Nat.zero_add, jx_obj]
    (repeat (refine And.intro (by (first | omega | assumption | trivial | (simp only [inI]; omega) | (simp only [inL]; omega) | (refine jb_01) | (exact jb_in))) ?_))
    exact hQ
  have k5 : ∀ (Q : jjQ), Q (.inl none) (upA v L (up1 (v L) 0 0), T) → jmet g (d + 4) 0 0 MJ5_init [vR L] (v, T) Q := by
    intro Q hQ
    refine jmet_of (ls := [some (vR L)]) sJ5_init rfl (by decide +kernel) (by decide) rfl (by simp [jent]) ?_
    refine jW_step ?_
    simp (disch := (first | decide | omega)) only [bJ5_init, jxs, hps, jtsw, jlsw, List.length_cons, List.length_nil, true_and, and_true, true_implies, false_implies, implies_true, not_true_eq_false, not_false_eq_true, false_and, and_false, if_true, if_false, or_true, true_or, or_false, false_or, Classical.not_not, and_self, Int.reduceAdd, Int.reduceMul, Int.reduceSub, Int.reduceNeg, Int.reduceLT, Int.reduceLE, Int.reduceEq, Int.reduceNe, Int.reduceToNat, Nat.reduceAdd, Nat.reduceMul, Nat.reduceSub, Nat.reduceLeDiff, Nat.reduceLT, Nat.reduceEqDiff, reduceIte, Nat.zero_le, Nat.le_refl, Nat.add_zero, Nat.zero_add, t]
    (repeat (refine And.intro (by (first | omega | assumption | trivial | (simp only [inI]; omega) | (simp only [inL]; omega) | (refine jb_01) | (exact jb_in))) ?_))
    refine ⟨0, 0, ⟨by omega, by omega⟩, k4 _ ?_⟩
    simp (disch := (first | decide | omega)) only [jxs, hps, jtsw, jlsw, List.length_cons, List.length_nil, true_and, and_true, true_implies, false_implies, implies_true, not_true_eq_false, not_false_eq_true, false_and, and_false, if_true, if_false, or_true, true_or, or_false, false_or, Classical.not_not, and_self, Int.reduceAdd, Int.reduceMul, Int.reduceSub, Int.reduceNeg, Int.reduceLT, Int.reduceLE, Int.reduceEq, Int.reduceNe, Int.reduceToNat, Nat.reduceAdd, Nat.reduceMul, Nat.reduceSub, Nat.reduceLeDiff, Nat.reduceLT, Nat.reduceEqDiff, reduceIte, Nat.zero_le, Nat.le_refl, Nat.add_zero, Nat.zero_add, t]
    (repeat (refine And.intro (by (first | omega | assumption | trivial | (simp only [inI]; omega) | (simp only [inL]; omega) | (refine jb_01) | (exact jb_in))) ?_))
    exact hQ
  refine jmet_of (ls := [some (vR L)]) sJ6_init rfl (by decide +kernel) (by decide) rfl (by simp [jent]) ?_
  refine jW_step ?_
  simp (disch := (first | decide | omega)) only [bJ6_init, jxs, hps, jtsw, jlsw, List.length_cons, List.length_nil, true_and, and_true, true_implies, false_implies, implies_true, not_true_eq_false, not_false_eq_true, false_and, and_false, if_true, if_false, or_true, true_or, or_false, false_or, Classical.not_not, and_self, Int.reduceAdd, Int.reduceMul, Int.reduceSub, Int.reduceNeg, Int.reduceLT, Int.reduceLE, Int.reduceEq, Int.reduceNe, Int.reduceToNat, Nat.reduceAdd, Nat.reduceMul, Nat.reduceSub, Nat.reduceLeDiff, Nat.reduceLT, Nat.reduceEqDiff, reduceIte, Nat.zero_le, Nat.le_refl, Nat.add_zero, Nat.zero_add]
  (repeat (refine And.intro (by (first | omega | assumption | trivial | (simp only [inI]; omega) | (simp only [inL]; omega) | (refine jb_01) | (exact jb_in))) ?_))
  refine ⟨0, 0, ⟨by omega, by omega⟩, k5 _ ?_⟩
  simp (disch := (first | decide | omega)) only [jxs, hps, jtsw, jlsw, List.length_cons, List.length_nil, true_and, and_true, true_implies, false_implies, implies_true, not_true_eq_false, not_false_eq_true, false_and, and_false, if_true, if_false, or_true, true_or, or_false, false_or, Classical.not_not, and_self, Int.reduceAdd, Int.reduceMul, Int.reduceSub, Int.reduceNeg, Int.reduceLT, Int.reduceLE, Int.reduceEq, Int.reduceNe, Int.reduceToNat, Nat.reduceAdd, Nat.reduceMul, Nat.reduceSub, Nat.reduceLeDiff, Nat.reduceLT, Nat.reduceEqDiff, reduceIte, Nat.zero_le, Nat.le_refl, Nat.add_zero, Nat.zero_add, t]
  (repeat (refine And.intro (by (first | omega | assumption | trivial | (simp only [inI]; omega) | (simp only [inL]; omega) | (refine jb_01) | (exact jb_in))) ?_))
  exact hQ
end XG
