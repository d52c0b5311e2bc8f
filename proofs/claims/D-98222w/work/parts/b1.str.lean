/-! ===== the class: strings; what its token reader's cells stand for ===== -/
-- MODE N
set_option maxRecDepth 100000
/-- a string of the old cells -/
def STR (v : Int → Int → Int) (T : jjT) (s : Int) (l : List Int) : Prop :=
  (jok T s 16 ∧ s < 400) ∧ v s 1 = 0 ∧ (jok T (v s 0) (-2) ∧ v s 0 < 400) ∧ jln T (v s 0) = l.length ∧ ∀ i : Int, 0 ≤ i → i < l.length → v (v s 0) i = li0 l i
def OLD (v : Int → Int → Int) (T : jjT) : Prop :=
  (jok T 5 (-9) ∧ jln T 5 = 29) ∧ (∀ w : Nat, w < 29 → STR v T (v 5 w) (WD w)) ∧ STR v T 8 SGL ∧
  (jok T 6 (-10) ∧ jln T 6 = 256 ∧ ∀ i, 0 ≤ i → i < 256 → jok T (v 6 i) 15 ∧ v 6 i < 400 ∧ v (v 6 i) 0 = i - 128) ∧ (jok T 7 (-8) ∧ jln T 7 = 0)
/-- what the old cells hold stays -/
theorem STR.fr {v w : Int → Int → Int} {T T' : jjT} {s : Int} {l : List Int} (h : STR v T s l) (e : ∀ a, 0 < a → a < 400 → w a = v a) (t : ∀ a, 0 < a → a < 400 → T'.1 a = T.1 a) (hn : 400 ≤ T'.2) : STR w T' s l := by
  obtain ⟨⟨⟨s1, s2, s3⟩, s4⟩, h2, ⟨⟨b1, b2, b3⟩, b4⟩, h4, h5⟩ := h
  have e1 := e s s1 s4
  have t1 := t s s1 s4
  have e2 := e _ b1 b4
  have t2 := t _ b1 b4
  unfold jln at h4
  refine ⟨⟨⟨s1, by omega, by rw [t1]; exact s3⟩, s4⟩, by rw [e1]; exact h2, ⟨⟨by rw [e1]; exact b1, by rw [e1]; omega, by rw [e1, t2]; exact b3⟩, by rw [e1]; exact b4⟩, ?_, fun i i0 i1 => ?_⟩
  · unfold jln
    rw [e1, t2]
    exact h4
  · rw [e1, e2]
    exact h5 i i0 i1
theorem OLD.fr {v w : Int → Int → Int} {T T' : jjT} (h : OLD v T) (e : ∀ a, 0 < a → a < 400 → w a = v a) (t : ∀ a, 0 < a → a < 400 → T'.1 a = T.1 a) (hn : 400 ≤ T'.2) : OLD w T' := by
  have jk : ∀ a c, a < 400 → jok T a c → jok T' a c := fun a c a4 q => ⟨q.1, by omega, by rw [t a q.1 a4]; exact q.2.2⟩
  have jl : ∀ a, 0 < a → a < 400 → jln T' a = jln T a := fun a a0 a4 => by unfold jln; rw [t a a0 a4]
  obtain ⟨⟨h1, h2⟩, h3, h4, ⟨h5, h6, h7⟩, h8, h9⟩ := h
  refine ⟨⟨jk _ _ (by omega) h1, by rw [jl 5 (by omega) (by omega)]; exact h2⟩, fun w0 hw => ?_, h4.fr e t hn, ⟨jk _ _ (by omega) h5, by rw [jl 6 (by omega) (by omega)]; exact h6, fun i i0 i1 => ?_⟩, jk _ _ (by omega) h8, by rw [jl 7 (by omega) (by omega)]; exact h9⟩
  · rw [e 5 (by omega) (by omega)]
    exact (h3 w0 hw).fr e t hn
  · have q := h7 i i0 i1
    rw [e 6 (by omega) (by omega), e _ q.1.1 q.2.1]
    exact ⟨jk _ _ q.2.1 q.1, q.2⟩
section XG
variable {g : jjG} {d : Nat} {T : jjT} {Q : jjQ} {v : Int → Int → Int}
theorem xj_coder {s : Int} (r1 : jok T s 16) (r2 : v s 1 = 0) (hQ : Q (.inl (some (vI 0))) (v, T)) : jmet g (d + 1) 0 0 MJ7_coder [vR s] (v, T) Q := by
  refine jmet_of (ls := [some (vR s)]) sJ7_coder rfl (by decide +kernel) (by decide) rfl (by simp [jent]) ?_
  refine jW_step ?_
  simp (disch := (first | decide | omega)) only [bJ7_coder, jxs, hps, jtsw, jlsw, List.length_cons, List.length_nil, true_and, and_true, true_implies, false_implies, implies_true, not_true_eq_false, not_false_eq_true, false_and, and_false, if_true, if_false, or_true, true_or, or_false, false_or, Classical.not_not, and_self, Int.reduceAdd, Int.reduceMul, Int.reduceSub, Int.reduceNeg, Int.reduceLT, Int.reduceLE, Int.reduceEq, Int.reduceNe, Int.reduceToNat, Nat.reduceAdd, Nat.reduceMul, Nat.reduceSub, Nat.reduceLeDiff, Nat.reduceLT, Nat.reduceEqDiff, reduceIte, Nat.zero_le, Nat.le_refl, Nat.add_zero, Nat.zero_add, r1, r2]
  refine jW_step ?_
  simp (disch := (first | decide | omega)) only [bJ7_coder, jxs, hps, jtsw, jlsw, List.length_cons, List.length_nil, true_and, and_true, true_implies, false_implies, implies_true, not_true_eq_false, not_false_eq_true, false_and, and_false, if_true, if_false, or_true, true_or, or_false, false_or, Classical.not_not, and_self, Int.reduceAdd, Int.reduceMul, Int.reduceSub, Int.reduceNeg, Int.reduceLT, Int.reduceLE, Int.reduceEq, Int.reduceNe, Int.reduceToNat, Nat.reduceAdd, Nat.reduceMul, Nat.reduceSub, Nat.reduceLeDiff, Nat.reduceLT, Nat.reduceEqDiff, reduceIte, Nat.zero_le, Nat.le_refl, Nat.add_zero, Nat.zero_add]
  have k : jokf .byte 0 := ⟨by omega, by omega⟩
  (repeat (refine And.intro (by (first | omega | assumption | trivial | (simp only [inI]; omega) | (simp only [inL]; omega) | (refine jb_01) | (exact jb_in))) ?_))
  exact hQ
theorem xj_length {s : Int} {l : List Int} (hS : STR v T s l) (hl : l.length < 1000) (hQ : Q (.inl (some (vI (l.length : Int)))) (v, T)) : jmet g (d + 2) 0 0 MJ7_length [vR s] (v, T) Q := by
  obtain ⟨⟨r1, s4⟩, r2, ⟨r3, r4⟩, r5, r6⟩ := hS
  refine jmet_of (ls := [some (vR s)]) sJ7_length rfl (by decide +kernel) (by decide) rfl (by simp [jent]) ?_
  refine jW_step ?_
  simp (disch := (first | decide | omega)) only [bJ7_length, jxs, hps, jtsw, jlsw, List.length_cons, List.length_nil, true_and, and_true, true_implies, false_implies, implies_true, not_true_eq_false, not_false_eq_true, false_and, and_false, if_true, if_false, or_true, true_or, or_false, false_or, Classical.not_not, and_self, Int.reduceAdd, Int.reduceMul, Int.reduceSub, Int.reduceNeg, Int.reduceLT, Int.reduceLE, Int.reduceEq, Int.reduceNe, Int.reduceToNat, Nat.reduceAdd, Nat.reduceMul, Nat.reduceSub, Nat.reduceLeDiff, Nat.reduceLT, Nat.reduceEqDiff, reduceIte, Nat.zero_le, Nat.le_refl, Nat.add_zero, Nat.zero_add, r1, r3, r5]
  refine ⟨0, 0, ⟨by omega, by omega⟩, xj_coder r1 r2 ?_⟩
  simp (disch := (first | decide | omega)) only [jxs, hps, jtsw, jlsw, List.length_cons, List.length_nil, true_and, and_true, true_implies, false_implies, implies_true, not_true_eq_false, not_false_eq_true, false_and, and_false, if_true, if_false, or_true, true_or, or_false, false_or, Classical.not_not, and_self, Int.reduceAdd, Int.reduceMul, Int.reduceSub, Int.reduceNeg, Int.reduceLT, Int.reduceLE, Int.reduceEq, Int.reduceNe, Int.reduceToNat, Nat.reduceAdd, Nat.reduceMul, Nat.reduceSub, Nat.reduceLeDiff, Nat.reduceLT, Nat.reduceEqDiff, reduceIte, Nat.zero_le, Nat.le_refl, Nat.add_zero, Nat.zero_add]
  rw [jshr_div ⟨by omega, by omega⟩ (by omega) (by omega)]
  have e : (l.length : Int) / 2 ^ (0 : Int).toNat = l.length := by simp
  rw [e]
  (repeat (refine And.intro (by (first | omega | assumption | trivial | (simp only [inI]; omega) | (simp only [inL]; omega) | (refine jb_01) | (exact jb_in))) ?_))
  exact hQ
theorem xj_isLatin1 {s : Int} (r1 : jok T s 16) (r2 : v s 1 = 0) (hQ : Q (.inl (some (vI 1))) (v, T)) : jmet g (d + 1) 0 0 MJ7_isLatin1 [vR s] (v, T) Q := by
  refine jmet_of (ls := [some (vR s)]) sJ7_isLatin1 rfl (by decide +kernel) (by decide) rfl (by simp [jent]) ?_
  refine jW_step ?_
  simp (disch := (first | decide | omega)) only [bJ7_isLatin1, jxs, hps, jtsw, jlsw, List.length_cons, List.length_nil, true_and, and_true, true_implies, false_implies, implies_true, not_true_eq_false, not_false_eq_true, false_and, and_false, if_true, if_false, or_true, true_or, or_false, false_or, Classical.not_not, and_self, Int.reduceAdd, Int.reduceMul, Int.reduceSub, Int.reduceNeg, Int.reduceLT, Int.reduceLE, Int.reduceEq, Int.reduceNe, Int.reduceToNat, Nat.reduceAdd, Nat.reduceMul, Nat.reduceSub, Nat.reduceLeDiff, Nat.reduceLT, Nat.reduceEqDiff, reduceIte, Nat.zero_le, Nat.le_refl, Nat.add_zero, Nat.zero_add, r1, r2]
  refine jW_step ?_
  simp (disch := (first | decide | omega)) only [bJ7_isLatin1, jxs, hps, jtsw, jlsw, List.length_cons, List.length_nil, true_and, and_true, true_implies, false_implies, implies_true, not_true_eq_false, not_false_eq_true, false_and, and_false, if_true, if_false, or_true, true_or, or_false, false_or, Classical.not_not, and_self, Int.reduceAdd, Int.reduceMul, Int.reduceSub, Int.reduceNeg, Int.reduceLT, Int.reduceLE, Int.reduceEq, Int.reduceNe, Int.reduceToNat, Nat.reduceAdd, Nat.reduceMul, Nat.reduceSub, Nat.reduceLeDiff, Nat.reduceLT, Nat.reduceEqDiff, reduceIte, Nat.zero_le, Nat.le_refl, Nat.add_zero, Nat.zero_add]
  (repeat (refine And.intro (by (first | omega | assumption | trivial | (simp only [inI]; omega) | (simp only [inL]; omega) | (refine jb_01) | (exact jb_in))) ?_))
  exact hQ
theorem xj_checkIndex3 {i n z : Int} (hi : 0 ≤ i ∧ i < n) (hQ : Q (.inl (some (vI i))) (v, T)) : jmet g (d + 1) 0 0 MJ2_checkIndex [vI i, vI n, vR z] (v, T) Q := by
  refine jmet_of (ls := [some (vI i), some (vI n), some (vR z)]) sJ2_checkIndex rfl (by decide +kernel) (by decide) rfl (by simp [jent]) ?_
  refine jW_step ?_
  simp (disch := (first | decide | omega)) only [bJ2_checkIndex, jxs, hps, jtsw, jlsw, List.length_cons, List.length_nil, true_and, and_true, true_implies, false_implies, implies_true, not_true_eq_false, not_false_eq_true, false_and, and_false, if_true, if_false, or_true, true_or, or_false, false_or, Classical.not_not, and_self, Int.reduceAdd, Int.reduceMul, Int.reduceSub, Int.reduceNeg, Int.reduceLT, Int.reduceLE, Int.reduceEq, Int.reduceNe, Int.reduceToNat, Nat.reduceAdd, Nat.reduceMul, Nat.reduceSub, Nat.reduceLeDiff, Nat.reduceLT, Nat.reduceEqDiff, reduceIte, Nat.zero_le, Nat.le_refl, Nat.add_zero, Nat.zero_add]
  (first | refine ⟨fun h9 => (by exfalso; omega), fun _ => ?_⟩ | intro _)
  (try refine ⟨fun _ => ?_, fun h9 => (by exfalso; omega)⟩)
  (repeat (refine And.intro (by (first | omega | assumption | trivial | (simp only [inI]; omega) | (simp only [inL]; omega) | (refine jb_01) | (exact jb_in))) ?_))
  exact hQ
theorem xj_checkIndex7 {i n : Int} (hi : 0 ≤ i ∧ i < n) (hQ : Q (.inl none) (v, T)) : jmet g (d + 2) 0 0 MJ7_checkIndex [vI i, vI n] (v, T) Q := by
  refine jmet_of (ls := [some (vI i), some (vI n)]) sJ7_checkIndex rfl (by decide +kernel) (by decide) rfl (by simp [jent]) ?_
  refine jW_step ?_
  simp (disch := (first | decide | omega)) only [bJ7_checkIndex, jxs, hps, jtsw, jlsw, List.length_cons, List.length_nil, true_and, and_true, true_implies, false_implies, implies_true, not_true_eq_false, not_false_eq_true, false_and, and_false, if_true, if_false, or_true, true_or, or_false, false_or, Classical.not_not, and_self, Int.reduceAdd, Int.reduceMul, Int.reduceSub, Int.reduceNeg, Int.reduceLT, Int.reduceLE, Int.reduceEq, Int.reduceNe, Int.reduceToNat, Nat.reduceAdd, Nat.reduceMul, Nat.reduceSub, Nat.reduceLeDiff, Nat.reduceLT, Nat.reduceEqDiff, reduceIte, Nat.zero_le, Nat.le_refl, Nat.add_zero, Nat.zero_add]
  refine ⟨⟨0, 0, ⟨by omega, by omega⟩, xj_checkIndex3 hi ?_⟩, ⟨0, 0, ⟨by omega, by omega⟩, xj_checkIndex3 hi ?_⟩⟩
  · simp (disch := (first | decide | omega)) only [jxs, hps, jtsw, jlsw, List.length_cons, List.length_nil, true_and, and_true, true_implies, false_implies, implies_true, not_true_eq_false, not_false_eq_true, false_and, and_false, if_true, if_false, or_true, true_or, or_false, false_or, Classical.not_not, and_self, Int.reduceAdd, Int.reduceMul, Int.reduceSub, Int.reduceNeg, Int.reduceLT, Int.reduceLE, Int.reduceEq, Int.reduceNe, Int.reduceToNat, Nat.reduceAdd, Nat.reduceMul, Nat.reduceSub, Nat.reduceLeDiff, Nat.reduceLT, Nat.reduceEqDiff, reduceIte, Nat.zero_le, Nat.le_refl, Nat.add_zero, Nat.zero_add]
    (repeat (refine And.intro (by (first | omega | assumption | trivial | (simp only [inI]; omega) | (simp only [inL]; omega) | (refine jb_01) | (exact jb_in))) ?_))
    exact hQ
  · simp (disch := (first | decide | omega)) only [jxs, hps, jtsw, jlsw, List.length_cons, List.length_nil, true_and, and_true, true_implies, false_implies, implies_true, not_true_eq_false, not_false_eq_true, false_and, and_false, if_true, if_false, or_true, true_or, or_false, false_or, Classical.not_not, and_self, Int.reduceAdd, Int.reduceMul, Int.reduceSub, Int.reduceNeg, Int.reduceLT, Int.reduceLE, Int.reduceEq, Int.reduceNe, Int.reduceToNat, Nat.reduceAdd, Nat.reduceMul, Nat.reduceSub, Nat.reduceLeDiff, Nat.reduceLT, Nat.reduceEqDiff, reduceIte, Nat.zero_le, Nat.le_refl, Nat.add_zero, Nat.zero_add]
    (repeat (refine And.intro (by (first | omega | assumption | trivial | (simp only [inI]; omega) | (simp only [inL]; omega) | (refine jb_01) | (exact jb_in))) ?_))
    exact hQ
theorem xj_charAt8 {b i n z : Int} (r1 : jok T b (-2)) (r2 : jln T b = n) (hi : 0 ≤ i ∧ i < n) (r3 : v b i = z) (hz : 0 ≤ z ∧ z < 128) (hQ : Q (.inl (some (vI z))) (v, T)) : jmet g (d + 3) 0 0 MJ8_charAt [vR b, vI i] (v, T) Q := by
  refine jmet_of (ls := [some (vR b), some (vI i)]) sJ8_charAt rfl (by decide +kernel) (by decide) rfl (by simp [jent]) ?_
  refine jW_step ?_
  simp (disch := (first | decide | omega)) only [bJ8_charAt, jxs, hps, jtsw, jlsw, List.length_cons, List.length_nil, true_and, and_true, true_implies, false_implies, implies_true, not_true_eq_false, not_false_eq_true, false_and, and_false, if_true, if_false, or_true, true_or, or_false, false_or, Classical.not_not, and_self, Int.reduceAdd, Int.reduceMul, Int.reduceSub, Int.reduceNeg, Int.reduceLT, Int.reduceLE, Int.reduceEq, Int.reduceNe, Int.reduceToNat, Nat.reduceAdd, Nat.reduceMul, Nat.reduceSub, Nat.reduceLeDiff, Nat.reduceLT, Nat.reduceEqDiff, reduceIte, Nat.zero_le, Nat.le_refl, Nat.add_zero, Nat.zero_add, r1, r2]
  refine ⟨0, 0, ⟨by omega, by omega⟩, xj_checkIndex7 hi ?_⟩
  simp (disch := (first | decide | omega)) only [jxs, hps, jtsw, jlsw, List.length_cons, List.length_nil, true_and, and_true, true_implies, false_implies, implies_true, not_true_eq_false, not_false_eq_true, false_and, and_false, if_true, if_false, or_true, true_or, or_false, false_or, Classical.not_not, and_self, Int.reduceAdd, Int.reduceMul, Int.reduceSub, Int.reduceNeg, Int.reduceLT, Int.reduceLE, Int.reduceEq, Int.reduceNe, Int.reduceToNat, Nat.reduceAdd, Nat.reduceMul, Nat.reduceSub, Nat.reduceLeDiff, Nat.reduceLT, Nat.reduceEqDiff, reduceIte, Nat.zero_le, Nat.le_refl, Nat.add_zero, Nat.zero_add, r1, r2, r3]
  rw [jand_255, show z % 256 = z by omega]
  have k : jokf .char z := ⟨by omega, by omega⟩
  (repeat (refine And.intro (by (first | omega | assumption | trivial | (simp only [inI]; omega) | (simp only [inL]; omega) | (refine jb_01) | (exact jb_in))) ?_))
  exact hQ
theorem xj_charAt {s i : Int} {l : List Int} (hS : STR v T s l) (hi : 0 ≤ i ∧ i < l.length) (hz : 0 ≤ li0 l i ∧ li0 l i < 128) (hQ : Q (.inl (some (vI (li0 l i)))) (v, T)) : jmet g (d + 4) 0 0 MJ7_charAt [vR s, vI i] (v, T) Q := by
  obtain ⟨⟨r1, s4⟩, r2, ⟨r3, r4⟩, r5, r6⟩ := hS
  refine jmet_of (ls := [some (vR s), some (vI i)]) sJ7_charAt rfl (by decide +kernel) (by decide) rfl (by simp [jent]) ?_
  refine jW_step ?_
  simp (disch := (first | decide | omega)) only [bJ7_charAt, jxs, hps, jtsw, jlsw, List.length_cons, List.length_nil, true_and, and_true, true_implies, false_implies, implies_true, not_true_eq_false, not_false_eq_true, false_and, and_false, if_true, if_false, or_true, true_or, or_false, false_or, Classical.not_not, and_self, Int.reduceAdd, Int.reduceMul, Int.reduceSub, Int.reduceNeg, Int.reduceLT, Int.reduceLE, Int.reduceEq, Int.reduceNe, Int.reduceToNat, Nat.reduceAdd, Nat.reduceMul, Nat.reduceSub, Nat.reduceLeDiff, Nat.reduceLT, Nat.reduceEqDiff, reduceIte, Nat.zero_le, Nat.le_refl, Nat.add_zero, Nat.zero_add, r1]
  refine ⟨0, 0, ⟨by omega, by omega⟩, xj_isLatin1 r1 r2 ?_⟩
  simp (disch := (first | decide | omega)) only [jxs, hps, jtsw, jlsw, List.length_cons, List.length_nil, true_and, and_true, true_implies, false_implies, implies_true, not_true_eq_false, not_false_eq_true, false_and, and_false, if_true, if_false, or_true, true_or, or_false, false_or, Classical.not_not, and_self, Int.reduceAdd, Int.reduceMul, Int.reduceSub, Int.reduceNeg, Int.reduceLT, Int.reduceLE, Int.reduceEq, Int.reduceNe, Int.reduceToNat, Nat.reduceAdd, Nat.reduceMul, Nat.reduceSub, Nat.reduceLeDiff, Nat.reduceLT, Nat.reduceEqDiff, reduceIte, Nat.zero_le, Nat.le_refl, Nat.add_zero, Nat.zero_add, r1]
  refine ⟨0, 0, ⟨by omega, by omega⟩, xj_charAt8 r3 r5 hi (r6 i hi.1 hi.2) hz ?_⟩
  have k : jokf .char (li0 l i) := ⟨by omega, by omega⟩
  simp (disch := (first | decide | omega)) only [jxs, hps, jtsw, jlsw, List.length_cons, List.length_nil, true_and, and_true, true_implies, false_implies, implies_true, not_true_eq_false, not_false_eq_true, false_and, and_false, if_true, if_false, or_true, true_or, or_false, false_or, Classical.not_not, and_self, Int.reduceAdd, Int.reduceMul, Int.reduceSub, Int.reduceNeg, Int.reduceLT, Int.reduceLE, Int.reduceEq, Int.reduceNe, Int.reduceToNat, Nat.reduceAdd, Nat.reduceMul, Nat.reduceSub, Nat.reduceLeDiff, Nat.reduceLT, Nat.reduceEqDiff, reduceIte, Nat.zero_le, Nat.le_refl, Nat.add_zero, Nat.zero_add]
  (repeat (refine And.intro (by (first | omega | assumption | trivial | (simp only [inI]; omega) | (simp only [inL]; omega) | (refine jb_01) | (exact jb_in))) ?_))
  exact hQ
theorem xj_min2 {a b : Int} (hQ : Q (.inl (some (vI (if b < a then b else a)))) (v, T)) (hr : inI a ∧ inI b) : jmet g (d + 1) 0 0 MJ3_min_2 [vI a, vI b] (v, T) Q := by
  obtain ⟨ha, hb⟩ := hr
  refine jmet_ofF (ls := [some (vI a), some (vI b)]) sJ3_min_2 rfl (by decide +kernel) (by decide) rfl (by simp [jent]) ?_
  refine jW_step ?_
  simp (disch := (first | decide | omega)) only [bJ3_min_2, jxs, hps, jtsw, jlsw, List.length_cons, List.length_nil, true_and, and_true, true_implies, false_implies, implies_true, not_true_eq_false, not_false_eq_true, false_and, and_false, if_true, if_false, or_true, true_or, or_false, false_or, Classical.not_not, and_self, Int.reduceAdd, Int.reduceMul, Int.reduceSub, Int.reduceNeg, Int.reduceLT, Int.reduceLE, Int.reduceEq, Int.reduceNe, Int.reduceToNat, Nat.reduceAdd, Nat.reduceMul, Nat.reduceSub, Nat.reduceLeDiff, Nat.reduceLT, Nat.reduceEqDiff, reduceIte, Nat.zero_le, Nat.le_refl, Nat.add_zero, Nat.zero_add]
  refine ⟨fun h => ?_, fun h => ?_⟩
  · rw [if_pos (by omega)] at hQ
    refine jW_step ?_
    simp (disch := (first | decide | omega)) only [bJ3_min_2, jxs, hps, jtsw, jlsw, List.length_cons, List.length_nil, true_and, and_true, true_implies, false_implies, implies_true, not_true_eq_false, not_false_eq_true, false_and, and_false, if_true, if_false, or_true, true_or, or_false, false_or, Classical.not_not, and_self, Int.reduceAdd, Int.reduceMul, Int.reduceSub, Int.reduceNeg, Int.reduceLT, Int.reduceLE, Int.reduceEq, Int.reduceNe, Int.reduceToNat, Nat.reduceAdd, Nat.reduceMul, Nat.reduceSub, Nat.reduceLeDiff, Nat.reduceLT, Nat.reduceEqDiff, reduceIte, Nat.zero_le, Nat.le_refl, Nat.add_zero, Nat.zero_add]
    (repeat (refine And.intro (by (first | omega | assumption | trivial | (simp only [inI]; omega) | (simp only [inL]; omega) | (refine jb_01) | (exact jb_in))) ?_))
    exact hQ
  · rw [if_neg (by omega)] at hQ
    refine jW_step ?_
    simp (disch := (first | decide | omega)) only [bJ3_min_2, jxs, hps, jtsw, jlsw, List.length_cons, List.length_nil, true_and, and_true, true_implies, false_implies, implies_true, not_true_eq_false, not_false_eq_true, false_and, and_false, if_true, if_false, or_true, true_or, or_false, false_or, Classical.not_not, and_self, Int.reduceAdd, Int.reduceMul, Int.reduceSub, Int.reduceNeg, Int.reduceLT, Int.reduceLE, Int.reduceEq, Int.reduceNe, Int.reduceToNat, Nat.reduceAdd, Nat.reduceMul, Nat.reduceSub, Nat.reduceLeDiff, Nat.reduceLT, Nat.reduceEqDiff, reduceIte, Nat.zero_le, Nat.le_refl, Nat.add_zero, Nat.zero_add]
    (repeat (refine And.intro (by (first | omega | assumption | trivial | (simp only [inI]; omega) | (simp only [inL]; omega) | (refine jb_01) | (exact jb_in))) ?_))
    exact hQ
theorem xw_isLetter {c : Int} (hQ : Q (.inl (some (vI (if isL c then 1 else 0)))) (v, T)) : jmet g (d + 1) 0 0 MX3_isLetter [vI c] (v, T) Q := by
  refine jmet_of (ls := [some (vI c)]) sX3_isLetter rfl (by decide +kernel) (by decide) rfl (by simp [jent]) ?_
  have k2 : isL c → jW bX3_isLetter (g, d, 0, 0, Q) 2 [some (vI c)] [] (v, T) 0 0 := by
    intro h
    rw [if_pos h] at hQ
    refine jW_step ?_
    simp (disch := (first | decide | omega)) only [bX3_isLetter, jxs, hps, jtsw, jlsw, List.length_cons, List.length_nil, true_and, and_true, true_implies, false_implies, implies_true, not_true_eq_false, not_false_eq_true, false_and, and_false, if_true, if_false, or_true, true_or, or_false, false_or, Classical.not_not, and_self, Int.reduceAdd, Int.reduceMul, Int.reduceSub, Int.reduceNeg, Int.reduceLT, Int.reduceLE, Int.reduceEq, Int.reduceNe, Int.reduceToNat, Nat.reduceAdd, Nat.reduceMul, Nat.reduceSub, Nat.reduceLeDiff, Nat.reduceLT, Nat.reduceEqDiff, reduceIte, Nat.zero_le, Nat.le_refl, Nat.add_zero, Nat.zero_add]
    refine jW_step ?_
    simp (disch := (first | decide | omega)) only [bX3_isLetter, jxs, hps, jtsw, jlsw, List.length_cons, List.length_nil, true_and, and_true, true_implies, false_implies, implies_true, not_true_eq_false, not_false_eq_true, false_and, and_false, if_true, if_false, or_true, true_or, or_false, false_or, Classical.not_not, and_self, Int.reduceAdd, Int.reduceMul, Int.reduceSub, Int.reduceNeg, Int.reduceLT, Int.reduceLE, Int.reduceEq, Int.reduceNe, Int.reduceToNat, Nat.reduceAdd, Nat.reduceMul, Nat.reduceSub, Nat.reduceLeDiff, Nat.reduceLT, Nat.reduceEqDiff, reduceIte, Nat.zero_le, Nat.le_refl, Nat.add_zero, Nat.zero_add]
    (repeat (refine And.intro (by (first | omega | assumption | trivial | (simp only [inI]; omega) | (simp only [inL]; omega) | (refine jb_01) | (exact jb_in))) ?_))
    exact hQ
  have k3 : ¬ isL c → jW bX3_isLetter (g, d, 0, 0, Q) 3 [some (vI c)] [] (v, T) 0 0 := by
    intro h
    rw [if_neg h] at hQ
    refine jW_step ?_
    simp (disch := (first | decide | omega)) only [bX3_isLetter, jxs, hps, jtsw, jlsw, List.length_cons, List.length_nil, true_and, and_true, true_implies, false_implies, implies_true, not_true_eq_false, not_false_eq_true, false_and, and_false, if_true, if_false, or_true, true_or, or_false, false_or, Classical.not_not, and_self, Int.reduceAdd, Int.reduceMul, Int.reduceSub, Int.reduceNeg, Int.reduceLT, Int.reduceLE, Int.reduceEq, Int.reduceNe, Int.reduceToNat, Nat.reduceAdd, Nat.reduceMul, Nat.reduceSub, Nat.reduceLeDiff, Nat.reduceLT, Nat.reduceEqDiff, reduceIte, Nat.zero_le, Nat.le_refl, Nat.add_zero, Nat.zero_add]
    refine jW_step ?_
    simp (disch := (first | decide | omega)) only [bX3_isLetter, jxs, hps, jtsw, jlsw, List.length_cons, List.length_nil, true_and, and_true, true_implies, false_implies, implies_true, not_true_eq_false, not_false_eq_true, false_and, and_false, if_true, if_false, or_true, true_or, or_false, false_or, Classical.not_not, and_self, Int.reduceAdd, Int.reduceMul, Int.reduceSub, Int.reduceNeg, Int.reduceLT, Int.reduceLE, Int.reduceEq, Int.reduceNe, Int.reduceToNat, Nat.reduceAdd, Nat.reduceMul, Nat.reduceSub, Nat.reduceLeDiff, Nat.reduceLT, Nat.reduceEqDiff, reduceIte, Nat.zero_le, Nat.le_refl, Nat.add_zero, Nat.zero_add]
    (repeat (refine And.intro (by (first | omega | assumption | trivial | (simp only [inI]; omega) | (simp only [inL]; omega) | (refine jb_01) | (exact jb_in))) ?_))
    exact hQ
  have k1 : ¬ (97 ≤ c ∧ c ≤ 122) → jW bX3_isLetter (g, d, 0, 0, Q) 1 [some (vI c)] [] (v, T) 0 0 := by
    intro h
    refine jW_step ?_
    simp (disch := (first | decide | omega)) only [bX3_isLetter, jxs, hps, jtsw, jlsw, List.length_cons, List.length_nil, true_and, and_true, true_implies, false_implies, implies_true, not_true_eq_false, not_false_eq_true, false_and, and_false, if_true, if_false, or_true, true_or, or_false, false_or, Classical.not_not, and_self, Int.reduceAdd, Int.reduceMul, Int.reduceSub, Int.reduceNeg, Int.reduceLT, Int.reduceLE, Int.reduceEq, Int.reduceNe, Int.reduceToNat, Nat.reduceAdd, Nat.reduceMul, Nat.reduceSub, Nat.reduceLeDiff, Nat.reduceLT, Nat.reduceEqDiff, reduceIte, Nat.zero_le, Nat.le_refl, Nat.add_zero, Nat.zero_add]
    refine ⟨fun h2 => ?_, fun h2 => ?_⟩
    · exact k3 (by unfold isL; omega)
    · refine ⟨fun h3 => ?_, fun h3 => ?_⟩
      · exact k3 (by unfold isL; omega)
      · exact k2 (by unfold isL; omega)
  refine jW_step ?_
  simp (disch := (first | decide | omega)) only [bX3_isLetter, jxs, hps, jtsw, jlsw, List.length_cons, List.length_nil, true_and, and_true, true_implies, false_implies, implies_true, not_true_eq_false, not_false_eq_true, false_and, and_false, if_true, if_false, or_true, true_or, or_false, false_or, Classical.not_not, and_self, Int.reduceAdd, Int.reduceMul, Int.reduceSub, Int.reduceNeg, Int.reduceLT, Int.reduceLE, Int.reduceEq, Int.reduceNe, Int.reduceToNat, Nat.reduceAdd, Nat.reduceMul, Nat.reduceSub, Nat.reduceLeDiff, Nat.reduceLT, Nat.reduceEqDiff, reduceIte, Nat.zero_le, Nat.le_refl, Nat.add_zero, Nat.zero_add]
  refine ⟨fun h => ?_, fun h => ?_⟩
  · exact k1 (by omega)
  · refine ⟨fun h2 => ?_, fun h2 => ?_⟩
    · exact k2 (by unfold isL; omega)
    · exact k1 (by omega)
theorem xw_isDigit {c : Int} (hQ : Q (.inl (some (vI (if isD c then 1 else 0)))) (v, T)) : jmet g (d + 1) 0 0 MX3_isDigit [vI c] (v, T) Q := by
  refine jmet_of (ls := [some (vI c)]) sX3_isDigit rfl (by decide +kernel) (by decide) rfl (by simp [jent]) ?_
  have k1 : ¬ isD c → jW bX3_isDigit (g, d, 0, 0, Q) 1 [some (vI c)] [] (v, T) 0 0 := by
    intro h
    rw [if_neg h] at hQ
    refine jW_step ?_
    simp (disch := (first | decide | omega)) only [bX3_isDigit, jxs, hps, jtsw, jlsw, List.length_cons, List.length_nil, true_and, and_true, true_implies, false_implies, implies_true, not_true_eq_false, not_false_eq_true, false_and, and_false, if_true, if_false, or_true, true_or, or_false, false_or, Classical.not_not, and_self, Int.reduceAdd, Int.reduceMul, Int.reduceSub, Int.reduceNeg, Int.reduceLT, Int.reduceLE, Int.reduceEq, Int.reduceNe, Int.reduceToNat, Nat.reduceAdd, Nat.reduceMul, Nat.reduceSub, Nat.reduceLeDiff, Nat.reduceLT, Nat.reduceEqDiff, reduceIte, Nat.zero_le, Nat.le_refl, Nat.add_zero, Nat.zero_add]
    refine jW_step ?_
    simp (disch := (first | decide | omega)) only [bX3_isDigit, jxs, hps, jtsw, jlsw, List.length_cons, List.length_nil, true_and, and_true, true_implies, false_implies, implies_true, not_true_eq_false, not_false_eq_true, false_and, and_false, if_true, if_false, or_true, true_or, or_false, false_or, Classical.not_not, and_self, Int.reduceAdd, Int.reduceMul, Int.reduceSub, Int.reduceNeg, Int.reduceLT, Int.reduceLE, Int.reduceEq, Int.reduceNe, Int.reduceToNat, Nat.reduceAdd, Nat.reduceMul, Nat.reduceSub, Nat.reduceLeDiff, Nat.reduceLT, Nat.reduceEqDiff, reduceIte, Nat.zero_le, Nat.le_refl, Nat.add_zero, Nat.zero_add]
    (repeat (refine And.intro (by (first | omega | assumption | trivial | (simp only [inI]; omega) | (simp only [inL]; omega) | (refine jb_01) | (exact jb_in))) ?_))
    exact hQ
  refine jW_step ?_
  simp (disch := (first | decide | omega)) only [bX3_isDigit, jxs, hps, jtsw, jlsw, List.length_cons, List.length_nil, true_and, and_true, true_implies, false_implies, implies_true, not_true_eq_false, not_false_eq_true, false_and, and_false, if_true, if_false, or_true, true_or, or_false, false_or, Classical.not_not, and_self, Int.reduceAdd, Int.reduceMul, Int.reduceSub, Int.reduceNeg, Int.reduceLT, Int.reduceLE, Int.reduceEq, Int.reduceNe, Int.reduceToNat, Nat.reduceAdd, Nat.reduceMul, Nat.reduceSub, Nat.reduceLeDiff, Nat.reduceLT, Nat.reduceEqDiff, reduceIte, Nat.zero_le, Nat.le_refl, Nat.add_zero, Nat.zero_add]
  refine ⟨fun h => ?_, fun h => ?_⟩
  · exact k1 (by unfold isD; omega)
  · refine ⟨fun h2 => ?_, fun h2 => ?_⟩
    · exact k1 (by unfold isD; omega)
    · rw [if_pos (by unfold isD; omega)] at hQ
      refine jW_step ?_
      simp (disch := (first | decide | omega)) only [bX3_isDigit, jxs, hps, jtsw, jlsw, List.length_cons, List.length_nil, true_and, and_true, true_implies, false_implies, implies_true, not_true_eq_false, not_false_eq_true, false_and, and_false, if_true, if_false, or_true, true_or, or_false, false_or, Classical.not_not, and_self, Int.reduceAdd, Int.reduceMul, Int.reduceSub, Int.reduceNeg, Int.reduceLT, Int.reduceLE, Int.reduceEq, Int.reduceNe, Int.reduceToNat, Nat.reduceAdd, Nat.reduceMul, Nat.reduceSub, Nat.reduceLeDiff, Nat.reduceLT, Nat.reduceEqDiff, reduceIte, Nat.zero_le, Nat.le_refl, Nat.add_zero, Nat.zero_add]
      (repeat (refine And.intro (by (first | omega | assumption | trivial | (simp only [inI]; omega) | (simp only [inL]; omega) | (refine jb_01) | (exact jb_in))) ?_))
      exact hQ
end XG
/-- the token reader: before it reads on; with a token -/
def TKN (v : Int → Int → Int) (T : jjT) (tk : Int) (B : Int → Int) (n k : Nat) (o kd : Int) : Prop :=
  (jok T tk 3 ∧ 562 ≤ tk) ∧ (v tk 0 = 521 ∧ v tk 1 = n ∧ v tk 2 = k ∧ v tk 6 = o ∧ v tk 7 = kd) ∧ (0 ≤ v tk 5 ∧ v tk 5 ≤ 99999) ∧
  (n ≤ 300 ∧ k ≤ n) ∧ (jok T 521 (-2) ∧ jln T 521 = 300) ∧ (∀ i : Nat, i < n → v 521 i = sgn (B i) ∧ (0 ≤ B i ∧ B i ≤ 255)) ∧ OLD v T ∧ 562 ≤ T.2
def TKS (v : Int → Int → Int) (T : jjT) (tk : Int) (B : Int → Int) (n k : Nat) (o kd : Int) : Prop :=
  TKN v T tk B n (nxT B n k) o kd ∧ v tk 3 = (pl B n k : Int) ∧ v tk 4 = stT B n k ∧ (stT B n k = 300 → v tk 5 = nuT B n k) ∧ k ≤ n
theorem sgn_eq {b c : Int} (h : 0 ≤ b ∧ b ≤ 255) (hc : 0 ≤ c ∧ c < 128) : sgn b = c ↔ b = c := by
  unfold sgn
  split <;> omega
theorem sgn_isL {b : Int} (h : 0 ≤ b ∧ b ≤ 255) : isL (sgn b) ↔ isL b := by
  unfold sgn isL
  split <;> omega
theorem sgn_isD {b : Int} (h : 0 ≤ b ∧ b ≤ 255) : isD (sgn b) ↔ isD b := by
  unfold sgn isD
  split <;> omega
theorem sgn_lo {b : Int} (h : 0 ≤ b ∧ b ≤ 255) (h2 : isL b ∨ isD b ∨ b < 128) : sgn b = b := by
  unfold isL isD at h2
  unfold sgn
  split <;> omega
