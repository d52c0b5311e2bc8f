/-! ===== the class: what sums and questions come to ===== -/
-- MODE N
set_option maxRecDepth 100000
def okN (N : Int → Int) : Prop := ∀ i, 0 ≤ i → i < 15 → -1000000 ≤ N i ∧ N i ≤ 1000000
abbrev bdM (z : Int) : Prop := -1000000 ≤ z ∧ z ≤ 1000000
theorem VR.isa {h : jjH} {n : Nat} {a : Int} {c : List (Int × Int)} (q : VR h n a c) : jisA h.2 a [7, 8, 9, 10] := by
  cases n with
  | zero => unfold VR at q; exact q.elim
  | succ n =>
    unfold VR at q
    rcases q.2 with q | q | q | q
    · exact ⟨8, by decide, q.1⟩
    · exact ⟨9, by decide, q.1⟩
    · exact ⟨10, by decide, q.1⟩
    · exact ⟨7, by decide, q.1⟩
theorem TR.isa {h : jjH} {n : Nat} {a : Int} {c : List (Int × Int)} (q : TR h n a c) : jisA h.2 a [6, 11, 12] := by
  cases n with
  | zero => unfold TR at q; exact q.elim
  | succ n =>
    unfold TR at q
    rcases q.2 with q | q | q
    · exact ⟨11, by decide, q.1⟩
    · exact ⟨6, by decide, q.1⟩
    · exact ⟨12, by decide, q.1⟩
theorem TR.nz {h : jjH} {n : Nat} {a : Int} {c : List (Int × Int)} (q : TR h n a c) : 0 < a := by
  obtain ⟨ci, _, q2⟩ := q.isa
  exact q2.1
theorem VR.nz {h : jjH} {n : Nat} {a : Int} {c : List (Int × Int)} (q : VR h n a c) : 0 < a := by
  obtain ⟨ci, _, q2⟩ := q.isa
  exact q2.1
theorem twoz_43 {z y : Int} : twoz (sgo 43) z y = clipz (z + y) := by
  unfold twoz
  rw [show sgo 43 = 3 from by decide, if_pos rfl]
theorem twoz_45 {z y : Int} : twoz (sgo 45) z y = clipz (z - y) := by
  unfold twoz
  rw [show sgo 45 = 4 from by decide, if_neg (by decide), if_pos rfl]
theorem twoz_42 {z y : Int} : twoz (sgo 42) z y = clipz (z * y) := by
  unfold twoz
  rw [show sgo 42 = 5 from by decide, if_neg (by decide), if_neg (by decide), if_pos rfl]
theorem twoz_47 {z y : Int} : twoz (sgo 47) z y = if y = 0 then 0 else clipz (z.tdiv y) := by
  unfold twoz
  rw [show sgo 47 = 6 from by decide, if_neg (by decide), if_neg (by decide), if_neg (by decide)]
theorem sgo_bd (x : Int) : 3 ≤ sgo x ∧ sgo x < 10 := by
  unfold sgo
  repeat' split
  all_goals omega
theorem clipz_0 : clipz 0 = 0 := by decide
section XG
variable {g : jjG} {d : Nat} {T : jjT} {v : Int → Int → Int}
theorem xw_ch_2 {Q : jjQ} {a k s z y x t : Int} (hx : inL x) (hk : 0 ≤ k ∧ k < 1000) (ht : clipz x = t)
    (hQ : jW bX7_of (g, d + 3, 0, 0, Q) 1 [some (vR a), some (vR 522), some (vL t), none, some (vI (k + 1)), none, none, none, none, none] [] (v, T) 0 0) :
    jW bX7_of (g, d + 3, 0, 0, Q) 2 [some (vR a), some (vR 522), some (vL z), none, some (vI k), some (vL y), none, some (vI s), none, none] [vL x] (v, T) 0 0 := by
  refine jW_step ?_
  simp (disch := (first | decide | omega)) only [bX7_of, jxs, hps, jtsw, jlsw, List.length_cons, List.length_nil, true_and, and_true, true_implies, false_implies, implies_true, not_true_eq_false, not_false_eq_true, false_and, and_false, if_true, if_false, or_true, true_or, or_false, false_or, Classical.not_not, and_self, Int.reduceAdd, Int.reduceMul, Int.reduceSub, Int.reduceNeg, Int.reduceLT, Int.reduceLE, Int.reduceEq, Int.reduceNe, Int.reduceToNat, Nat.reduceAdd, Nat.reduceMul, Nat.reduceSub, Nat.reduceLeDiff, Nat.reduceLT, Nat.reduceEqDiff, reduceIte, Nat.zero_le, Nat.le_refl, Nat.add_zero, Nat.zero_add]
  refine ⟨0, 0, ⟨by omega, by omega⟩, xj_min ?_⟩
  simp (disch := (first | decide | omega)) only [jxs, hps, jtsw, jlsw, List.length_cons, List.length_nil, true_and, and_true, true_implies, false_implies, implies_true, not_true_eq_false, not_false_eq_true, false_and, and_false, if_true, if_false, or_true, true_or, or_false, false_or, Classical.not_not, and_self, Int.reduceAdd, Int.reduceMul, Int.reduceSub, Int.reduceNeg, Int.reduceLT, Int.reduceLE, Int.reduceEq, Int.reduceNe, Int.reduceToNat, Nat.reduceAdd, Nat.reduceMul, Nat.reduceSub, Nat.reduceLeDiff, Nat.reduceLT, Nat.reduceEqDiff, reduceIte, Nat.zero_le, Nat.le_refl, Nat.add_zero, Nat.zero_add]
  refine ⟨0, 0, ⟨by omega, by omega⟩, xj_max ?_⟩
  simp (disch := (first | decide | omega)) only [jxs, hps, jtsw, jlsw, List.length_cons, List.length_nil, true_and, and_true, true_implies, false_implies, implies_true, not_true_eq_false, not_false_eq_true, false_and, and_false, if_true, if_false, or_true, true_or, or_false, false_or, Classical.not_not, and_self, Int.reduceAdd, Int.reduceMul, Int.reduceSub, Int.reduceNeg, Int.reduceLT, Int.reduceLE, Int.reduceEq, Int.reduceNe, Int.reduceToNat, Nat.reduceAdd, Nat.reduceMul, Nat.reduceSub, Nat.reduceLeDiff, Nat.reduceLT, Nat.reduceEqDiff, reduceIte, Nat.zero_le, Nat.le_refl, Nat.add_zero, Nat.zero_add]
  (repeat (refine And.intro (by (first | omega | assumption | trivial | (simp only [inI]; omega) | (simp only [inL]; omega) | (refine jb_01) | (exact jb_in))) ?_))
  have e : (if -1000000 < (if x < 1000000 then x else 1000000) then (if x < 1000000 then x else 1000000) else -1000000) = t := by
    rw [← ht]
    unfold clipz
    by_cases h1 : x < 1000000
    · rw [if_pos h1, if_neg (show ¬ 1000000 < x by omega)]
      by_cases h2 : -1000000 < x
      · rw [if_pos h2, if_neg (by omega)]
      · rw [if_neg h2]
        split <;> omega
    · rw [if_neg h1, if_pos (by omega)]
      split <;> omega
  rw [e]
  exact jW_sub (by simp [jsub]) hQ
theorem xw_of (hT : PT T) (hN : okN (v 522)) : ∀ (n : Nat) (a : Int) (c : List (Int × Int)) (d : Nat), VR (v, T) n a c →
    ∃ q ∈ [(8, MX8_of), (9, MX9_of), (10, MX10_of), (7, MX7_of)], jok T a q.1 ∧ ∀ Q : jjQ, (∀ z, RV (v 522) c z → bdM z → Q (.inl (some (vL z))) (v, T)) → jmet g (d + n + 4) 0 0 q.2 [vR a, vR 522] (v, T) Q := by
  have t1 := pt_522 hT
  have t2 := pl_522 hT
  intro n
  induction n with
  | zero =>
    intro a c d q
    unfold VR at q
    exact q.elim
  | succ n ih =>
    intro a c d q
    unfold VR at q
    obtain ⟨z0, q⟩ := q
    rcases q with ⟨k, q1, q2⟩ | ⟨k, q1, q2⟩ | ⟨k, c', q1, q2⟩ | ⟨k, m, cs, q1, q2, q3, q4, q5⟩
    · refine ⟨(8, MX8_of), .head _, k, fun Q hQ => ?_⟩
      dsimp only at k q1 q2
      have := hQ (v a 0) (by rw [q1]; intro s; rfl) ⟨by omega, by omega⟩
      refine jmet_of (ls := [some (vR a), some (vR 522)]) sX8_of rfl (by decide +kernel) (by decide) rfl (by simp [jent]) ?_
      refine jW_step ?_
      simp (disch := (first | decide | omega)) only [bX8_of, jxs, hps, jtsw, jlsw, List.length_cons, List.length_nil, true_and, and_true, true_implies, false_implies, implies_true, not_true_eq_false, not_false_eq_true, false_and, and_false, if_true, if_false, or_true, true_or, or_false, false_or, Classical.not_not, and_self, Int.reduceAdd, Int.reduceMul, Int.reduceSub, Int.reduceNeg, Int.reduceLT, Int.reduceLE, Int.reduceEq, Int.reduceNe, Int.reduceToNat, Nat.reduceAdd, Nat.reduceMul, Nat.reduceSub, Nat.reduceLeDiff, Nat.reduceLT, Nat.reduceEqDiff, reduceIte, Nat.zero_le, Nat.le_refl, Nat.add_zero, Nat.zero_add, k]
      (repeat (refine And.intro (by (first | omega | assumption | trivial | (simp only [inI]; omega) | (simp only [inL]; omega) | (refine jb_01) | (exact jb_in))) ?_))
      exact this
    · refine ⟨(9, MX9_of), .tail _ (.head _), k, fun Q hQ => ?_⟩
      dsimp only at k q1 q2
      have := hQ (v 522 (v a 0)) (by rw [q1]; intro s; rfl) (hN _ q2.1 q2.2)
      refine jmet_of (ls := [some (vR a), some (vR 522)]) sX9_of rfl (by decide +kernel) (by decide) rfl (by simp [jent]) ?_
      refine jW_step ?_
      simp (disch := (first | decide | omega)) only [bX9_of, jxs, hps, jtsw, jlsw, List.length_cons, List.length_nil, true_and, and_true, true_implies, false_implies, implies_true, not_true_eq_false, not_false_eq_true, false_and, and_false, if_true, if_false, or_true, true_or, or_false, false_or, Classical.not_not, and_self, Int.reduceAdd, Int.reduceMul, Int.reduceSub, Int.reduceNeg, Int.reduceLT, Int.reduceLE, Int.reduceEq, Int.reduceNe, Int.reduceToNat, Nat.reduceAdd, Nat.reduceMul, Nat.reduceSub, Nat.reduceLeDiff, Nat.reduceLT, Nat.reduceEqDiff, reduceIte, Nat.zero_le, Nat.le_refl, Nat.add_zero, Nat.zero_add, k, t1, t2]
      (repeat (refine And.intro (by (first | omega | assumption | trivial | (simp only [inI]; omega) | (simp only [inL]; omega) | (refine jb_01) | (exact jb_in))) ?_))
      exact this
    · dsimp only at k q1 q2
      refine ⟨(10, MX10_of), .tail _ (.tail _ (.head _)), k, fun Q hQ => ?_⟩
      obtain ⟨q, p1, p2, p3⟩ := ih _ _ d q1
      refine jmet_of (ls := [some (vR a), some (vR 522)]) sX10_of rfl (by decide +kernel) (by decide) rfl (by simp [jent]) ?_
      refine jW_step ?_
      simp (disch := (first | decide | omega)) only [bX10_of, jxs, hps, jtsw, jlsw, List.length_cons, List.length_nil, true_and, and_true, true_implies, false_implies, implies_true, not_true_eq_false, not_false_eq_true, false_and, and_false, if_true, if_false, or_true, true_or, or_false, false_or, Classical.not_not, and_self, Int.reduceAdd, Int.reduceMul, Int.reduceSub, Int.reduceNeg, Int.reduceLT, Int.reduceLE, Int.reduceEq, Int.reduceNe, Int.reduceToNat, Nat.reduceAdd, Nat.reduceMul, Nat.reduceSub, Nat.reduceLeDiff, Nat.reduceLT, Nat.reduceEqDiff, reduceIte, Nat.zero_le, Nat.le_refl, Nat.add_zero, Nat.zero_add, k]
      refine ⟨q, p1, p2, 0, 0, ⟨by omega, by omega⟩, p3 _ ?_⟩
      intro z hz hb
      simp (disch := (first | decide | omega)) only [jxs, hps, jtsw, jlsw, List.length_cons, List.length_nil, true_and, and_true, true_implies, false_implies, implies_true, not_true_eq_false, not_false_eq_true, false_and, and_false, if_true, if_false, or_true, true_or, or_false, false_or, Classical.not_not, and_self, Int.reduceAdd, Int.reduceMul, Int.reduceSub, Int.reduceNeg, Int.reduceLT, Int.reduceLE, Int.reduceEq, Int.reduceNe, Int.reduceToNat, Nat.reduceAdd, Nat.reduceMul, Nat.reduceSub, Nat.reduceLeDiff, Nat.reduceLT, Nat.reduceEqDiff, reduceIte, Nat.zero_le, Nat.le_refl, Nat.add_zero, Nat.zero_add]
      (repeat (refine And.intro (by (first | omega | assumption | trivial | (simp only [inI]; omega) | (simp only [inL]; omega) | (refine jb_01) | (exact jb_in))) ?_))
      exact hQ (-z) (by rw [q2]; exact hz.neg) ⟨by omega, by omega⟩
    · dsimp only at k q1 q2 q3 q4 q5
      refine ⟨(7, MX7_of), .tail _ (.tail _ (.tail _ (.head _))), k, fun Q hQ => ?_⟩
      have key : ∀ (r j : Nat) (z : Int), j + r = m → RV (v 522) (chc cs (fun k => sgo (v (aGet (v, T) (v a 2) k) 0)) j) z → bdM z → jW bX7_of (g, d + n + 4, 0, 0, Q) 1 [some (vR a), some (vR 522), some (vL z), none, some (vI (j : Int)), none, none, none, none, none] [] (v, T) 0 0 := by
        intro r
        induction r with
        | zero =>
          intro j z hj hz hb
          refine jW_step ?_
          simp (disch := (first | decide | omega)) only [bX7_of, jxs, hps, jtsw, jlsw, List.length_cons, List.length_nil, true_and, and_true, true_implies, false_implies, implies_true, not_true_eq_false, not_false_eq_true, false_and, and_false, if_true, if_false, or_true, true_or, or_false, false_or, Classical.not_not, and_self, Int.reduceAdd, Int.reduceMul, Int.reduceSub, Int.reduceNeg, Int.reduceLT, Int.reduceLE, Int.reduceEq, Int.reduceNe, Int.reduceToNat, Nat.reduceAdd, Nat.reduceMul, Nat.reduceSub, Nat.reduceLeDiff, Nat.reduceLT, Nat.reduceEqDiff, reduceIte, Nat.zero_le, Nat.le_refl, Nat.add_zero, Nat.zero_add, k]
          refine ⟨q2.1.1, 0, 0, ⟨by omega, by omega⟩, xj_size q2.1 ?_⟩
          simp (disch := (first | decide | omega)) only [jxs, hps, jtsw, jlsw, List.length_cons, List.length_nil, true_and, and_true, true_implies, false_implies, implies_true, not_true_eq_false, not_false_eq_true, false_and, and_false, if_true, if_false, or_true, true_or, or_false, false_or, Classical.not_not, and_self, Int.reduceAdd, Int.reduceMul, Int.reduceSub, Int.reduceNeg, Int.reduceLT, Int.reduceLE, Int.reduceEq, Int.reduceNe, Int.reduceToNat, Nat.reduceAdd, Nat.reduceMul, Nat.reduceSub, Nat.reduceLeDiff, Nat.reduceLT, Nat.reduceEqDiff, reduceIte, Nat.zero_le, Nat.le_refl, Nat.add_zero, Nat.zero_add]
          (try refine ⟨fun _ => ?_, fun h9 => (by exfalso; omega)⟩)
          (repeat (refine And.intro (by (first | omega | assumption | trivial | (simp only [inI]; omega) | (simp only [inL]; omega) | (refine jb_01) | (exact jb_in))) ?_))
          refine hQ z ?_ hb
          rw [q5, show m = j by omega]
          exact hz
        | succ r ihr =>
          intro j z hj hz hb
          have hm := q2.1.2.2.1
          have w := q4 j (by omega)
          obtain ⟨q, p1, p2, p3⟩ := ih _ _ d w.1
          refine jW_step ?_
          simp (disch := (first | decide | omega)) only [bX7_of, jxs, hps, jtsw, jlsw, List.length_cons, List.length_nil, true_and, and_true, true_implies, false_implies, implies_true, not_true_eq_false, not_false_eq_true, false_and, and_false, if_true, if_false, or_true, true_or, or_false, false_or, Classical.not_not, and_self, Int.reduceAdd, Int.reduceMul, Int.reduceSub, Int.reduceNeg, Int.reduceLT, Int.reduceLE, Int.reduceEq, Int.reduceNe, Int.reduceToNat, Nat.reduceAdd, Nat.reduceMul, Nat.reduceSub, Nat.reduceLeDiff, Nat.reduceLT, Nat.reduceEqDiff, reduceIte, Nat.zero_le, Nat.le_refl, Nat.add_zero, Nat.zero_add, k]
          refine ⟨q2.1.1, 0, 0, ⟨by omega, by omega⟩, xj_size q2.1 ?_⟩
          simp (disch := (first | decide | omega)) only [jxs, hps, jtsw, jlsw, List.length_cons, List.length_nil, true_and, and_true, true_implies, false_implies, implies_true, not_true_eq_false, not_false_eq_true, false_and, and_false, if_true, if_false, or_true, true_or, or_false, false_or, Classical.not_not, and_self, Int.reduceAdd, Int.reduceMul, Int.reduceSub, Int.reduceNeg, Int.reduceLT, Int.reduceLE, Int.reduceEq, Int.reduceNe, Int.reduceToNat, Nat.reduceAdd, Nat.reduceMul, Nat.reduceSub, Nat.reduceLeDiff, Nat.reduceLT, Nat.reduceEqDiff, reduceIte, Nat.zero_le, Nat.le_refl, Nat.add_zero, Nat.zero_add, k]
          (first | refine ⟨fun h9 => (by exfalso; omega), fun _ => ?_⟩ | intro _)
          refine ⟨q2.1.1, 0, 0, ⟨by omega, by omega⟩, xj_get q2.1 ⟨by omega, by omega⟩ ?_⟩
          simp (disch := (first | decide | omega)) only [jxs, hps, jtsw, jlsw, List.length_cons, List.length_nil, true_and, and_true, true_implies, false_implies, implies_true, not_true_eq_false, not_false_eq_true, false_and, and_false, if_true, if_false, or_true, true_or, or_false, false_or, Classical.not_not, and_self, Int.reduceAdd, Int.reduceMul, Int.reduceSub, Int.reduceNeg, Int.reduceLT, Int.reduceLE, Int.reduceEq, Int.reduceNe, Int.reduceToNat, Nat.reduceAdd, Nat.reduceMul, Nat.reduceSub, Nat.reduceLeDiff, Nat.reduceLT, Nat.reduceEqDiff, reduceIte, Nat.zero_le, Nat.le_refl, Nat.add_zero, Nat.zero_add]
          refine ⟨Or.inr w.1.isa, ?_⟩
          refine ⟨q, p1, p2, 0, 0, ⟨by omega, by omega⟩, p3 _ ?_⟩
          intro y hy hyb
          simp (disch := (first | decide | omega)) only [jxs, hps, jtsw, jlsw, List.length_cons, List.length_nil, true_and, and_true, true_implies, false_implies, implies_true, not_true_eq_false, not_false_eq_true, false_and, and_false, if_true, if_false, or_true, true_or, or_false, false_or, Classical.not_not, and_self, Int.reduceAdd, Int.reduceMul, Int.reduceSub, Int.reduceNeg, Int.reduceLT, Int.reduceLE, Int.reduceEq, Int.reduceNe, Int.reduceToNat, Nat.reduceAdd, Nat.reduceMul, Nat.reduceSub, Nat.reduceLeDiff, Nat.reduceLT, Nat.reduceEqDiff, reduceIte, Nat.zero_le, Nat.le_refl, Nat.add_zero, Nat.zero_add, k]
          refine ⟨q3.1.1, 0, 0, ⟨by omega, by omega⟩, xj_get q3.1 ⟨by omega, by omega⟩ ?_⟩
          simp (disch := (first | decide | omega)) only [jxs, hps, jtsw, jlsw, List.length_cons, List.length_nil, true_and, and_true, true_implies, false_implies, implies_true, not_true_eq_false, not_false_eq_true, false_and, and_false, if_true, if_false, or_true, true_or, or_false, false_or, Classical.not_not, and_self, Int.reduceAdd, Int.reduceMul, Int.reduceSub, Int.reduceNeg, Int.reduceLT, Int.reduceLE, Int.reduceEq, Int.reduceNe, Int.reduceToNat, Nat.reduceAdd, Nat.reduceMul, Nat.reduceSub, Nat.reduceLeDiff, Nat.reduceLT, Nat.reduceEqDiff, reduceIte, Nat.zero_le, Nat.le_refl, Nat.add_zero, Nat.zero_add]
          have w2 := w.2
          have hz2 : ∀ t, t = twoz (sgo (v (aGet (v, T) (v a 2) (j : Int)) 0)) z y → RV (v 522) (chc cs (fun k => sgo (v (aGet (v, T) (v a 2) k) 0)) (j + 1)) t ∧ bdM t := by
            intro t ht
            refine ⟨?_, ?_⟩
            · rw [ht]
              exact hz.two hy (sgo_bd _)
            · rw [ht]; exact twoz_bd _ _ _
          have go : ∀ x t s, inL x → clipz x = t → t = twoz (sgo (v (aGet (v, T) (v a 2) (j : Int)) 0)) z y → jW bX7_of (g, d + n + 4, 0, 0, Q) 2 [some (vR a), some (vR 522), some (vL z), none, some (vI (j : Int)), some (vL y), none, some (vI s), none, none] [vL x] (v, T) 0 0 := by
            intro x t s hx ht h2
            refine xw_ch_2 (d := d + n + 1) hx (by omega) ht ?_
            have e := hz2 t h2
            have r2 := ihr (j + 1) t (by omega) e.1 e.2
            rw [show ((j + 1 : Nat) : Int) = (j : Int) + 1 by omega] at r2
            exact r2
          generalize aGet (v, T) (v a 2) (j : Int) = sg at *
          refine ⟨Or.inr ⟨15, by decide, w2.1⟩, ?_⟩
          refine ⟨w2.1, 0, 0, ⟨by omega, by omega⟩, xj_intValue w2.1 ?_⟩
          have hm2 := mul_bd hb hyb
          have hd := tdiv_bd (y := y) hb
          have w3 := w2.2.2
          rcases w3 with e | e | e | e
          · rw [e] at go ⊢
            simp (disch := (first | decide | omega)) only [jxs, hps, jtsw, jlsw, List.length_cons, List.length_nil, true_and, and_true, true_implies, false_implies, implies_true, not_true_eq_false, not_false_eq_true, false_and, and_false, if_true, if_false, or_true, true_or, or_false, false_or, Classical.not_not, and_self, Int.reduceAdd, Int.reduceMul, Int.reduceSub, Int.reduceNeg, Int.reduceLT, Int.reduceLE, Int.reduceEq, Int.reduceNe, Int.reduceToNat, Nat.reduceAdd, Nat.reduceMul, Nat.reduceSub, Nat.reduceLeDiff, Nat.reduceLT, Nat.reduceEqDiff, reduceIte, Nat.zero_le, Nat.le_refl, Nat.add_zero, Nat.zero_add]
            (repeat (refine And.intro (by (first | omega | assumption | trivial | (simp only [inI]; omega) | (simp only [inL]; omega) | (refine jb_01) | (exact jb_in))) ?_))
            exact go _ _ _ ⟨by omega, by omega⟩ rfl twoz_43.symm
          · rw [e] at go ⊢
            simp (disch := (first | decide | omega)) only [jxs, hps, jtsw, jlsw, List.length_cons, List.length_nil, true_and, and_true, true_implies, false_implies, implies_true, not_true_eq_false, not_false_eq_true, false_and, and_false, if_true, if_false, or_true, true_or, or_false, false_or, Classical.not_not, and_self, Int.reduceAdd, Int.reduceMul, Int.reduceSub, Int.reduceNeg, Int.reduceLT, Int.reduceLE, Int.reduceEq, Int.reduceNe, Int.reduceToNat, Nat.reduceAdd, Nat.reduceMul, Nat.reduceSub, Nat.reduceLeDiff, Nat.reduceLT, Nat.reduceEqDiff, reduceIte, Nat.zero_le, Nat.le_refl, Nat.add_zero, Nat.zero_add]
            (repeat (refine And.intro (by (first | omega | assumption | trivial | (simp only [inI]; omega) | (simp only [inL]; omega) | (refine jb_01) | (exact jb_in))) ?_))
            exact go _ _ _ ⟨by omega, by omega⟩ rfl twoz_45.symm
          · rw [e] at go ⊢
            simp (disch := (first | decide | omega)) only [jxs, hps, jtsw, jlsw, List.length_cons, List.length_nil, true_and, and_true, true_implies, false_implies, implies_true, not_true_eq_false, not_false_eq_true, false_and, and_false, if_true, if_false, or_true, true_or, or_false, false_or, Classical.not_not, and_self, Int.reduceAdd, Int.reduceMul, Int.reduceSub, Int.reduceNeg, Int.reduceLT, Int.reduceLE, Int.reduceEq, Int.reduceNe, Int.reduceToNat, Nat.reduceAdd, Nat.reduceMul, Nat.reduceSub, Nat.reduceLeDiff, Nat.reduceLT, Nat.reduceEqDiff, reduceIte, Nat.zero_le, Nat.le_refl, Nat.add_zero, Nat.zero_add]
            (repeat (refine And.intro (by (first | omega | assumption | trivial | (simp only [inI]; omega) | (simp only [inL]; omega) | (refine jb_01) | (exact jb_in))) ?_))
            exact go _ _ _ ⟨by omega, by omega⟩ rfl twoz_42.symm
          · rw [e] at go ⊢
            simp (disch := (first | decide | omega)) only [jxs, hps, jtsw, jlsw, List.length_cons, List.length_nil, true_and, and_true, true_implies, false_implies, implies_true, not_true_eq_false, not_false_eq_true, false_and, and_false, if_true, if_false, or_true, true_or, or_false, false_or, Classical.not_not, and_self, Int.reduceAdd, Int.reduceMul, Int.reduceSub, Int.reduceNeg, Int.reduceLT, Int.reduceLE, Int.reduceEq, Int.reduceNe, Int.reduceToNat, Nat.reduceAdd, Nat.reduceMul, Nat.reduceSub, Nat.reduceLeDiff, Nat.reduceLT, Nat.reduceEqDiff, reduceIte, Nat.zero_le, Nat.le_refl, Nat.add_zero, Nat.zero_add, jcs]
            refine ⟨fun h => ?_, fun h => ?_⟩
            · (repeat (refine And.intro (by (first | omega | assumption | trivial | (simp only [inI]; omega) | (simp only [inL]; omega) | (refine jb_01) | (exact jb_in))) ?_))
              refine go _ _ _ ⟨by omega, by omega⟩ rfl ?_
              rw [twoz_47, if_neg (by omega)]
            · refine go 0 0 _ ⟨by omega, by omega⟩ rfl ?_
              show _ = if y = 0 then 0 else _
              rw [if_pos (by omega)]
      obtain ⟨q, p1, p2, p3⟩ := ih _ _ d q1
      refine jmet_of (ls := [some (vR a), some (vR 522), none, none, none, none, none, none, none, none]) sX7_of rfl (by decide +kernel) (by decide) rfl (by simp [jent]) ?_
      refine jW_step ?_
      simp (disch := (first | decide | omega)) only [bX7_of, jxs, hps, jtsw, jlsw, List.length_cons, List.length_nil, true_and, and_true, true_implies, false_implies, implies_true, not_true_eq_false, not_false_eq_true, false_and, and_false, if_true, if_false, or_true, true_or, or_false, false_or, Classical.not_not, and_self, Int.reduceAdd, Int.reduceMul, Int.reduceSub, Int.reduceNeg, Int.reduceLT, Int.reduceLE, Int.reduceEq, Int.reduceNe, Int.reduceToNat, Nat.reduceAdd, Nat.reduceMul, Nat.reduceSub, Nat.reduceLeDiff, Nat.reduceLT, Nat.reduceEqDiff, reduceIte, Nat.zero_le, Nat.le_refl, Nat.add_zero, Nat.zero_add, k]
      refine ⟨q, p1, p2, 0, 0, ⟨by omega, by omega⟩, p3 _ ?_⟩
      intro z hz hb
      simp (disch := (first | decide | omega)) only [jxs, hps, jtsw, jlsw, List.length_cons, List.length_nil, true_and, and_true, true_implies, false_implies, implies_true, not_true_eq_false, not_false_eq_true, false_and, and_false, if_true, if_false, or_true, true_or, or_false, false_or, Classical.not_not, and_self, Int.reduceAdd, Int.reduceMul, Int.reduceSub, Int.reduceNeg, Int.reduceLT, Int.reduceLE, Int.reduceEq, Int.reduceNe, Int.reduceToNat, Nat.reduceAdd, Nat.reduceMul, Nat.reduceSub, Nat.reduceLeDiff, Nat.reduceLT, Nat.reduceEqDiff, reduceIte, Nat.zero_le, Nat.le_refl, Nat.add_zero, Nat.zero_add]
      exact key m 0 z (by omega) hz hb
end XG
