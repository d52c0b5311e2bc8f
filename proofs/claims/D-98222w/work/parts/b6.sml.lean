/-! ===== the class: numbers, signs, names read ===== -/
-- MODE N
set_option maxRecDepth 100000
theorem wrg_gr {Q : jjQ} {v : Int → Int → Int} {T : jjT} {tk f p : Int} (h2 : 562 ≤ T.2) (h : qEr Q v T tk f p) : Q (.inr T.2) (upA v T.2 (up1 (up1 (fun _ => 0) 0 f) 1 p), nt T 5 8) :=
  h _ _ _ GRT.nt (nt_ok (by omega)) h2 (by rw [upA_eq, up1_ne (by decide), up1_eq]) (by rw [upA_eq, up1_eq])
section XG
variable {g : jjG} {d : Nat} {T : jjT} {Q : jjQ} {tk : Int} {B : Int → Int} {n k : Nat} {o kd : Int} {v : Int → Int → Int}
theorem xw_number {lo hi : Int} {mc ms : Nat} (hS : TKS v T tk B n k o kd) (hb : (∃ e, numP B n lo hi k = .inl e) → 1 ≤ mc ∧ 8 ≤ ms) (hE : ∀ f p, numP B n lo hi k = .inl (f, p) → qEr Q v T tk f p)
    (hQ : ∀ x, numP B n lo hi k = .inr x → ∀ w, (∀ a, a ≠ tk → w a = v a) → TKS w T tk B n x.2 o kd → Q (.inl (some (vI x.1))) (w, T)) : jmet g (d + 10) mc ms MX3_number [vR tk, vI lo, vI hi] (v, T) Q := by
  obtain ⟨⟨t0, t2, t3, h2⟩, ⟨f3, f4, f6, f7⟩, ⟨hk, hn⟩, hO, f5⟩ := hS.st
  have hnu := hS.2.2.2.1
  have tn : jok (nt T 5 8) T.2 5 := nt_ok (by omega)
  unfold numP at hb hE hQ
  refine jmet_of (ls := [some (vR tk), some (vI lo), some (vI hi), none]) sX3_number rfl (by decide +kernel) (by decide) rfl (by simp [jent]) ?_
  by_cases c : stT B n k = 300
  · rw [if_pos c] at hb hE hQ
    have e5 := hnu c
    rw [e5] at f5
    have k1 : (nuT B n k < lo ∨ hi < nuT B n k) → jW bX3_number (g, d + 9, mc, ms, Q) 1 [some (vR tk), some (vI lo), some (vI hi), none] [] (v, T) 0 0 := by
      intro q
      rw [if_pos q] at hb hE
      have hb := hb ⟨_, rfl⟩
      refine jW_step ?_
      simp (disch := (first | decide | omega)) only [bX3_number, jxs, hps, jtsw, jlsw, List.length_cons, List.length_nil, true_and, and_true, true_implies, false_implies, implies_true, not_true_eq_false, not_false_eq_true, false_and, and_false, if_true, if_false, or_true, true_or, or_false, false_or, Classical.not_not, and_self, Int.reduceAdd, Int.reduceMul, Int.reduceSub, Int.reduceNeg, Int.reduceLT, Int.reduceLE, Int.reduceEq, Int.reduceNe, Int.reduceToNat, Nat.reduceAdd, Nat.reduceMul, Nat.reduceSub, Nat.reduceLeDiff, Nat.reduceLT, Nat.reduceEqDiff, reduceIte, Nat.zero_le, Nat.le_refl, Nat.add_zero, Nat.zero_add, t0]
      refine ⟨1, 8, ⟨by omega, by omega⟩, xw_wrong t0 h2 ?_⟩
      rw [f3]
      simp (disch := (first | decide | omega)) only [jxs, hps, jtsw, jlsw, List.length_cons, List.length_nil, true_and, and_true, true_implies, false_implies, implies_true, not_true_eq_false, not_false_eq_true, false_and, and_false, if_true, if_false, or_true, true_or, or_false, false_or, Classical.not_not, and_self, Int.reduceAdd, Int.reduceMul, Int.reduceSub, Int.reduceNeg, Int.reduceLT, Int.reduceLE, Int.reduceEq, Int.reduceNe, Int.reduceToNat, Nat.reduceAdd, Nat.reduceMul, Nat.reduceSub, Nat.reduceLeDiff, Nat.reduceLT, Nat.reduceEqDiff, reduceIte, Nat.zero_le, Nat.le_refl, Nat.add_zero, Nat.zero_add, tn]
      (repeat (refine And.intro (by (first | omega | assumption | trivial | (simp only [inI]; omega) | (simp only [inL]; omega) | (refine jb_01) | (exact jb_in))) ?_))
      exact wrg_gr h2 (hE 2 _ rfl)
    refine jW_step ?_
    simp (disch := (first | decide | omega)) only [bX3_number, jxs, hps, jtsw, jlsw, List.length_cons, List.length_nil, true_and, and_true, true_implies, false_implies, implies_true, not_true_eq_false, not_false_eq_true, false_and, and_false, if_true, if_false, or_true, true_or, or_false, false_or, Classical.not_not, and_self, Int.reduceAdd, Int.reduceMul, Int.reduceSub, Int.reduceNeg, Int.reduceLT, Int.reduceLE, Int.reduceEq, Int.reduceNe, Int.reduceToNat, Nat.reduceAdd, Nat.reduceMul, Nat.reduceSub, Nat.reduceLeDiff, Nat.reduceLT, Nat.reduceEqDiff, reduceIte, Nat.zero_le, Nat.le_refl, Nat.add_zero, Nat.zero_add, t0, f4, c, e5]
    refine ⟨fun h => ?_, fun h => ?_⟩
    · exact k1 (Or.inl h)
    · refine ⟨fun hh => ?_, fun hh => ?_⟩
      · rw [if_neg (by omega)] at hQ
        refine ⟨0, 0, ⟨by omega, by omega⟩, xw_next (d := d + 3) hS.nx ?_⟩
        intro w w1 w2
        simp (disch := (first | decide | omega)) only [jxs, hps, jtsw, jlsw, List.length_cons, List.length_nil, true_and, and_true, true_implies, false_implies, implies_true, not_true_eq_false, not_false_eq_true, false_and, and_false, if_true, if_false, or_true, true_or, or_false, false_or, Classical.not_not, and_self, Int.reduceAdd, Int.reduceMul, Int.reduceSub, Int.reduceNeg, Int.reduceLT, Int.reduceLE, Int.reduceEq, Int.reduceNe, Int.reduceToNat, Nat.reduceAdd, Nat.reduceMul, Nat.reduceSub, Nat.reduceLeDiff, Nat.reduceLT, Nat.reduceEqDiff, reduceIte, Nat.zero_le, Nat.le_refl, Nat.add_zero, Nat.zero_add]
        (repeat (refine And.intro (by (first | omega | assumption | trivial | (simp only [inI]; omega) | (simp only [inL]; omega) | (refine jb_01) | (exact jb_in))) ?_))
        exact hQ _ rfl w w1 w2
      · exact k1 (Or.inr (by omega))
  · rw [if_neg c] at hb hE
    have hb := hb ⟨_, rfl⟩
    refine jW_step ?_
    simp (disch := (first | decide | omega)) only [bX3_number, jxs, hps, jtsw, jlsw, List.length_cons, List.length_nil, true_and, and_true, true_implies, false_implies, implies_true, not_true_eq_false, not_false_eq_true, false_and, and_false, if_true, if_false, or_true, true_or, or_false, false_or, Classical.not_not, and_self, Int.reduceAdd, Int.reduceMul, Int.reduceSub, Int.reduceNeg, Int.reduceLT, Int.reduceLE, Int.reduceEq, Int.reduceNe, Int.reduceToNat, Nat.reduceAdd, Nat.reduceMul, Nat.reduceSub, Nat.reduceLeDiff, Nat.reduceLT, Nat.reduceEqDiff, reduceIte, Nat.zero_le, Nat.le_refl, Nat.add_zero, Nat.zero_add, t0, f4]
    (first | refine ⟨fun h9 => (by exfalso; omega), fun _ => ?_⟩ | intro _)
    refine ⟨1, 8, ⟨by omega, by omega⟩, xw_wrong t0 h2 ?_⟩
    rw [f3]
    simp (disch := (first | decide | omega)) only [jxs, hps, jtsw, jlsw, List.length_cons, List.length_nil, true_and, and_true, true_implies, false_implies, implies_true, not_true_eq_false, not_false_eq_true, false_and, and_false, if_true, if_false, or_true, true_or, or_false, false_or, Classical.not_not, and_self, Int.reduceAdd, Int.reduceMul, Int.reduceSub, Int.reduceNeg, Int.reduceLT, Int.reduceLE, Int.reduceEq, Int.reduceNe, Int.reduceToNat, Nat.reduceAdd, Nat.reduceMul, Nat.reduceSub, Nat.reduceLeDiff, Nat.reduceLT, Nat.reduceEqDiff, reduceIte, Nat.zero_le, Nat.le_refl, Nat.add_zero, Nat.zero_add, tn]
    (repeat (refine And.intro (by (first | omega | assumption | trivial | (simp only [inI]; omega) | (simp only [inL]; omega) | (refine jb_01) | (exact jb_in))) ?_))
    exact wrg_gr h2 (hE 1 _ rfl)
theorem xw_want {s : Int} {mc ms : Nat} (hS : TKS v T tk B n k o kd) (hb : (∃ e, wntP B n s k = .inl e) → 1 ≤ mc ∧ 8 ≤ ms) (hE : ∀ f p, wntP B n s k = .inl (f, p) → qEr Q v T tk f p)
    (hQ : ∀ x, wntP B n s k = .inr x → ∀ w, (∀ a, a ≠ tk → w a = v a) → TKS w T tk B n x o kd → Q (.inl none) (w, T)) : jmet g (d + 10) mc ms MX3_want [vR tk, vI s] (v, T) Q := by
  obtain ⟨⟨t0, t2, t3, h2⟩, ⟨f3, f4, f6, f7⟩, ⟨hk, hn⟩, hO, f5⟩ := hS.st
  have tn : jok (nt T 5 8) T.2 5 := nt_ok (by omega)
  unfold wntP at hb hE hQ
  refine jmet_of (ls := [some (vR tk), some (vI s)]) sX3_want rfl (by decide +kernel) (by decide) rfl (by simp [jent]) ?_
  refine jW_step ?_
  simp (disch := (first | decide | omega)) only [bX3_want, jxs, hps, jtsw, jlsw, List.length_cons, List.length_nil, true_and, and_true, true_implies, false_implies, implies_true, not_true_eq_false, not_false_eq_true, false_and, and_false, if_true, if_false, or_true, true_or, or_false, false_or, Classical.not_not, and_self, Int.reduceAdd, Int.reduceMul, Int.reduceSub, Int.reduceNeg, Int.reduceLT, Int.reduceLE, Int.reduceEq, Int.reduceNe, Int.reduceToNat, Nat.reduceAdd, Nat.reduceMul, Nat.reduceSub, Nat.reduceLeDiff, Nat.reduceLT, Nat.reduceEqDiff, reduceIte, Nat.zero_le, Nat.le_refl, Nat.add_zero, Nat.zero_add, t0, f4]
  refine ⟨fun c => ?_, fun c => ?_⟩
  · rw [if_pos c] at hQ
    refine ⟨0, 0, ⟨by omega, by omega⟩, xw_next (d := d + 3) hS.nx ?_⟩
    intro w w1 w2
    simp (disch := (first | decide | omega)) only [jxs, hps, jtsw, jlsw, List.length_cons, List.length_nil, true_and, and_true, true_implies, false_implies, implies_true, not_true_eq_false, not_false_eq_true, false_and, and_false, if_true, if_false, or_true, true_or, or_false, false_or, Classical.not_not, and_self, Int.reduceAdd, Int.reduceMul, Int.reduceSub, Int.reduceNeg, Int.reduceLT, Int.reduceLE, Int.reduceEq, Int.reduceNe, Int.reduceToNat, Nat.reduceAdd, Nat.reduceMul, Nat.reduceSub, Nat.reduceLeDiff, Nat.reduceLT, Nat.reduceEqDiff, reduceIte, Nat.zero_le, Nat.le_refl, Nat.add_zero, Nat.zero_add]
    (repeat (refine And.intro (by (first | omega | assumption | trivial | (simp only [inI]; omega) | (simp only [inL]; omega) | (refine jb_01) | (exact jb_in))) ?_))
    exact hQ _ rfl w w1 w2
  · rw [if_neg c] at hb hE
    have hb := hb ⟨_, rfl⟩
    refine ⟨1, 8, ⟨by omega, by omega⟩, xw_wrong t0 h2 ?_⟩
    rw [f3]
    simp (disch := (first | decide | omega)) only [jxs, hps, jtsw, jlsw, List.length_cons, List.length_nil, true_and, and_true, true_implies, false_implies, implies_true, not_true_eq_false, not_false_eq_true, false_and, and_false, if_true, if_false, or_true, true_or, or_false, false_or, Classical.not_not, and_self, Int.reduceAdd, Int.reduceMul, Int.reduceSub, Int.reduceNeg, Int.reduceLT, Int.reduceLE, Int.reduceEq, Int.reduceNe, Int.reduceToNat, Nat.reduceAdd, Nat.reduceMul, Nat.reduceSub, Nat.reduceLeDiff, Nat.reduceLT, Nat.reduceEqDiff, reduceIte, Nat.zero_le, Nat.le_refl, Nat.add_zero, Nat.zero_add, tn]
    (repeat (refine And.intro (by (first | omega | assumption | trivial | (simp only [inI]; omega) | (simp only [inL]; omega) | (refine jb_01) | (exact jb_in))) ?_))
    exact wrg_gr h2 (hE 1 _ rfl)
theorem xw_opens {mc ms : Nat} (hS : TKS v T tk B n k o kd) (ho : 0 ≤ o ∧ o ≤ 8) (hb : o = 8 → 1 ≤ mc ∧ 8 ≤ ms) (hE : o = 8 → qEr Q v T tk 3 (pl B n k : Int))
    (hQ : ¬ o = 8 → ∀ w, (∀ a, a ≠ tk → w a = v a) → TKS w T tk B n (nxT B n k) (o + 1) kd → Q (.inl none) (w, T)) : jmet g (d + 10) mc ms MX3_opens [vR tk] (v, T) Q := by
  obtain ⟨⟨t0, t2, t3, h2⟩, ⟨f3, f4, f6, f7⟩, ⟨hk, hn⟩, hO, f5⟩ := hS.st
  have tn : jok (nt T 5 8) T.2 5 := nt_ok (by omega)
  refine jmet_of (ls := [some (vR tk)]) sX3_opens rfl (by decide +kernel) (by decide) rfl (by simp [jent]) ?_
  refine jW_step ?_
  simp (disch := (first | decide | omega)) only [bX3_opens, jxs, hps, jtsw, jlsw, List.length_cons, List.length_nil, true_and, and_true, true_implies, false_implies, implies_true, not_true_eq_false, not_false_eq_true, false_and, and_false, if_true, if_false, or_true, true_or, or_false, false_or, Classical.not_not, and_self, Int.reduceAdd, Int.reduceMul, Int.reduceSub, Int.reduceNeg, Int.reduceLT, Int.reduceLE, Int.reduceEq, Int.reduceNe, Int.reduceToNat, Nat.reduceAdd, Nat.reduceMul, Nat.reduceSub, Nat.reduceLeDiff, Nat.reduceLT, Nat.reduceEqDiff, reduceIte, Nat.zero_le, Nat.le_refl, Nat.add_zero, Nat.zero_add, t0, f6]
  refine ⟨fun c => ?_, fun c => ?_⟩
  · (repeat (refine And.intro (by (first | omega | assumption | trivial | (simp only [inI]; omega) | (simp only [inL]; omega) | (refine jb_01) | (exact jb_in))) ?_))
    refine ⟨0, 0, ⟨by omega, by omega⟩, xw_next (d := d + 3) (hS.nx.op (o' := o + 1) (kd' := kd) (f := up1 (v tk) 6 (o + 1)) (fun j j6 _ => up1_ne j6) up1_eq ((up1_ne (by decide)).trans f7)) ?_⟩
    intro w w1 w2
    simp (disch := (first | decide | omega)) only [jxs, hps, jtsw, jlsw, List.length_cons, List.length_nil, true_and, and_true, true_implies, false_implies, implies_true, not_true_eq_false, not_false_eq_true, false_and, and_false, if_true, if_false, or_true, true_or, or_false, false_or, Classical.not_not, and_self, Int.reduceAdd, Int.reduceMul, Int.reduceSub, Int.reduceNeg, Int.reduceLT, Int.reduceLE, Int.reduceEq, Int.reduceNe, Int.reduceToNat, Nat.reduceAdd, Nat.reduceMul, Nat.reduceSub, Nat.reduceLeDiff, Nat.reduceLT, Nat.reduceEqDiff, reduceIte, Nat.zero_le, Nat.le_refl, Nat.add_zero, Nat.zero_add]
    (repeat (refine And.intro (by (first | omega | assumption | trivial | (simp only [inI]; omega) | (simp only [inL]; omega) | (refine jb_01) | (exact jb_in))) ?_))
    exact hQ c w (fun a ha => (w1 a ha).trans (upA_ne ha)) w2
  · have c8 : o = 8 := by omega
    have hb := hb c8
    refine ⟨1, 8, ⟨by omega, by omega⟩, xw_wrong t0 h2 ?_⟩
    rw [f3]
    simp (disch := (first | decide | omega)) only [jxs, hps, jtsw, jlsw, List.length_cons, List.length_nil, true_and, and_true, true_implies, false_implies, implies_true, not_true_eq_false, not_false_eq_true, false_and, and_false, if_true, if_false, or_true, true_or, or_false, false_or, Classical.not_not, and_self, Int.reduceAdd, Int.reduceMul, Int.reduceSub, Int.reduceNeg, Int.reduceLT, Int.reduceLE, Int.reduceEq, Int.reduceNe, Int.reduceToNat, Nat.reduceAdd, Nat.reduceMul, Nat.reduceSub, Nat.reduceLeDiff, Nat.reduceLT, Nat.reduceEqDiff, reduceIte, Nat.zero_le, Nat.le_refl, Nat.add_zero, Nat.zero_add, tn]
    (repeat (refine And.intro (by (first | omega | assumption | trivial | (simp only [inI]; omega) | (simp only [inL]; omega) | (refine jb_01) | (exact jb_in))) ?_))
    exact wrg_gr h2 (hE c8)
theorem xw_nameNow (hS : TKS v T tk B n k o kd) (hQ : Q (.inl (some (vI (nmT (stT B n k))))) (v, T)) : jmet g (d + 1) 0 0 MX3_nameNow [vR tk] (v, T) Q := by
  obtain ⟨⟨t0, t2, t3, h2⟩, ⟨f3, f4, f6, f7⟩, ⟨hk, hn⟩, hO, f5⟩ := hS.st
  have hst := tk_sp (B := B) hk
  generalize stT B n k = t at *
  have ib : -1 ≤ t ∨ t < 100000 := by omega
  refine jmet_of (ls := [some (vR tk)]) sX3_nameNow rfl (by decide +kernel) (by decide) rfl (by simp [jent]) ?_
  have k3 : ∀ z, z = nmT t → jW bX3_nameNow (g, d, 0, 0, Q) 3 [some (vR tk)] [vI z] (v, T) 0 0 := by
    intro z hz
    rw [← hz] at hQ
    refine jW_step ?_
    simp (disch := (first | decide | omega)) only [bX3_nameNow, jxs, hps, jtsw, jlsw, List.length_cons, List.length_nil, true_and, and_true, true_implies, false_implies, implies_true, not_true_eq_false, not_false_eq_true, false_and, and_false, if_true, if_false, or_true, true_or, or_false, false_or, Classical.not_not, and_self, Int.reduceAdd, Int.reduceMul, Int.reduceSub, Int.reduceNeg, Int.reduceLT, Int.reduceLE, Int.reduceEq, Int.reduceNe, Int.reduceToNat, Nat.reduceAdd, Nat.reduceMul, Nat.reduceSub, Nat.reduceLeDiff, Nat.reduceLT, Nat.reduceEqDiff, reduceIte, Nat.zero_le, Nat.le_refl, Nat.add_zero, Nat.zero_add]
    (repeat (refine And.intro (by (first | omega | assumption | trivial | (simp only [inI]; omega) | (simp only [inL]; omega) | (refine jb_01) | (exact jb_in))) ?_))
    exact hQ
  have k2 : nmT t = -1 → jW bX3_nameNow (g, d, 0, 0, Q) 2 [some (vR tk)] [] (v, T) 0 0 := by
    intro hz
    refine jW_step ?_
    simp (disch := (first | decide | omega)) only [bX3_nameNow, jxs, hps, jtsw, jlsw, List.length_cons, List.length_nil, true_and, and_true, true_implies, false_implies, implies_true, not_true_eq_false, not_false_eq_true, false_and, and_false, if_true, if_false, or_true, true_or, or_false, false_or, Classical.not_not, and_self, Int.reduceAdd, Int.reduceMul, Int.reduceSub, Int.reduceNeg, Int.reduceLT, Int.reduceLE, Int.reduceEq, Int.reduceNe, Int.reduceToNat, Nat.reduceAdd, Nat.reduceMul, Nat.reduceSub, Nat.reduceLeDiff, Nat.reduceLT, Nat.reduceEqDiff, reduceIte, Nat.zero_le, Nat.le_refl, Nat.add_zero, Nat.zero_add]
    exact k3 _ hz.symm
  have k1 : ¬ t = 208 → ¬ (215 ≤ t ∧ t ≤ 219) → jW bX3_nameNow (g, d, 0, 0, Q) 1 [some (vR tk)] [] (v, T) 0 0 := by
    intro h1 h2'
    refine jW_step ?_
    simp (disch := (first | decide | omega)) only [bX3_nameNow, jxs, hps, jtsw, jlsw, List.length_cons, List.length_nil, true_and, and_true, true_implies, false_implies, implies_true, not_true_eq_false, not_false_eq_true, false_and, and_false, if_true, if_false, or_true, true_or, or_false, false_or, Classical.not_not, and_self, Int.reduceAdd, Int.reduceMul, Int.reduceSub, Int.reduceNeg, Int.reduceLT, Int.reduceLE, Int.reduceEq, Int.reduceNe, Int.reduceToNat, Nat.reduceAdd, Nat.reduceMul, Nat.reduceSub, Nat.reduceLeDiff, Nat.reduceLT, Nat.reduceEqDiff, reduceIte, Nat.zero_le, Nat.le_refl, Nat.add_zero, Nat.zero_add, t0, f4]
    refine ⟨fun a => ?_, fun a => ?_⟩
    · exact k2 (by unfold nmT; rw [if_neg h1, if_neg h2', if_neg (by omega)])
    · refine ⟨fun b => ?_, fun b => ?_⟩
      · exact k2 (by unfold nmT; rw [if_neg h1, if_neg h2', if_neg (by omega)])
      · (repeat (refine And.intro (by (first | omega | assumption | trivial | (simp only [inI]; omega) | (simp only [inL]; omega) | (refine jb_01) | (exact jb_in))) ?_))
        exact k3 _ (by unfold nmT; rw [if_neg h1, if_neg h2', if_pos (by omega)])
  refine jW_step ?_
  simp (disch := (first | decide | omega)) only [bX3_nameNow, jxs, hps, jtsw, jlsw, List.length_cons, List.length_nil, true_and, and_true, true_implies, false_implies, implies_true, not_true_eq_false, not_false_eq_true, false_and, and_false, if_true, if_false, or_true, true_or, or_false, false_or, Classical.not_not, and_self, Int.reduceAdd, Int.reduceMul, Int.reduceSub, Int.reduceNeg, Int.reduceLT, Int.reduceLE, Int.reduceEq, Int.reduceNe, Int.reduceToNat, Nat.reduceAdd, Nat.reduceMul, Nat.reduceSub, Nat.reduceLeDiff, Nat.reduceLT, Nat.reduceEqDiff, reduceIte, Nat.zero_le, Nat.le_refl, Nat.add_zero, Nat.zero_add, t0, f4]
  refine ⟨fun a => ?_, fun a => ?_⟩
  · refine ⟨fun b => ?_, fun b => ?_⟩
    · exact k1 a (by omega)
    · refine ⟨fun c => ?_, fun c => ?_⟩
      · exact k1 a (by omega)
      · (repeat (refine And.intro (by (first | omega | assumption | trivial | (simp only [inI]; omega) | (simp only [inL]; omega) | (refine jb_01) | (exact jb_in))) ?_))
        exact k3 _ (by unfold nmT; rw [if_neg a, if_pos (by omega)])
  · exact k3 _ (by unfold nmT; rw [if_pos (by omega)])
theorem xw_mayName {nm : Int} (hS : TKS v T tk B n k o kd) (hQ : Q (.inl (some (vI (if myN kd nm then 1 else 0)))) (v, T)) : jmet g (d + 1) 0 0 MX3_mayName [vR tk, vI nm] (v, T) Q := by
  obtain ⟨⟨t0, t2, t3, h2⟩, ⟨f3, f4, f6, f7⟩, ⟨hk, hn⟩, hO, f5⟩ := hS.st
  refine jmet_of (ls := [some (vR tk), some (vI nm)]) sX3_mayName rfl (by decide +kernel) (by decide) rfl (by simp [jent]) ?_
  have k1 : myN kd nm → jW bX3_mayName (g, d, 0, 0, Q) 1 [some (vR tk), some (vI nm)] [] (v, T) 0 0 := by
    intro h
    rw [if_pos h] at hQ
    refine jW_step ?_
    simp (disch := (first | decide | omega)) only [bX3_mayName, jxs, hps, jtsw, jlsw, List.length_cons, List.length_nil, true_and, and_true, true_implies, false_implies, implies_true, not_true_eq_false, not_false_eq_true, false_and, and_false, if_true, if_false, or_true, true_or, or_false, false_or, Classical.not_not, and_self, Int.reduceAdd, Int.reduceMul, Int.reduceSub, Int.reduceNeg, Int.reduceLT, Int.reduceLE, Int.reduceEq, Int.reduceNe, Int.reduceToNat, Nat.reduceAdd, Nat.reduceMul, Nat.reduceSub, Nat.reduceLeDiff, Nat.reduceLT, Nat.reduceEqDiff, reduceIte, Nat.zero_le, Nat.le_refl, Nat.add_zero, Nat.zero_add]
    refine jW_step ?_
    simp (disch := (first | decide | omega)) only [bX3_mayName, jxs, hps, jtsw, jlsw, List.length_cons, List.length_nil, true_and, and_true, true_implies, false_implies, implies_true, not_true_eq_false, not_false_eq_true, false_and, and_false, if_true, if_false, or_true, true_or, or_false, false_or, Classical.not_not, and_self, Int.reduceAdd, Int.reduceMul, Int.reduceSub, Int.reduceNeg, Int.reduceLT, Int.reduceLE, Int.reduceEq, Int.reduceNe, Int.reduceToNat, Nat.reduceAdd, Nat.reduceMul, Nat.reduceSub, Nat.reduceLeDiff, Nat.reduceLT, Nat.reduceEqDiff, reduceIte, Nat.zero_le, Nat.le_refl, Nat.add_zero, Nat.zero_add]
    (repeat (refine And.intro (by (first | omega | assumption | trivial | (simp only [inI]; omega) | (simp only [inL]; omega) | (refine jb_01) | (exact jb_in))) ?_))
    exact hQ
  have k2 : ¬ myN kd nm → jW bX3_mayName (g, d, 0, 0, Q) 2 [some (vR tk), some (vI nm)] [] (v, T) 0 0 := by
    intro h
    rw [if_neg h] at hQ
    refine jW_step ?_
    simp (disch := (first | decide | omega)) only [bX3_mayName, jxs, hps, jtsw, jlsw, List.length_cons, List.length_nil, true_and, and_true, true_implies, false_implies, implies_true, not_true_eq_false, not_false_eq_true, false_and, and_false, if_true, if_false, or_true, true_or, or_false, false_or, Classical.not_not, and_self, Int.reduceAdd, Int.reduceMul, Int.reduceSub, Int.reduceNeg, Int.reduceLT, Int.reduceLE, Int.reduceEq, Int.reduceNe, Int.reduceToNat, Nat.reduceAdd, Nat.reduceMul, Nat.reduceSub, Nat.reduceLeDiff, Nat.reduceLT, Nat.reduceEqDiff, reduceIte, Nat.zero_le, Nat.le_refl, Nat.add_zero, Nat.zero_add]
    refine jW_step ?_
    simp (disch := (first | decide | omega)) only [bX3_mayName, jxs, hps, jtsw, jlsw, List.length_cons, List.length_nil, true_and, and_true, true_implies, false_implies, implies_true, not_true_eq_false, not_false_eq_true, false_and, and_false, if_true, if_false, or_true, true_or, or_false, false_or, Classical.not_not, and_self, Int.reduceAdd, Int.reduceMul, Int.reduceSub, Int.reduceNeg, Int.reduceLT, Int.reduceLE, Int.reduceEq, Int.reduceNe, Int.reduceToNat, Nat.reduceAdd, Nat.reduceMul, Nat.reduceSub, Nat.reduceLeDiff, Nat.reduceLT, Nat.reduceEqDiff, reduceIte, Nat.zero_le, Nat.le_refl, Nat.add_zero, Nat.zero_add]
    (repeat (refine And.intro (by (first | omega | assumption | trivial | (simp only [inI]; omega) | (simp only [inL]; omega) | (refine jb_01) | (exact jb_in))) ?_))
    exact hQ
  refine jW_step ?_
  simp (disch := (first | decide | omega)) only [bX3_mayName, jxs, hps, jtsw, jlsw, List.length_cons, List.length_nil, true_and, and_true, true_implies, false_implies, implies_true, not_true_eq_false, not_false_eq_true, false_and, and_false, if_true, if_false, or_true, true_or, or_false, false_or, Classical.not_not, and_self, Int.reduceAdd, Int.reduceMul, Int.reduceSub, Int.reduceNeg, Int.reduceLT, Int.reduceLE, Int.reduceEq, Int.reduceNe, Int.reduceToNat, Nat.reduceAdd, Nat.reduceMul, Nat.reduceSub, Nat.reduceLeDiff, Nat.reduceLT, Nat.reduceEqDiff, reduceIte, Nat.zero_le, Nat.le_refl, Nat.add_zero, Nat.zero_add, t0, f7]
  refine ⟨fun a => ?_, fun a => ?_⟩
  · exact k1 (Or.inl a)
  · refine ⟨fun b => ?_, fun b => ?_⟩
    · refine ⟨fun c => ?_, fun c => ?_⟩
      · exact k2 (by unfold myN; omega)
      · exact k1 (by unfold myN; omega)
    · refine ⟨fun c => ?_, fun c => ?_⟩
      · exact k2 (by unfold myN; omega)
      · exact k1 (by unfold myN; omega)
end XG
