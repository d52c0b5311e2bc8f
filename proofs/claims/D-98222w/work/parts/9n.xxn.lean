/-! ===== the class: book, dust ===== -/
-- MODE X
set_option maxRecDepth 100000
def jkB (v : Int → Int → Int) (T : jjT) (w : Int → Int → Int) (T' : jjT) : Prop := PT T' ∧ PV w ∧ jGR (v, T) (w, T') ∧ ∀ a, a < 562 → (a < 402 ∨ 459 < a) → a ≠ 522 → a ≠ 523 → w a = v a
theorem bkp {b : Int} (h : 0 ≤ b ∧ b < 10) : 406 + b ∉ pvA := by
  have key : ∀ b : Fin 10, (406 : Int) + b.val ∉ pvA := by decide
  have := key ⟨b.toNat, by omega⟩
  dsimp only at this
  rwa [show ((b.toNat : Nat) : Int) = b by omega] at this
theorem dup {b : Int} (h : 0 ≤ b ∧ b < 12) : 417 + b ∉ pvA := by
  have key : ∀ b : Fin 12, (417 : Int) + b.val ∉ pvA := by decide
  have := key ⟨b.toNat, by omega⟩
  dsimp only at this
  rwa [show ((b.toNat : Nat) : Int) = b by omega] at this
theorem bigp {b : Int} (h : 562 ≤ b) : b ∉ pvA := by
  have key : ∀ x ∈ pvA, x < 562 := by decide
  intro hb
  have := key b hb
  omega
section XG
variable {g : jjG} {d : Nat} {T : jjT} {Q : jjQ} {A X : Int → Int}
theorem xw_book {h c t a l : Int} {v : Int → Int → Int} (hT : PT T) (hV : PV v) (hC : CI (v, T) A X) (hQ : (bokC A h c t a l → ∀ w T', CI (w, T') (bokA A h c t a l) X → jkB v T w T' → Q (.inl (some (vI (A 0)))) (w, T')) ∧ (¬ bokC A h c t a l → Q (.inl (some (vI (-1)))) (v, T))) : jmet g (d + 2) 1 5 MX0_book [vR 400, vI h, vI c, vI t, vI a, vI l] (v, T) Q := by
  have h0 := hC.tb.1
  refine jmet_of (ls := [some (vR 400), some (vI h), some (vI c), some (vI t), some (vI a), some (vI l), none, none]) sX0_book rfl (by decide +kernel) (by decide) rfl (by simp [jent]) ?_
  have k1 : ¬ bokC A h c t a l → jW bX0_book (g, d + 1, 1, 5, Q) 1 [some (vR 400), some (vI h), some (vI c), some (vI t), some (vI a), some (vI l), some (vI (A 0)), none] [] (v, T) 0 0 := by
    intro hh
    refine jW_step ?_
    simp (disch := (first | decide | omega)) only [bX0_book, jxs, hps, jtsw, jlsw, List.length_cons, List.length_nil, true_and, and_true, true_implies, false_implies, implies_true, not_true_eq_false, not_false_eq_true, false_and, and_false, if_true, if_false, or_true, true_or, or_false, false_or, Classical.not_not, and_self, Int.reduceAdd, Int.reduceMul, Int.reduceSub, Int.reduceNeg, Int.reduceLT, Int.reduceLE, Int.reduceEq, Int.reduceNe, Int.reduceToNat, Nat.reduceAdd, Nat.reduceMul, Nat.reduceSub, Nat.reduceLeDiff, Nat.reduceLT, Nat.reduceEqDiff, reduceIte, Nat.zero_le, Nat.le_refl, Nat.add_zero, Nat.zero_add, xwT hT, xwV hV]
    (repeat (refine And.intro (by (first | omega | assumption | trivial | (simp only [inI]; omega) | (simp only [inL]; omega) | (refine jb_01) | (exact jb_in))) ?_))
    exact hQ.2 hh
  refine jW_step ?_
  simp (disch := (first | decide | omega)) only [bX0_book, jxs, hps, jtsw, jlsw, List.length_cons, List.length_nil, true_and, and_true, true_implies, false_implies, implies_true, not_true_eq_false, not_false_eq_true, false_and, and_false, if_true, if_false, or_true, true_or, or_false, false_or, Classical.not_not, and_self, Int.reduceAdd, Int.reduceMul, Int.reduceSub, Int.reduceNeg, Int.reduceLT, Int.reduceLE, Int.reduceEq, Int.reduceNe, Int.reduceToNat, Nat.reduceAdd, Nat.reduceMul, Nat.reduceSub, Nat.reduceLeDiff, Nat.reduceLT, Nat.reduceEqDiff, reduceIte, Nat.zero_le, Nat.le_refl, Nat.add_zero, Nat.zero_add, xwT hT, xwV hV, hC.n0]
  refine ⟨0, 0, ⟨by omega, by omega⟩, xw_in ?_⟩
  simp (disch := (first | decide | omega)) only [jxs, hps, jtsw, jlsw, List.length_cons, List.length_nil, true_and, and_true, true_implies, false_implies, implies_true, not_true_eq_false, not_false_eq_true, false_and, and_false, if_true, if_false, or_true, true_or, or_false, false_or, Classical.not_not, and_self, Int.reduceAdd, Int.reduceMul, Int.reduceSub, Int.reduceNeg, Int.reduceLT, Int.reduceLE, Int.reduceEq, Int.reduceNe, Int.reduceToNat, Nat.reduceAdd, Nat.reduceMul, Nat.reduceSub, Nat.reduceLeDiff, Nat.reduceLT, Nat.reduceEqDiff, reduceIte, Nat.zero_le, Nat.le_refl, Nat.add_zero, Nat.zero_add, xwT hT, xwV hV]
  refine ⟨fun h1 => ?_, fun h1 => ?_⟩
  · exact k1 (fun q => by unfold bokC at q; omega)
  refine ⟨0, 0, ⟨by omega, by omega⟩, xw_in ?_⟩
  simp (disch := (first | decide | omega)) only [jxs, hps, jtsw, jlsw, List.length_cons, List.length_nil, true_and, and_true, true_implies, false_implies, implies_true, not_true_eq_false, not_false_eq_true, false_and, and_false, if_true, if_false, or_true, true_or, or_false, false_or, Classical.not_not, and_self, Int.reduceAdd, Int.reduceMul, Int.reduceSub, Int.reduceNeg, Int.reduceLT, Int.reduceLE, Int.reduceEq, Int.reduceNe, Int.reduceToNat, Nat.reduceAdd, Nat.reduceMul, Nat.reduceSub, Nat.reduceLeDiff, Nat.reduceLT, Nat.reduceEqDiff, reduceIte, Nat.zero_le, Nat.le_refl, Nat.add_zero, Nat.zero_add, xwT hT, xwV hV]
  refine ⟨fun h2 => ?_, fun h2 => ?_⟩
  · exact k1 (fun q => by unfold bokC at q; omega)
  refine ⟨0, 0, ⟨by omega, by omega⟩, xw_in ?_⟩
  simp (disch := (first | decide | omega)) only [jxs, hps, jtsw, jlsw, List.length_cons, List.length_nil, true_and, and_true, true_implies, false_implies, implies_true, not_true_eq_false, not_false_eq_true, false_and, and_false, if_true, if_false, or_true, true_or, or_false, false_or, Classical.not_not, and_self, Int.reduceAdd, Int.reduceMul, Int.reduceSub, Int.reduceNeg, Int.reduceLT, Int.reduceLE, Int.reduceEq, Int.reduceNe, Int.reduceToNat, Nat.reduceAdd, Nat.reduceMul, Nat.reduceSub, Nat.reduceLeDiff, Nat.reduceLT, Nat.reduceEqDiff, reduceIte, Nat.zero_le, Nat.le_refl, Nat.add_zero, Nat.zero_add, xwT hT, xwV hV]
  refine ⟨fun h3 => ?_, fun h3 => ?_⟩
  · exact k1 (fun q => by unfold bokC at q; omega)
  refine ⟨0, 0, ⟨by omega, by omega⟩, xw_in ?_⟩
  simp (disch := (first | decide | omega)) only [jxs, hps, jtsw, jlsw, List.length_cons, List.length_nil, true_and, and_true, true_implies, false_implies, implies_true, not_true_eq_false, not_false_eq_true, false_and, and_false, if_true, if_false, or_true, true_or, or_false, false_or, Classical.not_not, and_self, Int.reduceAdd, Int.reduceMul, Int.reduceSub, Int.reduceNeg, Int.reduceLT, Int.reduceLE, Int.reduceEq, Int.reduceNe, Int.reduceToNat, Nat.reduceAdd, Nat.reduceMul, Nat.reduceSub, Nat.reduceLeDiff, Nat.reduceLT, Nat.reduceEqDiff, reduceIte, Nat.zero_le, Nat.le_refl, Nat.add_zero, Nat.zero_add, xwT hT, xwV hV]
  refine ⟨fun h4 => ?_, fun h4 => ?_⟩
  · exact k1 (fun q => by unfold bokC at q; omega)
  refine ⟨0, 0, ⟨by omega, by omega⟩, xw_in ?_⟩
  simp (disch := (first | decide | omega)) only [jxs, hps, jtsw, jlsw, List.length_cons, List.length_nil, true_and, and_true, true_implies, false_implies, implies_true, not_true_eq_false, not_false_eq_true, false_and, and_false, if_true, if_false, or_true, true_or, or_false, false_or, Classical.not_not, and_self, Int.reduceAdd, Int.reduceMul, Int.reduceSub, Int.reduceNeg, Int.reduceLT, Int.reduceLE, Int.reduceEq, Int.reduceNe, Int.reduceToNat, Nat.reduceAdd, Nat.reduceMul, Nat.reduceSub, Nat.reduceLeDiff, Nat.reduceLT, Nat.reduceEqDiff, reduceIte, Nat.zero_le, Nat.le_refl, Nat.add_zero, Nat.zero_add, xwT hT, xwV hV]
  refine ⟨fun h5 => ?_, fun h5 => ?_⟩
  · exact k1 (fun q => by unfold bokC at q; omega)
  refine ⟨fun h6 => ?_, fun h6 => ?_⟩
  · have hA : A 0 < 10 := by omega
    have hr := nt_ok (T := T) (by have := hT.1; omega) (c := -1) (n := 5)
    have hl := nt_ln (T := T) (c := -1) (n := 5)
    have hT' := hT.nt (-1) 5
    have h9 := hT.1
    have e405 := PVbk hV (b := A 0) (by omega)
    have V1 : ∀ f, PV (upA v T.2 f) := fun f => hV.A (bigp h9)
    have hV0 := hV
    have hxT := xwT hT'
    have tb := PTbk hT' (b := A 0) (by omega)
    simp (disch := (first | decide | omega)) only [jxs, hps, jtsw, jlsw, List.length_cons, List.length_nil, true_and, and_true, true_implies, false_implies, implies_true, not_true_eq_false, not_false_eq_true, false_and, and_false, if_true, if_false, or_true, true_or, or_false, false_or, Classical.not_not, and_self, Int.reduceAdd, Int.reduceMul, Int.reduceSub, Int.reduceNeg, Int.reduceLT, Int.reduceLE, Int.reduceEq, Int.reduceNe, Int.reduceToNat, Nat.reduceAdd, Nat.reduceMul, Nat.reduceSub, Nat.reduceLeDiff, Nat.reduceLT, Nat.reduceEqDiff, reduceIte, Nat.zero_le, Nat.le_refl, Nat.add_zero, Nat.zero_add, xwT hT, xwV hV, jnew_eq, hr, hl, hxT, e405]
    (repeat (refine And.intro (by (first | omega | assumption | trivial | (simp only [inI]; omega) | (simp only [inL]; omega) | (refine jb_01) | (exact jb_in))) ?_))
    refine ⟨0, 0, ⟨by omega, by omega⟩, xw_copy (n := 5) ⟨hr, by omega, hl⟩ ⟨tb.1, by omega, by rw [tb.2]; omega⟩ (by omega) ?_⟩
    have hVw : PV (upA (upA v T.2 (up1 (up1 (up1 (up1 (up1 (fun x => 0) 0 h) 1 c) 2 t) 3 a) 4 l)) (406 + A 0) (fun k => if 0 ≤ k ∧ k < 5 then (upA v T.2 (up1 (up1 (up1 (up1 (up1 (fun x => 0) 0 h) 1 c) 2 t) 3 a) 4 l)) T.2 k else (upA v T.2 (up1 (up1 (up1 (up1 (up1 (fun x => 0) 0 h) 1 c) 2 t) 3 a) 4 l)) (406 + A 0) k)) := (V1 _).A (bkp (by omega))
    have f2 : ∀ x, 400 < x → x < 562 → x ≠ 406 + A 0 → (upA (upA v T.2 (up1 (up1 (up1 (up1 (up1 (fun x => 0) 0 h) 1 c) 2 t) 3 a) 4 l)) (406 + A 0) (fun k => if 0 ≤ k ∧ k < 5 then (upA v T.2 (up1 (up1 (up1 (up1 (up1 (fun x => 0) 0 h) 1 c) 2 t) 3 a) 4 l)) T.2 k else (upA v T.2 (up1 (up1 (up1 (up1 (up1 (fun x => 0) 0 h) 1 c) 2 t) 3 a) 4 l)) (406 + A 0) k)) x = v x := fun x x0 x1 x2 => by rw [upA_ne (by omega), upA_ne (by omega)]
    have f0 : ∀ x, x < T.2 → jfz x → (upA (upA v T.2 (up1 (up1 (up1 (up1 (up1 (fun x => 0) 0 h) 1 c) 2 t) 3 a) 4 l)) (406 + A 0) (fun k => if 0 ≤ k ∧ k < 5 then (upA v T.2 (up1 (up1 (up1 (up1 (up1 (fun x => 0) 0 h) 1 c) 2 t) 3 a) 4 l)) T.2 k else (upA v T.2 (up1 (up1 (up1 (up1 (up1 (fun x => 0) 0 h) 1 c) 2 t) 3 a) 4 l)) (406 + A 0) k)) x = v x := fun x x0 x1 => by unfold jfz at x1; rw [upA_ne (by omega), upA_ne (by omega)]
    have f5 : ∀ k z, 0 ≤ k → k < 5 → (up1 (up1 (up1 (up1 (up1 (fun x => 0) 0 h) 1 c) 2 t) 3 a) 4 l) k = z → (upA (upA v T.2 (up1 (up1 (up1 (up1 (up1 (fun x => 0) 0 h) 1 c) 2 t) 3 a) 4 l)) (406 + A 0) (fun k => if 0 ≤ k ∧ k < 5 then (upA v T.2 (up1 (up1 (up1 (up1 (up1 (fun x => 0) 0 h) 1 c) 2 t) 3 a) 4 l)) T.2 k else (upA v T.2 (up1 (up1 (up1 (up1 (up1 (fun x => 0) 0 h) 1 c) 2 t) 3 a) 4 l)) (406 + A 0) k)) (406 + A 0) k = z := fun k z k0 k1 e => by rw [upA_eq, if_pos ⟨k0, k1⟩, upA_eq]; exact e
    have fx : ∀ x, 400 ≤ x → x < 562 → x ≠ 406 + A 0 → (upA (upA v T.2 (up1 (up1 (up1 (up1 (up1 (fun x => 0) 0 h) 1 c) 2 t) 3 a) 4 l)) (406 + A 0) (fun k => if 0 ≤ k ∧ k < 5 then (upA v T.2 (up1 (up1 (up1 (up1 (up1 (fun x => 0) 0 h) 1 c) 2 t) 3 a) 4 l)) T.2 k else (upA v T.2 (up1 (up1 (up1 (up1 (up1 (fun x => 0) 0 h) 1 c) 2 t) 3 a) 4 l)) (406 + A 0) k)) x = v x := fun x x0 x1 x2 => by rw [upA_ne (by omega), upA_ne (by omega)]
    generalize (upA (upA v T.2 (up1 (up1 (up1 (up1 (up1 (fun x => 0) 0 h) 1 c) 2 t) 3 a) 4 l)) (406 + A 0) (fun k => if 0 ≤ k ∧ k < 5 then (upA v T.2 (up1 (up1 (up1 (up1 (up1 (fun x => 0) 0 h) 1 c) 2 t) 3 a) 4 l)) T.2 k else (upA v T.2 (up1 (up1 (up1 (up1 (up1 (fun x => 0) 0 h) 1 c) 2 t) 3 a) 4 l)) (406 + A 0) k)) = w at *
    have e402 : w 402 = v 402 := f2 402 (by omega) (by omega) (by omega)
    have e4020 : w 402 0 = A 0 := by rw [e402]; exact hC.n0
    have hV := hVw
    have hT := hT'
    simp (disch := (first | decide | omega)) only [jxs, hps, jtsw, jlsw, List.length_cons, List.length_nil, true_and, and_true, true_implies, false_implies, implies_true, not_true_eq_false, not_false_eq_true, false_and, and_false, if_true, if_false, or_true, true_or, or_false, false_or, Classical.not_not, and_self, Int.reduceAdd, Int.reduceMul, Int.reduceSub, Int.reduceNeg, Int.reduceLT, Int.reduceLE, Int.reduceEq, Int.reduceNe, Int.reduceToNat, Nat.reduceAdd, Nat.reduceMul, Nat.reduceSub, Nat.reduceLeDiff, Nat.reduceLT, Nat.reduceEqDiff, reduceIte, Nat.zero_le, Nat.le_refl, Nat.add_zero, Nat.zero_add, xwT hT, xwV hV, e4020]
    (repeat (refine And.intro (by (first | omega | assumption | trivial | (simp only [inI]; omega) | (simp only [inL]; omega) | (refine jb_01) | (exact jb_in))) ?_))
    have hc : bokC A h c t a l := by unfold bokC; omega
    have hg : jGR (v, T) (upA w 402 (up1 (w 402) 0 (A 0 + 1)), nt T (-1) 5) := nt_gr (fun x x0 x1 => by have := f0 x x0 x1; unfold jfz at x1; rw [upA_ne (by omega)]; exact this)
    refine hQ.1 hc _ _ (hC.bok hg hc ?_ ?_ ?_) ⟨hT', ?_, hg, ?_⟩
    · rw [upA_eq, e402]
    · rw [upA_ne (by omega)]
      exact ⟨f5 0 _ (by omega) (by omega) rfl, f5 1 _ (by omega) (by omega) rfl, f5 2 _ (by omega) (by omega) rfl, f5 3 _ (by omega) (by omega) rfl, f5 4 _ (by omega) (by omega) rfl⟩
    · intro x x0 x1 x2 x3
      rw [upA_ne x2]
      exact f2 x x0 x1 x3
    · exact hV.A (by decide)
    · intro x x0 x1 x2 x3
      rw [upA_ne (by omega)]
      by_cases x4 : x < 400
      · exact f0 x (by omega) (by unfold jfz; omega)
      · exact fx x (by omega) x0 (by omega)
  · exact k1 (fun q => by unfold bokC at q; omega)
theorem xw_dust {b o r p : Int} {v : Int → Int → Int} (hT : PT T) (hV : PV v) (hC : CI (v, T) A X) (hr : 0 ≤ r ∧ r ≤ 1) (hp : 0 ≤ p ∧ p ≤ 1) (hQ : (b = -1 → ∀ w, CI (w, T) (up1 A 8 0) X → jkM v w → Q (.inl (some (vI 0))) (w, T)) ∧ (¬ b = -1 → duC A b o → ∀ w T', CI (w, T') (duA A b o r p) X → jkB v T w T' → Q (.inl (some (vI (A 8 + 1)))) (w, T')) ∧ (¬ b = -1 → ¬ duC A b o → Q (.inl (some (vI (-2)))) (v, T))) : jmet g (d + 3) 1 4 MX0_dust [vR 400, vI b, vI o, vI r, vI p] (v, T) Q := by
  have h0 := hC.tb.1
  have h8 := hC.2.2.2.2.2.2.1
  refine jmet_of (ls := [some (vR 400), some (vI b), some (vI o), some (vI r), some (vI p), none]) sX0_dust rfl (by decide +kernel) (by decide) rfl (by simp [jent]) ?_
  refine jW_step ?_
  simp (disch := (first | decide | omega)) only [bX0_dust, jxs, hps, jtsw, jlsw, List.length_cons, List.length_nil, true_and, and_true, true_implies, false_implies, implies_true, not_true_eq_false, not_false_eq_true, false_and, and_false, if_true, if_false, or_true, true_or, or_false, false_or, Classical.not_not, and_self, Int.reduceAdd, Int.reduceMul, Int.reduceSub, Int.reduceNeg, Int.reduceLT, Int.reduceLE, Int.reduceEq, Int.reduceNe, Int.reduceToNat, Nat.reduceAdd, Nat.reduceMul, Nat.reduceSub, Nat.reduceLeDiff, Nat.reduceLT, Nat.reduceEqDiff, reduceIte, Nat.zero_le, Nat.le_refl, Nat.add_zero, Nat.zero_add, xwT hT, xwV hV]
  refine ⟨fun hb => ?_, fun hb => ?_⟩
  · have hq := (hQ.2.1 hb)
    have hn := (hQ.2.2 hb)
    have no : ¬ duC A b o → jW bX0_dust (g, d + 2, 1, 4, Q) 1 [some (vR 400), some (vI b), some (vI o), some (vI r), some (vI p), none] [] (v, T) 0 0 := by
      intro q
      refine jW_step ?_
      simp (disch := (first | decide | omega)) only [bX0_dust, jxs, hps, jtsw, jlsw, List.length_cons, List.length_nil, true_and, and_true, true_implies, false_implies, implies_true, not_true_eq_false, not_false_eq_true, false_and, and_false, if_true, if_false, or_true, true_or, or_false, false_or, Classical.not_not, and_self, Int.reduceAdd, Int.reduceMul, Int.reduceSub, Int.reduceNeg, Int.reduceLT, Int.reduceLE, Int.reduceEq, Int.reduceNe, Int.reduceToNat, Nat.reduceAdd, Nat.reduceMul, Nat.reduceSub, Nat.reduceLeDiff, Nat.reduceLT, Nat.reduceEqDiff, reduceIte, Nat.zero_le, Nat.le_refl, Nat.add_zero, Nat.zero_add, xwT hT, xwV hV]
      (repeat (refine And.intro (by (first | omega | assumption | trivial | (simp only [inI]; omega) | (simp only [inL]; omega) | (refine jb_01) | (exact jb_in))) ?_))
      exact hn q
    refine ⟨0, 0, ⟨by omega, by omega⟩, xw_isBook hT hV hC ?_⟩
    simp (disch := (first | decide | omega)) only [jxs, hps, jtsw, jlsw, List.length_cons, List.length_nil, true_and, and_true, true_implies, false_implies, implies_true, not_true_eq_false, not_false_eq_true, false_and, and_false, if_true, if_false, or_true, true_or, or_false, false_or, Classical.not_not, and_self, Int.reduceAdd, Int.reduceMul, Int.reduceSub, Int.reduceNeg, Int.reduceLT, Int.reduceLE, Int.reduceEq, Int.reduceNe, Int.reduceToNat, Nat.reduceAdd, Nat.reduceMul, Nat.reduceSub, Nat.reduceLeDiff, Nat.reduceLT, Nat.reduceEqDiff, reduceIte, Nat.zero_le, Nat.le_refl, Nat.add_zero, Nat.zero_add, xwT hT, xwV hV]
    refine ⟨fun h1 => ?_, fun h1 => ?_⟩
    · exact no (fun q => h1 q.1)
    refine ⟨0, 0, ⟨by omega, by omega⟩, xw_isBook hT hV hC ?_⟩
    simp (disch := (first | decide | omega)) only [jxs, hps, jtsw, jlsw, List.length_cons, List.length_nil, true_and, and_true, true_implies, false_implies, implies_true, not_true_eq_false, not_false_eq_true, false_and, and_false, if_true, if_false, or_true, true_or, or_false, false_or, Classical.not_not, and_self, Int.reduceAdd, Int.reduceMul, Int.reduceSub, Int.reduceNeg, Int.reduceLT, Int.reduceLE, Int.reduceEq, Int.reduceNe, Int.reduceToNat, Nat.reduceAdd, Nat.reduceMul, Nat.reduceSub, Nat.reduceLeDiff, Nat.reduceLT, Nat.reduceEqDiff, reduceIte, Nat.zero_le, Nat.le_refl, Nat.add_zero, Nat.zero_add, xwT hT, xwV hV]
    refine ⟨fun h2 => ?_, fun h2 => ?_⟩
    · exact no (fun q => h2 q.2.1)
    refine ⟨fun h3 => ?_, fun h3 => ?_⟩
    · exact no (fun q => q.2.2.1 h3)
    simp (disch := (first | decide | omega)) only [jxs, hps, jtsw, jlsw, List.length_cons, List.length_nil, true_and, and_true, true_implies, false_implies, implies_true, not_true_eq_false, not_false_eq_true, false_and, and_false, if_true, if_false, or_true, true_or, or_false, false_or, Classical.not_not, and_self, Int.reduceAdd, Int.reduceMul, Int.reduceSub, Int.reduceNeg, Int.reduceLT, Int.reduceLE, Int.reduceEq, Int.reduceNe, Int.reduceToNat, Nat.reduceAdd, Nat.reduceMul, Nat.reduceSub, Nat.reduceLeDiff, Nat.reduceLT, Nat.reduceEqDiff, reduceIte, Nat.zero_le, Nat.le_refl, Nat.add_zero, Nat.zero_add, xwT hT, xwV hV, hC.n5]
    (repeat (refine And.intro (by (first | omega | assumption | trivial | (simp only [inI]; omega) | (simp only [inL]; omega) | (refine jb_01) | (exact jb_in))) ?_))
    refine ⟨fun h4 => ?_, fun h4 => ?_⟩
    · have hA : A 8 < 12 := by omega
      have hr1 := nt_ok (T := T) (by have := hT.1; omega) (c := -1) (n := 4)
      have hl := nt_ln (T := T) (c := -1) (n := 4)
      have hT' := hT.nt (-1) 4
      have h9 := hT.1
      have e416 := PVdu hV (k := A 8) (by omega)
      have V1 : ∀ f, PV (upA v T.2 f) := fun f => hV.A (bigp h9)
      have hxT := xwT hT'
      have tb := PTdu hT' (k := A 8) (by omega)
      have n5 := hC.n5
      have k3 : ∀ x, x = p → jW bX0_dust (g, d + 2, 1, 4, Q) 3 [some (vR 400), some (vI b), some (vI o), some (vI r), some (vI p), none] [vI x, vI 3, vR T.2, vR T.2] (upA v T.2 (up1 (up1 (up1 (fun _ => 0) 0 b) 1 o) 2 r), nt T (-1) 4) 1 4 := by
        intro x hx
        rw [hx]
        have hV0 := hV
        have hT0 := hT
        have hT := hT'
        refine jW_step ?_
        simp (disch := (first | decide | omega)) only [bX0_dust, jxs, hps, jtsw, jlsw, List.length_cons, List.length_nil, true_and, and_true, true_implies, false_implies, implies_true, not_true_eq_false, not_false_eq_true, false_and, and_false, if_true, if_false, or_true, true_or, or_false, false_or, Classical.not_not, and_self, Int.reduceAdd, Int.reduceMul, Int.reduceSub, Int.reduceNeg, Int.reduceLT, Int.reduceLE, Int.reduceEq, Int.reduceNe, Int.reduceToNat, Nat.reduceAdd, Nat.reduceMul, Nat.reduceSub, Nat.reduceLeDiff, Nat.reduceLT, Nat.reduceEqDiff, reduceIte, Nat.zero_le, Nat.le_refl, Nat.add_zero, Nat.zero_add, xwT hT, xwV hV, hr1, hl, hxT, e416, n5]
        (repeat (refine And.intro (by (first | omega | assumption | trivial | (simp only [inI]; omega) | (simp only [inL]; omega) | (refine jb_01) | (exact jb_in))) ?_))
        refine ⟨0, 0, ⟨by omega, by omega⟩, xw_copy (n := 4) ⟨hr1, by omega, hl⟩ ⟨tb.1, by omega, by rw [tb.2]; omega⟩ (by omega) ?_⟩
        have hVw : PV (upA (upA v T.2 (up1 (up1 (up1 (up1 (fun _ => 0) 0 b) 1 o) 2 r) 3 p)) (417 + A 8) (fun k => if 0 ≤ k ∧ k < 4 then (upA v T.2 (up1 (up1 (up1 (up1 (fun _ => 0) 0 b) 1 o) 2 r) 3 p)) T.2 k else (upA v T.2 (up1 (up1 (up1 (up1 (fun _ => 0) 0 b) 1 o) 2 r) 3 p)) (417 + A 8) k)) := (V1 _).A (dup (by omega))
        have f2 : ∀ x, 400 < x → x < 562 → x ≠ 417 + A 8 → (upA (upA v T.2 (up1 (up1 (up1 (up1 (fun _ => 0) 0 b) 1 o) 2 r) 3 p)) (417 + A 8) (fun k => if 0 ≤ k ∧ k < 4 then (upA v T.2 (up1 (up1 (up1 (up1 (fun _ => 0) 0 b) 1 o) 2 r) 3 p)) T.2 k else (upA v T.2 (up1 (up1 (up1 (up1 (fun _ => 0) 0 b) 1 o) 2 r) 3 p)) (417 + A 8) k)) x = v x := fun x x0 x1 x2 => by rw [upA_ne (by omega), upA_ne (by omega)]
        have f0 : ∀ x, x < T.2 → jfz x → (upA (upA v T.2 (up1 (up1 (up1 (up1 (fun _ => 0) 0 b) 1 o) 2 r) 3 p)) (417 + A 8) (fun k => if 0 ≤ k ∧ k < 4 then (upA v T.2 (up1 (up1 (up1 (up1 (fun _ => 0) 0 b) 1 o) 2 r) 3 p)) T.2 k else (upA v T.2 (up1 (up1 (up1 (up1 (fun _ => 0) 0 b) 1 o) 2 r) 3 p)) (417 + A 8) k)) x = v x := fun x x0 x1 => by unfold jfz at x1; rw [upA_ne (by omega), upA_ne (by omega)]
        have f5 : ∀ k z, 0 ≤ k → k < 4 → (up1 (up1 (up1 (up1 (fun _ => 0) 0 b) 1 o) 2 r) 3 p) k = z → (upA (upA v T.2 (up1 (up1 (up1 (up1 (fun _ => 0) 0 b) 1 o) 2 r) 3 p)) (417 + A 8) (fun k => if 0 ≤ k ∧ k < 4 then (upA v T.2 (up1 (up1 (up1 (up1 (fun _ => 0) 0 b) 1 o) 2 r) 3 p)) T.2 k else (upA v T.2 (up1 (up1 (up1 (up1 (fun _ => 0) 0 b) 1 o) 2 r) 3 p)) (417 + A 8) k)) (417 + A 8) k = z := fun k z k0 k1 e => by rw [upA_eq, if_pos ⟨k0, k1⟩, upA_eq]; exact e
        have fx : ∀ x, 400 ≤ x → x < 562 → x ≠ 417 + A 8 → (upA (upA v T.2 (up1 (up1 (up1 (up1 (fun _ => 0) 0 b) 1 o) 2 r) 3 p)) (417 + A 8) (fun k => if 0 ≤ k ∧ k < 4 then (upA v T.2 (up1 (up1 (up1 (up1 (fun _ => 0) 0 b) 1 o) 2 r) 3 p)) T.2 k else (upA v T.2 (up1 (up1 (up1 (up1 (fun _ => 0) 0 b) 1 o) 2 r) 3 p)) (417 + A 8) k)) x = v x := fun x x0 x1 x2 => by rw [upA_ne (by omega), upA_ne (by omega)]
        generalize (upA (upA v T.2 (up1 (up1 (up1 (up1 (fun _ => 0) 0 b) 1 o) 2 r) 3 p)) (417 + A 8) (fun k => if 0 ≤ k ∧ k < 4 then (upA v T.2 (up1 (up1 (up1 (up1 (fun _ => 0) 0 b) 1 o) 2 r) 3 p)) T.2 k else (upA v T.2 (up1 (up1 (up1 (up1 (fun _ => 0) 0 b) 1 o) 2 r) 3 p)) (417 + A 8) k)) = w at *
        have e402 : w 402 = v 402 := f2 402 (by omega) (by omega) (by omega)
        have e4020 : w 402 5 = A 8 := by rw [e402]; exact n5
        have hV := hVw
        simp (disch := (first | decide | omega)) only [jxs, hps, jtsw, jlsw, List.length_cons, List.length_nil, true_and, and_true, true_implies, false_implies, implies_true, not_true_eq_false, not_false_eq_true, false_and, and_false, if_true, if_false, or_true, true_or, or_false, false_or, Classical.not_not, and_self, Int.reduceAdd, Int.reduceMul, Int.reduceSub, Int.reduceNeg, Int.reduceLT, Int.reduceLE, Int.reduceEq, Int.reduceNe, Int.reduceToNat, Nat.reduceAdd, Nat.reduceMul, Nat.reduceSub, Nat.reduceLeDiff, Nat.reduceLT, Nat.reduceEqDiff, reduceIte, Nat.zero_le, Nat.le_refl, Nat.add_zero, Nat.zero_add, xwT hT, xwV hV, e4020]
        (repeat (refine And.intro (by (first | omega | assumption | trivial | (simp only [inI]; omega) | (simp only [inL]; omega) | (refine jb_01) | (exact jb_in))) ?_))
        have hg : jGR (v, T) (upA w 402 (up1 (w 402) 5 (A 8 + 1)), nt T (-1) 4) := nt_gr (fun x x0 x1 => by have := f0 x x0 x1; unfold jfz at x1; rw [upA_ne (by omega)]; exact this)
        refine hq ⟨h1, h2, h3, h4⟩ _ _ (hC.dus hg h4 ?_ ?_ ?_) ⟨hT', ?_, hg, ?_⟩
        · rw [upA_eq, e402]
        · rw [upA_ne (by omega)]
          exact ⟨f5 0 _ (by omega) (by omega) rfl, f5 1 _ (by omega) (by omega) rfl, f5 2 _ (by omega) (by omega) rfl, f5 3 _ (by omega) (by omega) rfl⟩
        · intro x x0 x1 x2 x3
          rw [upA_ne x2]
          exact f2 x x0 x1 x3
        · exact hV.A (by decide)
        · intro x x0 x1 x2 x3
          rw [upA_ne (by omega)]
          by_cases x4 : x < 400
          · exact f0 x (by omega) (by unfold jfz; omega)
          · exact fx x (by omega) x0 (by omega)
      have k2 : ∀ x, x = r → jW bX0_dust (g, d + 2, 1, 4, Q) 2 [some (vR 400), some (vI b), some (vI o), some (vI r), some (vI p), none] [vI x, vI 2, vR T.2, vR T.2] (upA v T.2 (up1 (up1 (fun _ => 0) 0 b) 1 o), nt T (-1) 4) 1 4 := by
        intro x hx
        rw [hx]
        have hV0 := hV
        have hT0 := hT
        have hT := hT'
        refine jW_step ?_
        simp (disch := (first | decide | omega)) only [bX0_dust, jxs, hps, jtsw, jlsw, List.length_cons, List.length_nil, true_and, and_true, true_implies, false_implies, implies_true, not_true_eq_false, not_false_eq_true, false_and, and_false, if_true, if_false, or_true, true_or, or_false, false_or, Classical.not_not, and_self, Int.reduceAdd, Int.reduceMul, Int.reduceSub, Int.reduceNeg, Int.reduceLT, Int.reduceLE, Int.reduceEq, Int.reduceNe, Int.reduceToNat, Nat.reduceAdd, Nat.reduceMul, Nat.reduceSub, Nat.reduceLeDiff, Nat.reduceLT, Nat.reduceEqDiff, reduceIte, Nat.zero_le, Nat.le_refl, Nat.add_zero, Nat.zero_add, xwT hT, xwV hV, hr1, hl, hxT]
        (repeat (refine And.intro (by (first | omega | assumption | trivial | (simp only [inI]; omega) | (simp only [inL]; omega) | (refine jb_01) | (exact jb_in))) ?_))
        refine ⟨fun hp1 => ?_, fun hp1 => ?_⟩
        · exact k3 0 (by omega)
        · exact k3 1 (by omega)
      have hV0 := hV
      simp (disch := (first | decide | omega)) only [jxs, hps, jtsw, jlsw, List.length_cons, List.length_nil, true_and, and_true, true_implies, false_implies, implies_true, not_true_eq_false, not_false_eq_true, false_and, and_false, if_true, if_false, or_true, true_or, or_false, false_or, Classical.not_not, and_self, Int.reduceAdd, Int.reduceMul, Int.reduceSub, Int.reduceNeg, Int.reduceLT, Int.reduceLE, Int.reduceEq, Int.reduceNe, Int.reduceToNat, Nat.reduceAdd, Nat.reduceMul, Nat.reduceSub, Nat.reduceLeDiff, Nat.reduceLT, Nat.reduceEqDiff, reduceIte, Nat.zero_le, Nat.le_refl, Nat.add_zero, Nat.zero_add, xwT hT, xwV hV, jnew_eq, hr1, hl, hxT]
      (repeat (refine And.intro (by (first | omega | assumption | trivial | (simp only [inI]; omega) | (simp only [inL]; omega) | (refine jb_01) | (exact jb_in))) ?_))
      refine ⟨fun hr2 => ?_, fun hr2 => ?_⟩
      · exact k2 0 (by omega)
      · exact k2 1 (by omega)
    · exact no (fun q => q.2.2.2 (by omega))
  · (repeat (refine And.intro (by (first | omega | assumption | trivial | (simp only [inI]; omega) | (simp only [inL]; omega) | (refine jb_01) | (exact jb_in))) ?_))
    have hq := hC.1.1
    have ci := hC.hdr (f' := up1 (v 402) 5 0) (g' := v 403) (A' := up1 A 8 0) ⟨by rw [up1_ne (by omega), up1_ne (by omega)]; exact hq.1, by rw [up1_ne (by omega), up1_ne (by omega)]; exact hq.2.1, by rw [up1_ne (by omega), up1_ne (by omega)]; exact hq.2.2.1, by rw [up1_ne (by omega), up1_ne (by omega)]; exact hq.2.2.2.1, by rw [up1_ne (by omega), up1_ne (by omega)]; exact hq.2.2.2.2.1, by rw [up1_eq, up1_eq]⟩ (fun s s0 s1 => by rw [up1_ne (by omega)]; exact hC.w ⟨s0, s1⟩) (fun i _ _ i8 _ => up1_ne i8) (hC.tb.hd (by omega)) (by rw [up1_eq]; omega)
    have eu : upA (upA v 402 (up1 (v 402) 5 0)) 403 (v 403) = upA v 402 (up1 (v 402) 5 0) := by
      have : v 403 = (upA v 402 (up1 (v 402) 5 0)) 403 := (upA_ne (by omega)).symm
      rw [this, upA_id]
    rw [eu] at ci
    exact hQ.1 hb _ ci (jkM.up hV (by omega))
end XG
