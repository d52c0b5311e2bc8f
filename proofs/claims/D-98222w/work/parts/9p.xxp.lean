/-! ===== the class: image, back ===== -/
-- MODE X
set_option maxRecDepth 100000
theorem PVbi {v : Int → Int → Int} (hV : PV v) {k : Int} (h : 0 ≤ k ∧ k < 10) : v 465 k = 466 + k := by
  have key : ∀ b : Fin 10, ((465 : Int), ((b.val : Nat) : Int), (466 : Int) + b.val) ∈ pvL := by decide
  have := hV _ (key ⟨k.toNat, by omega⟩)
  dsimp only at this
  rwa [show ((k.toNat : Nat) : Int) = k by omega] at this
theorem PTbi {T : jjT} (hT : PT T) {k : Int} (h : 0 ≤ k ∧ k < 10) : jok T (466 + k) (-1) ∧ jln T (466 + k) = 5 := by
  have key : ∀ b : Fin 10, ((466 : Int) + b.val, (-1 : Int), (5 : Int)) ∈ ptL := by decide
  have m := key ⟨k.toNat, by omega⟩
  dsimp only at m
  rw [show ((k.toNat : Nat) : Int) = k by omega] at m
  exact ⟨hT.ok _ _ _ m, hT.ln _ _ _ m⟩
theorem PVdi {v : Int → Int → Int} (hV : PV v) {k : Int} (h : 0 ≤ k ∧ k < 12) : v 476 k = 477 + k := by
  have key : ∀ b : Fin 12, ((476 : Int), ((b.val : Nat) : Int), (477 : Int) + b.val) ∈ pvL := by decide
  have := hV _ (key ⟨k.toNat, by omega⟩)
  dsimp only at this
  rwa [show ((k.toNat : Nat) : Int) = k by omega] at this
theorem PTdi {T : jjT} (hT : PT T) {k : Int} (h : 0 ≤ k ∧ k < 12) : jok T (477 + k) (-1) ∧ jln T (477 + k) = 4 := by
  have key : ∀ b : Fin 12, ((477 : Int) + b.val, (-1 : Int), (4 : Int)) ∈ ptL := by decide
  have m := key ⟨k.toNat, by omega⟩
  dsimp only at m
  rw [show ((k.toNat : Nat) : Int) = k by omega] at m
  exact ⟨hT.ok _ _ _ m, hT.ln _ _ _ m⟩
theorem PVsi {v : Int → Int → Int} (hV : PV v) {k : Int} (h : 0 ≤ k ∧ k < 30) : v 489 k = 490 + k := by
  have key : ∀ b : Fin 30, ((489 : Int), ((b.val : Nat) : Int), (490 : Int) + b.val) ∈ pvL := by decide
  have := hV _ (key ⟨k.toNat, by omega⟩)
  dsimp only at this
  rwa [show ((k.toNat : Nat) : Int) = k by omega] at this
theorem PTsi {T : jjT} (hT : PT T) {k : Int} (h : 0 ≤ k ∧ k < 30) : jok T (490 + k) (-1) ∧ jln T (490 + k) = 287 := by
  have key : ∀ b : Fin 30, ((490 : Int) + b.val, (-1 : Int), (287 : Int)) ∈ ptL := by decide
  have m := key ⟨k.toNat, by omega⟩
  dsimp only at m
  rw [show ((k.toNat : Nat) : Int) = k by omega] at m
  exact ⟨hT.ok _ _ _ m, hT.ln _ _ _ m⟩
theorem jbe.pv {v w : Int → Int → Int} {o p : Int} (h : jbe v w o p) (hV : PV v) (hp : p = 401 ∨ p = 461) : PV w := by
  refine hV.fr (fun a ha => h.2 a ?_)
  have k1 : ∀ a ∈ pvA, a ≤ (401 : Int) ∨ (401 : Int) + 59 < a ∨ a = 401 + 4 ∨ a = 401 + 15 ∨ a = 401 + 28 := by decide
  have k2 : ∀ a ∈ pvA, a ≤ (461 : Int) ∨ (461 : Int) + 59 < a ∨ a = 461 + 4 ∨ a = 461 + 15 ∨ a = 461 + 28 := by decide
  rcases hp with e | e
  · rw [e]; exact k1 a ha
  · rw [e]; exact k2 a ha
section XG
variable {g : jjG} {d : Nat} {T : jjT} {Q : jjQ} {A X : Int → Int}
theorem xw_be_461 {v : Int → Int → Int} (hT : PT T) (hV : PV v) (ht : ∀ i, 0 ≤ i → i < 4 → v 460 i = 0 ∨ jok T (v 460 i) 4) (hQ : ∀ w, jbe v w 401 461 → PV w → Q (.inl none) (w, T)) : jmet g (d + 3) 0 0 MX1_be [vR 461, vR 401] (v, T) Q := by
  have t1 := And.intro (PT.ok hT 402 (-1) 6 (by decide +kernel)) (PT.ln hT 402 (-1) 6 (by decide +kernel))
  have t2 := And.intro (PT.ok hT 462 (-1) 6 (by decide +kernel)) (PT.ln hT 462 (-1) 6 (by decide +kernel))
  have t3 := And.intro (PT.ok hT 403 (-1) 3 (by decide +kernel)) (PT.ln hT 403 (-1) 3 (by decide +kernel))
  have t4 := And.intro (PT.ok hT 463 (-1) 3 (by decide +kernel)) (PT.ln hT 463 (-1) 3 (by decide +kernel))
  have t5 := And.intro (PT.ok hT 404 (-1) 287 (by decide +kernel)) (PT.ln hT 404 (-1) 287 (by decide +kernel))
  have t6 := And.intro (PT.ok hT 464 (-1) 287 (by decide +kernel)) (PT.ln hT 464 (-1) 287 (by decide +kernel))
  have u1 := And.intro (PT.ok hT 405 (-5) 10 (by decide +kernel)) (PT.ln hT 405 (-5) 10 (by decide +kernel))
  have u2 := And.intro (PT.ok hT 465 (-5) 10 (by decide +kernel)) (PT.ln hT 465 (-5) 10 (by decide +kernel))
  have u3 := And.intro (PT.ok hT 416 (-5) 12 (by decide +kernel)) (PT.ln hT 416 (-5) 12 (by decide +kernel))
  have u4 := And.intro (PT.ok hT 476 (-5) 12 (by decide +kernel)) (PT.ln hT 476 (-5) 12 (by decide +kernel))
  have u5 := And.intro (PT.ok hT 429 (-5) 30 (by decide +kernel)) (PT.ln hT 429 (-5) 30 (by decide +kernel))
  have u6 := And.intro (PT.ok hT 489 (-5) 30 (by decide +kernel)) (PT.ln hT 489 (-5) 30 (by decide +kernel))
  refine jmet_of (ls := [some (vR 461), some (vR 401)]) sX1_be rfl (by decide +kernel) (by decide) rfl (by simp [jent]) ?_
  refine jW_step ?_
  simp (disch := (first | decide | omega)) only [bX1_be, jxs, hps, jtsw, jlsw, List.length_cons, List.length_nil, true_and, and_true, true_implies, false_implies, implies_true, not_true_eq_false, not_false_eq_true, false_and, and_false, if_true, if_false, or_true, true_or, or_false, false_or, Classical.not_not, and_self, Int.reduceAdd, Int.reduceMul, Int.reduceSub, Int.reduceNeg, Int.reduceLT, Int.reduceLE, Int.reduceEq, Int.reduceNe, Int.reduceToNat, Nat.reduceAdd, Nat.reduceMul, Nat.reduceSub, Nat.reduceLeDiff, Nat.reduceLT, Nat.reduceEqDiff, reduceIte, Nat.zero_le, Nat.le_refl, Nat.add_zero, Nat.zero_add, xwT hT, xwV hV]
  (repeat (refine And.intro (by (first | omega | assumption | trivial | (simp only [inI]; omega) | (simp only [inL]; omega) | (refine jb_01) | (exact jb_in))) ?_))
  refine ⟨0, 0, ⟨by omega, by omega⟩, xw_copy (n := 6) ⟨t1.1, by omega, t1.2⟩ ⟨t2.1, by omega, by rw [t2.2]; omega⟩ (by omega) ?_⟩
  have h1 : jcq v _ 402 462 1 6 := jcq.one
  generalize (upA v 462 (fun k => if 0 ≤ k ∧ k < 6 then v 402 k else v 462 k)) = v1 at *
  have hV0 := hV
  have hV := h1.pv hV0 (by decide)
  have hV1 := hV
  simp (disch := (first | decide | omega)) only [jxs, hps, jtsw, jlsw, List.length_cons, List.length_nil, true_and, and_true, true_implies, false_implies, implies_true, not_true_eq_false, not_false_eq_true, false_and, and_false, if_true, if_false, or_true, true_or, or_false, false_or, Classical.not_not, and_self, Int.reduceAdd, Int.reduceMul, Int.reduceSub, Int.reduceNeg, Int.reduceLT, Int.reduceLE, Int.reduceEq, Int.reduceNe, Int.reduceToNat, Nat.reduceAdd, Nat.reduceMul, Nat.reduceSub, Nat.reduceLeDiff, Nat.reduceLT, Nat.reduceEqDiff, reduceIte, Nat.zero_le, Nat.le_refl, Nat.add_zero, Nat.zero_add, xwT hT, xwV hV]
  (repeat (refine And.intro (by (first | omega | assumption | trivial | (simp only [inI]; omega) | (simp only [inL]; omega) | (refine jb_01) | (exact jb_in))) ?_))
  refine ⟨0, 0, ⟨by omega, by omega⟩, xw_copy (n := 3) ⟨t3.1, by omega, t3.2⟩ ⟨t4.1, by omega, by rw [t4.2]; omega⟩ (by omega) ?_⟩
  have h2 : jcq v1 _ 403 463 1 3 := jcq.one
  generalize (upA v1 463 (fun k => if 0 ≤ k ∧ k < 3 then v1 403 k else v1 463 k)) = v2 at *
  have hV := h2.pv hV1 (by decide)
  have hV2 := hV
  simp (disch := (first | decide | omega)) only [jxs, hps, jtsw, jlsw, List.length_cons, List.length_nil, true_and, and_true, true_implies, false_implies, implies_true, not_true_eq_false, not_false_eq_true, false_and, and_false, if_true, if_false, or_true, true_or, or_false, false_or, Classical.not_not, and_self, Int.reduceAdd, Int.reduceMul, Int.reduceSub, Int.reduceNeg, Int.reduceLT, Int.reduceLE, Int.reduceEq, Int.reduceNe, Int.reduceToNat, Nat.reduceAdd, Nat.reduceMul, Nat.reduceSub, Nat.reduceLeDiff, Nat.reduceLT, Nat.reduceEqDiff, reduceIte, Nat.zero_le, Nat.le_refl, Nat.add_zero, Nat.zero_add, xwT hT, xwV hV]
  (repeat (refine And.intro (by (first | omega | assumption | trivial | (simp only [inI]; omega) | (simp only [inL]; omega) | (refine jb_01) | (exact jb_in))) ?_))
  refine ⟨0, 0, ⟨by omega, by omega⟩, xw_copy (n := 287) ⟨t5.1, by omega, t5.2⟩ ⟨t6.1, by omega, by rw [t6.2]; omega⟩ (by omega) ?_⟩
  have h3 : jcq v2 _ 404 464 1 287 := jcq.one
  generalize (upA v2 464 (fun k => if 0 ≤ k ∧ k < 287 then v2 404 k else v2 464 k)) = v3 at *
  have hV := h3.pv hV2 (by decide)
  have hV3 := hV
  simp (disch := (first | decide | omega)) only [jxs, hps, jtsw, jlsw, List.length_cons, List.length_nil, true_and, and_true, true_implies, false_implies, implies_true, not_true_eq_false, not_false_eq_true, false_and, and_false, if_true, if_false, or_true, true_or, or_false, false_or, Classical.not_not, and_self, Int.reduceAdd, Int.reduceMul, Int.reduceSub, Int.reduceNeg, Int.reduceLT, Int.reduceLE, Int.reduceEq, Int.reduceNe, Int.reduceToNat, Nat.reduceAdd, Nat.reduceMul, Nat.reduceSub, Nat.reduceLeDiff, Nat.reduceLT, Nat.reduceEqDiff, reduceIte, Nat.zero_le, Nat.le_refl, Nat.add_zero, Nat.zero_add, xwT hT, xwV hV]
  (repeat (refine And.intro (by (first | omega | assumption | trivial | (simp only [inI]; omega) | (simp only [inL]; omega) | (refine jb_01) | (exact jb_in))) ?_))
  refine ⟨0, 0, ⟨by omega, by omega⟩, xw_copy2 (o := 406) (p := 466) (N := 10) (m := 5) v3 u1 u2 (by omega) (by omega) (by omega) (by omega) (fun k k0 k1 => PVbk hV3 ⟨k0, k1⟩) (fun k k0 k1 => PVbi hV3 ⟨k0, k1⟩) (fun k k0 k1 => PTbk hT ⟨k0, k1⟩) (fun k k0 k1 => PTbi hT ⟨k0, k1⟩) (by omega) (by omega) ?_⟩
  intro v4 h4
  have hV := h4.pv hV3 (by decide)
  have hV4 := hV
  simp (disch := (first | decide | omega)) only [jxs, hps, jtsw, jlsw, List.length_cons, List.length_nil, true_and, and_true, true_implies, false_implies, implies_true, not_true_eq_false, not_false_eq_true, false_and, and_false, if_true, if_false, or_true, true_or, or_false, false_or, Classical.not_not, and_self, Int.reduceAdd, Int.reduceMul, Int.reduceSub, Int.reduceNeg, Int.reduceLT, Int.reduceLE, Int.reduceEq, Int.reduceNe, Int.reduceToNat, Nat.reduceAdd, Nat.reduceMul, Nat.reduceSub, Nat.reduceLeDiff, Nat.reduceLT, Nat.reduceEqDiff, reduceIte, Nat.zero_le, Nat.le_refl, Nat.add_zero, Nat.zero_add, xwT hT, xwV hV]
  (repeat (refine And.intro (by (first | omega | assumption | trivial | (simp only [inI]; omega) | (simp only [inL]; omega) | (refine jb_01) | (exact jb_in))) ?_))
  refine ⟨0, 0, ⟨by omega, by omega⟩, xw_copy2 (o := 417) (p := 477) (N := 12) (m := 4) v4 u3 u4 (by omega) (by omega) (by omega) (by omega) (fun k k0 k1 => PVdu hV4 ⟨k0, k1⟩) (fun k k0 k1 => PVdi hV4 ⟨k0, k1⟩) (fun k k0 k1 => PTdu hT ⟨k0, k1⟩) (fun k k0 k1 => PTdi hT ⟨k0, k1⟩) (by omega) (by omega) ?_⟩
  intro v5 h5
  have hV := h5.pv hV4 (by decide)
  have hV5 := hV
  simp (disch := (first | decide | omega)) only [jxs, hps, jtsw, jlsw, List.length_cons, List.length_nil, true_and, and_true, true_implies, false_implies, implies_true, not_true_eq_false, not_false_eq_true, false_and, and_false, if_true, if_false, or_true, true_or, or_false, false_or, Classical.not_not, and_self, Int.reduceAdd, Int.reduceMul, Int.reduceSub, Int.reduceNeg, Int.reduceLT, Int.reduceLE, Int.reduceEq, Int.reduceNe, Int.reduceToNat, Nat.reduceAdd, Nat.reduceMul, Nat.reduceSub, Nat.reduceLeDiff, Nat.reduceLT, Nat.reduceEqDiff, reduceIte, Nat.zero_le, Nat.le_refl, Nat.add_zero, Nat.zero_add, xwT hT, xwV hV]
  (repeat (refine And.intro (by (first | omega | assumption | trivial | (simp only [inI]; omega) | (simp only [inL]; omega) | (refine jb_01) | (exact jb_in))) ?_))
  refine ⟨0, 0, ⟨by omega, by omega⟩, xw_copy2 (o := 430) (p := 490) (N := 30) (m := 287) v5 u5 u6 (by omega) (by omega) (by omega) (by omega) (fun k k0 k1 => PVst hV5 ⟨k0, k1⟩) (fun k k0 k1 => PVsi hV5 ⟨k0, k1⟩) (fun k k0 k1 => PTst hT ⟨k0, k1⟩) (fun k k0 k1 => PTsi hT ⟨k0, k1⟩) (by omega) (by omega) ?_⟩
  intro v6 h6
  have hV := h6.pv hV5 (by decide)
  have hV6 := hV
  have e59 : v6 460 = v 460 := by rw [h6.2 _ (by omega), h5.2 _ (by omega), h4.2 _ (by omega), h3.2 _ (by omega), h2.2 _ (by omega), h1.2 _ (by omega)]
  have h7 : jcq v6 _ 460 520 1 4 := jcq.one
  have e7 : (fun k => if 0 ≤ k ∧ k < 4 then v6 460 (0 + (k - 0)) else v6 520 k) = (fun k => if 0 ≤ k ∧ k < 4 then v6 460 k else v6 520 k) := by
    funext k
    rw [Int.zero_add, Int.sub_zero]
  have ts := PT.ok hT 460 (-6) 4 (by decide +kernel)
  have tp := PT.ok hT 520 (-6) 4 (by decide +kernel)
  have ls := PT.ln hT 460 (-6) 4 (by decide +kernel)
  have lp := PT.ln hT 520 (-6) 4 (by decide +kernel)
  simp (disch := (first | decide | omega)) only [jxs, hps, jtsw, jlsw, List.length_cons, List.length_nil, true_and, and_true, true_implies, false_implies, implies_true, not_true_eq_false, not_false_eq_true, false_and, and_false, if_true, if_false, or_true, true_or, or_false, false_or, Classical.not_not, and_self, Int.reduceAdd, Int.reduceMul, Int.reduceSub, Int.reduceNeg, Int.reduceLT, Int.reduceLE, Int.reduceEq, Int.reduceNe, Int.reduceToNat, Nat.reduceAdd, Nat.reduceMul, Nat.reduceSub, Nat.reduceLeDiff, Nat.reduceLT, Nat.reduceEqDiff, reduceIte, Nat.zero_le, Nat.le_refl, Nat.add_zero, Nat.zero_add, xwT hT, xwV hV, jcpy_eq]
  (repeat (refine And.intro (by (first | omega | assumption | trivial | (simp only [inI]; omega) | (simp only [inL]; omega) | (refine jb_01) | (exact jb_in))) ?_))
  refine ⟨fun i i0 i1 => by rw [Int.zero_add, e59]; exact ht i i0 i1, ?_⟩
  rw [e7]
  have hb := jbe_of (o := 401) (p := 461) (by omega) h1 h2 h3 h4 h5 h6 h7
  exact hQ _ hb (hb.pv hV0 (by omega))
theorem xw_be_401 {v : Int → Int → Int} (hT : PT T) (hV : PV v) (ht : ∀ i, 0 ≤ i → i < 4 → v 520 i = 0 ∨ jok T (v 520 i) 4) (hQ : ∀ w, jbe v w 461 401 → PV w → Q (.inl none) (w, T)) : jmet g (d + 3) 0 0 MX1_be [vR 401, vR 461] (v, T) Q := by
  have t1 := And.intro (PT.ok hT 462 (-1) 6 (by decide +kernel)) (PT.ln hT 462 (-1) 6 (by decide +kernel))
  have t2 := And.intro (PT.ok hT 402 (-1) 6 (by decide +kernel)) (PT.ln hT 402 (-1) 6 (by decide +kernel))
  have t3 := And.intro (PT.ok hT 463 (-1) 3 (by decide +kernel)) (PT.ln hT 463 (-1) 3 (by decide +kernel))
  have t4 := And.intro (PT.ok hT 403 (-1) 3 (by decide +kernel)) (PT.ln hT 403 (-1) 3 (by decide +kernel))
  have t5 := And.intro (PT.ok hT 464 (-1) 287 (by decide +kernel)) (PT.ln hT 464 (-1) 287 (by decide +kernel))
  have t6 := And.intro (PT.ok hT 404 (-1) 287 (by decide +kernel)) (PT.ln hT 404 (-1) 287 (by decide +kernel))
  have u1 := And.intro (PT.ok hT 465 (-5) 10 (by decide +kernel)) (PT.ln hT 465 (-5) 10 (by decide +kernel))
  have u2 := And.intro (PT.ok hT 405 (-5) 10 (by decide +kernel)) (PT.ln hT 405 (-5) 10 (by decide +kernel))
  have u3 := And.intro (PT.ok hT 476 (-5) 12 (by decide +kernel)) (PT.ln hT 476 (-5) 12 (by decide +kernel))
  have u4 := And.intro (PT.ok hT 416 (-5) 12 (by decide +kernel)) (PT.ln hT 416 (-5) 12 (by decide +kernel))
  have u5 := And.intro (PT.ok hT 489 (-5) 30 (by decide +kernel)) (PT.ln hT 489 (-5) 30 (by decide +kernel))
  have u6 := And.intro (PT.ok hT 429 (-5) 30 (by decide +kernel)) (PT.ln hT 429 (-5) 30 (by decide +kernel))
  refine jmet_of (ls := [some (vR 401), some (vR 461)]) sX1_be rfl (by decide +kernel) (by decide) rfl (by simp [jent]) ?_
  refine jW_step ?_
  simp (disch := (first | decide | omega)) only [bX1_be, jxs, hps, jtsw, jlsw, List.length_cons, List.length_nil, true_and, and_true, true_implies, false_implies, implies_true, not_true_eq_false, not_false_eq_true, false_and, and_false, if_true, if_false, or_true, true_or, or_false, false_or, Classical.not_not, and_self, Int.reduceAdd, Int.reduceMul, Int.reduceSub, Int.reduceNeg, Int.reduceLT, Int.reduceLE, Int.reduceEq, Int.reduceNe, Int.reduceToNat, Nat.reduceAdd, Nat.reduceMul, Nat.reduceSub, Nat.reduceLeDiff, Nat.reduceLT, Nat.reduceEqDiff, reduceIte, Nat.zero_le, Nat.le_refl, Nat.add_zero, Nat.zero_add, xwT hT, xwV hV]
  (repeat (refine And.intro (by (first | omega | assumption | trivial | (simp only [inI]; omega) | (simp only [inL]; omega) | (refine jb_01) | (exact jb_in))) ?_))
  refine ⟨0, 0, ⟨by omega, by omega⟩, xw_copy (n := 6) ⟨t1.1, by omega, t1.2⟩ ⟨t2.1, by omega, by rw [t2.2]; omega⟩ (by omega) ?_⟩
  have h1 : jcq v _ 462 402 1 6 := jcq.one
  generalize (upA v 402 (fun k => if 0 ≤ k ∧ k < 6 then v 462 k else v 402 k)) = v1 at *
  have hV0 := hV
  have hV := h1.pv hV0 (by decide)
  have hV1 := hV
  simp (disch := (first | decide | omega)) only [jxs, hps, jtsw, jlsw, List.length_cons, List.length_nil, true_and, and_true, true_implies, false_implies, implies_true, not_true_eq_false, not_false_eq_true, false_and, and_false, if_true, if_false, or_true, true_or, or_false, false_or, Classical.not_not, and_self, Int.reduceAdd, Int.reduceMul, Int.reduceSub, Int.reduceNeg, Int.reduceLT, Int.reduceLE, Int.reduceEq, Int.reduceNe, Int.reduceToNat, Nat.reduceAdd, Nat.reduceMul, Nat.reduceSub, Nat.reduceLeDiff, Nat.reduceLT, Nat.reduceEqDiff, reduceIte, Nat.zero_le, Nat.le_refl, Nat.add_zero, Nat.zero_add, xwT hT, xwV hV]
  (repeat (refine And.intro (by (first | omega | assumption | trivial | (simp only [inI]; omega) | (simp only [inL]; omega) | (refine jb_01) | (exact jb_in))) ?_))
  refine ⟨0, 0, ⟨by omega, by omega⟩, xw_copy (n := 3) ⟨t3.1, by omega, t3.2⟩ ⟨t4.1, by omega, by rw [t4.2]; omega⟩ (by omega) ?_⟩
  have h2 : jcq v1 _ 463 403 1 3 := jcq.one
  generalize (upA v1 403 (fun k => if 0 ≤ k ∧ k < 3 then v1 463 k else v1 403 k)) = v2 at *
  have hV := h2.pv hV1 (by decide)
  have hV2 := hV
  simp (disch := (first | decide | omega)) only [jxs, hps, jtsw, jlsw, List.length_cons, List.length_nil, true_and, and_true, true_implies, false_implies, implies_true, not_true_eq_false, not_false_eq_true, false_and, and_false, if_true, if_false, or_true, true_or, or_false, false_or, Classical.not_not, and_self, Int.reduceAdd, Int.reduceMul, Int.reduceSub, Int.reduceNeg, Int.reduceLT, Int.reduceLE, Int.reduceEq, Int.reduceNe, Int.reduceToNat, Nat.reduceAdd, Nat.reduceMul, Nat.reduceSub, Nat.reduceLeDiff, Nat.reduceLT, Nat.reduceEqDiff, reduceIte, Nat.zero_le, Nat.le_refl, Nat.add_zero, Nat.zero_add, xwT hT, xwV hV]
  (repeat (refine And.intro (by (first | omega | assumption | trivial | (simp only [inI]; omega) | (simp only [inL]; omega) | (refine jb_01) | (exact jb_in))) ?_))
  refine ⟨0, 0, ⟨by omega, by omega⟩, xw_copy (n := 287) ⟨t5.1, by omega, t5.2⟩ ⟨t6.1, by omega, by rw [t6.2]; omega⟩ (by omega) ?_⟩
  have h3 : jcq v2 _ 464 404 1 287 := jcq.one
  generalize (upA v2 404 (fun k => if 0 ≤ k ∧ k < 287 then v2 464 k else v2 404 k)) = v3 at *
  have hV := h3.pv hV2 (by decide)
  have hV3 := hV
  simp (disch := (first | decide | omega)) only [jxs, hps, jtsw, jlsw, List.length_cons, List.length_nil, true_and, and_true, true_implies, false_implies, implies_true, not_true_eq_false, not_false_eq_true, false_and, and_false, if_true, if_false, or_true, true_or, or_false, false_or, Classical.not_not, and_self, Int.reduceAdd, Int.reduceMul, Int.reduceSub, Int.reduceNeg, Int.reduceLT, Int.reduceLE, Int.reduceEq, Int.reduceNe, Int.reduceToNat, Nat.reduceAdd, Nat.reduceMul, Nat.reduceSub, Nat.reduceLeDiff, Nat.reduceLT, Nat.reduceEqDiff, reduceIte, Nat.zero_le, Nat.le_refl, Nat.add_zero, Nat.zero_add, xwT hT, xwV hV]
  (repeat (refine And.intro (by (first | omega | assumption | trivial | (simp only [inI]; omega) | (simp only [inL]; omega) | (refine jb_01) | (exact jb_in))) ?_))
  refine ⟨0, 0, ⟨by omega, by omega⟩, xw_copy2 (o := 466) (p := 406) (N := 10) (m := 5) v3 u1 u2 (by omega) (by omega) (by omega) (by omega) (fun k k0 k1 => PVbi hV3 ⟨k0, k1⟩) (fun k k0 k1 => PVbk hV3 ⟨k0, k1⟩) (fun k k0 k1 => PTbi hT ⟨k0, k1⟩) (fun k k0 k1 => PTbk hT ⟨k0, k1⟩) (by omega) (by omega) ?_⟩
  intro v4 h4
  have hV := h4.pv hV3 (by decide)
  have hV4 := hV
  simp (disch := (first | decide | omega)) only [jxs, hps, jtsw, jlsw, List.length_cons, List.length_nil, true_and, and_true, true_implies, false_implies, implies_true, not_true_eq_false, not_false_eq_true, false_and, and_false, if_true, if_false, or_true, true_or, or_false, false_or, Classical.not_not, and_self, Int.reduceAdd, Int.reduceMul, Int.reduceSub, Int.reduceNeg, Int.reduceLT, Int.reduceLE, Int.reduceEq, Int.reduceNe, Int.reduceToNat, Nat.reduceAdd, Nat.reduceMul, Nat.reduceSub, Nat.reduceLeDiff, Nat.reduceLT, Nat.reduceEqDiff, reduceIte, Nat.zero_le, Nat.le_refl, Nat.add_zero, Nat.zero_add, xwT hT, xwV hV]
  (repeat (refine And.intro (by (first | omega | assumption | trivial | (simp only [inI]; omega) | (simp only [inL]; omega) | (refine jb_01) | (exact jb_in))) ?_))
  refine ⟨0, 0, ⟨by omega, by omega⟩, xw_copy2 (o := 477) (p := 417) (N := 12) (m := 4) v4 u3 u4 (by omega) (by omega) (by omega) (by omega) (fun k k0 k1 => PVdi hV4 ⟨k0, k1⟩) (fun k k0 k1 => PVdu hV4 ⟨k0, k1⟩) (fun k k0 k1 => PTdi hT ⟨k0, k1⟩) (fun k k0 k1 => PTdu hT ⟨k0, k1⟩) (by omega) (by omega) ?_⟩
  intro v5 h5
  have hV := h5.pv hV4 (by decide)
  have hV5 := hV
  simp (disch := (first | decide | omega)) only [jxs, hps, jtsw, jlsw, List.length_cons, List.length_nil, true_and, and_true, true_implies, false_implies, implies_true, not_true_eq_false, not_false_eq_true, false_and, and_false, if_true, if_false, or_true, true_or, or_false, false_or, Classical.not_not, and_self, Int.reduceAdd, Int.reduceMul, Int.reduceSub, Int.reduceNeg, Int.reduceLT, Int.reduceLE, Int.reduceEq, Int.reduceNe, Int.reduceToNat, Nat.reduceAdd, Nat.reduceMul, Nat.reduceSub, Nat.reduceLeDiff, Nat.reduceLT, Nat.reduceEqDiff, reduceIte, Nat.zero_le, Nat.le_refl, Nat.add_zero, Nat.zero_add, xwT hT, xwV hV]
  (repeat (refine And.intro (by (first | omega | assumption | trivial | (simp only [inI]; omega) | (simp only [inL]; omega) | (refine jb_01) | (exact jb_in))) ?_))
  refine ⟨0, 0, ⟨by omega, by omega⟩, xw_copy2 (o := 490) (p := 430) (N := 30) (m := 287) v5 u5 u6 (by omega) (by omega) (by omega) (by omega) (fun k k0 k1 => PVsi hV5 ⟨k0, k1⟩) (fun k k0 k1 => PVst hV5 ⟨k0, k1⟩) (fun k k0 k1 => PTsi hT ⟨k0, k1⟩) (fun k k0 k1 => PTst hT ⟨k0, k1⟩) (by omega) (by omega) ?_⟩
  intro v6 h6
  have hV := h6.pv hV5 (by decide)
  have hV6 := hV
  have e59 : v6 520 = v 520 := by rw [h6.2 _ (by omega), h5.2 _ (by omega), h4.2 _ (by omega), h3.2 _ (by omega), h2.2 _ (by omega), h1.2 _ (by omega)]
  have h7 : jcq v6 _ 520 460 1 4 := jcq.one
  have e7 : (fun k => if 0 ≤ k ∧ k < 4 then v6 520 (0 + (k - 0)) else v6 460 k) = (fun k => if 0 ≤ k ∧ k < 4 then v6 520 k else v6 460 k) := by
    funext k
    rw [Int.zero_add, Int.sub_zero]
  have ts := PT.ok hT 520 (-6) 4 (by decide +kernel)
  have tp := PT.ok hT 460 (-6) 4 (by decide +kernel)
  have ls := PT.ln hT 520 (-6) 4 (by decide +kernel)
  have lp := PT.ln hT 460 (-6) 4 (by decide +kernel)
  simp (disch := (first | decide | omega)) only [jxs, hps, jtsw, jlsw, List.length_cons, List.length_nil, true_and, and_true, true_implies, false_implies, implies_true, not_true_eq_false, not_false_eq_true, false_and, and_false, if_true, if_false, or_true, true_or, or_false, false_or, Classical.not_not, and_self, Int.reduceAdd, Int.reduceMul, Int.reduceSub, Int.reduceNeg, Int.reduceLT, Int.reduceLE, Int.reduceEq, Int.reduceNe, Int.reduceToNat, Nat.reduceAdd, Nat.reduceMul, Nat.reduceSub, Nat.reduceLeDiff, Nat.reduceLT, Nat.reduceEqDiff, reduceIte, Nat.zero_le, Nat.le_refl, Nat.add_zero, Nat.zero_add, xwT hT, xwV hV, jcpy_eq]
  (repeat (refine And.intro (by (first | omega | assumption | trivial | (simp only [inI]; omega) | (simp only [inL]; omega) | (refine jb_01) | (exact jb_in))) ?_))
  refine ⟨fun i i0 i1 => by rw [Int.zero_add, e59]; exact ht i i0 i1, ?_⟩
  rw [e7]
  have hb := jbe_of (o := 461) (p := 401) (by omega) h1 h2 h3 h4 h5 h6 h7
  exact hQ _ hb (hb.pv hV0 (by omega))
theorem xw_image {v : Int → Int → Int} (hT : PT T) (hV : PV v) (hC : CI (v, T) A X) (hm : ∀ k s, 0 ≤ k → k < A 7 → 0 ≤ s → s < 3 → A (154 + 48 * k + 5 + s) ≤ 10) (ht : ∀ i, 0 ≤ i → i < 4 → v 460 i = 0 ∨ jok T (v 460 i) 4) (hQ : ∀ w, CI (w, T) A X → CS (w, T) 461 A X → (∀ a, (a < 462 ∨ 520 < a) → w a = v a) → (∀ i, 0 ≤ i → i < 4 → w 520 i = v 460 i) → PV w → Q (.inl (some (vI (A 1)))) (w, T)) : jmet g (d + 4) 0 0 MX0_image [vR 400] (v, T) Q := by
  refine jmet_of (ls := [some (vR 400)]) sX0_image rfl (by decide +kernel) (by decide) rfl (by simp [jent]) ?_
  refine jW_step ?_
  simp (disch := (first | decide | omega)) only [bX0_image, jxs, hps, jtsw, jlsw, List.length_cons, List.length_nil, true_and, and_true, true_implies, false_implies, implies_true, not_true_eq_false, not_false_eq_true, false_and, and_false, if_true, if_false, or_true, true_or, or_false, false_or, Classical.not_not, and_self, Int.reduceAdd, Int.reduceMul, Int.reduceSub, Int.reduceNeg, Int.reduceLT, Int.reduceLE, Int.reduceEq, Int.reduceNe, Int.reduceToNat, Nat.reduceAdd, Nat.reduceMul, Nat.reduceSub, Nat.reduceLeDiff, Nat.reduceLT, Nat.reduceEqDiff, reduceIte, Nat.zero_le, Nat.le_refl, Nat.add_zero, Nat.zero_add, xwT hT, xwV hV]
  refine ⟨0, 0, ⟨by omega, by omega⟩, xw_be_461 hT hV ht ?_⟩
  intro w hw hVw
  have hV0 := hV
  have hV := hVw
  have f : ∀ a, (a < 462 ∨ 520 < a) → w a = v a := fun a ha => hw.2 a (by omega)
  have gr : jGR (v, T) (w, T) := jGR_of (fun a ha => f a (by unfold jfz at ha; omega))
  have hi : CS (w, T) 461 A X := hw.cs gr hC.tb hC.2.2.2.2.2.1 hC.2.2.2.2.2.2.1 hm hC.1
  have hc : CI (w, T) A X := ⟨hC.1.fr hC.tb.1.2 hC.2.2.2.2.2.1.2 hC.2.2.2.2.2.2.1.2 (fun a a0 a1 => f a (by omega)) gr, by show okN (w 522); rw [f 522 (by omega)]; exact hC.nm, hC.2.2.1.gr gr, hC.2.2.2⟩
  simp (disch := (first | decide | omega)) only [jxs, hps, jtsw, jlsw, List.length_cons, List.length_nil, true_and, and_true, true_implies, false_implies, implies_true, not_true_eq_false, not_false_eq_true, false_and, and_false, if_true, if_false, or_true, true_or, or_false, false_or, Classical.not_not, and_self, Int.reduceAdd, Int.reduceMul, Int.reduceSub, Int.reduceNeg, Int.reduceLT, Int.reduceLE, Int.reduceEq, Int.reduceNe, Int.reduceToNat, Nat.reduceAdd, Nat.reduceMul, Nat.reduceSub, Nat.reduceLeDiff, Nat.reduceLT, Nat.reduceEqDiff, reduceIte, Nat.zero_le, Nat.le_refl, Nat.add_zero, Nat.zero_add, xwT hT, xwV hV, hc.ni]
  (repeat (refine And.intro (by (first | omega | assumption | trivial | (simp only [inI]; omega) | (simp only [inL]; omega) | (refine jb_01) | (exact jb_in))) ?_))
  exact hQ w hc hi f (fun i i0 i1 => hw.1 59 (by omega) (by omega) (by omega) (by omega) (by omega) i i0 i1) hVw
theorem xw_back {v : Int → Int → Int} {A' : Int → Int} (hT : PT T) (hV : PV v) (hC : CI (v, T) A X) (hI : CS (v, T) 461 A' X) (hB : TB A') (hX : TX (A' 5) X) (h7 : 0 ≤ A' 7 ∧ A' 7 ≤ 30) (h8 : 0 ≤ A' 8 ∧ A' 8 ≤ 12) (hL : LW A') (hm : ∀ k s, 0 ≤ k → k < A' 7 → 0 ≤ s → s < 3 → A' (154 + 48 * k + 5 + s) ≤ 10) (ht : ∀ i, 0 ≤ i → i < 4 → v 520 i = 0 ∨ jok T (v 520 i) 4) (hQ : ∀ w, CI (w, T) A' X → (∀ a, (a < 402 ∨ 460 < a) → w a = v a) → (∀ i, 0 ≤ i → i < 4 → w 460 i = v 520 i) → PV w → Q (.inl (some (vI (A' 1)))) (w, T)) : jmet g (d + 4) 0 0 MX0_back [vR 400] (v, T) Q := by
  refine jmet_of (ls := [some (vR 400)]) sX0_back rfl (by decide +kernel) (by decide) rfl (by simp [jent]) ?_
  refine jW_step ?_
  simp (disch := (first | decide | omega)) only [bX0_back, jxs, hps, jtsw, jlsw, List.length_cons, List.length_nil, true_and, and_true, true_implies, false_implies, implies_true, not_true_eq_false, not_false_eq_true, false_and, and_false, if_true, if_false, or_true, true_or, or_false, false_or, Classical.not_not, and_self, Int.reduceAdd, Int.reduceMul, Int.reduceSub, Int.reduceNeg, Int.reduceLT, Int.reduceLE, Int.reduceEq, Int.reduceNe, Int.reduceToNat, Nat.reduceAdd, Nat.reduceMul, Nat.reduceSub, Nat.reduceLeDiff, Nat.reduceLT, Nat.reduceEqDiff, reduceIte, Nat.zero_le, Nat.le_refl, Nat.add_zero, Nat.zero_add, xwT hT, xwV hV]
  refine ⟨0, 0, ⟨by omega, by omega⟩, xw_be_401 hT hV ht ?_⟩
  intro w hw hVw
  have hV0 := hV
  have hV := hVw
  have f : ∀ a, (a < 402 ∨ 460 < a) → w a = v a := fun a ha => hw.2 a (by omega)
  have gr : jGR (v, T) (w, T) := jGR_of (fun a ha => f a (by unfold jfz at ha; omega))
  have hi : CS (w, T) 401 A' X := hw.cs gr hB h7 h8 hm hI
  have hc : CI (w, T) A' X := ⟨hi, by show okN (w 522); rw [f 522 (by omega)]; exact hC.nm, hC.2.2.1.gr gr, hB, hX, h7, h8, hL⟩
  simp (disch := (first | decide | omega)) only [jxs, hps, jtsw, jlsw, List.length_cons, List.length_nil, true_and, and_true, true_implies, false_implies, implies_true, not_true_eq_false, not_false_eq_true, false_and, and_false, if_true, if_false, or_true, true_or, or_false, false_or, Classical.not_not, and_self, Int.reduceAdd, Int.reduceMul, Int.reduceSub, Int.reduceNeg, Int.reduceLT, Int.reduceLE, Int.reduceEq, Int.reduceNe, Int.reduceToNat, Nat.reduceAdd, Nat.reduceMul, Nat.reduceSub, Nat.reduceLeDiff, Nat.reduceLT, Nat.reduceEqDiff, reduceIte, Nat.zero_le, Nat.le_refl, Nat.add_zero, Nat.zero_add, xwT hT, xwV hV, hc.ni]
  (repeat (refine And.intro (by (first | omega | assumption | trivial | (simp only [inI]; omega) | (simp only [inL]; omega) | (refine jb_01) | (exact jb_in))) ?_))
  exact hQ w hc f (fun i i0 i1 => hw.1 59 (by omega) (by omega) (by omega) (by omega) (by omega) i i0 i1) hVw
end XG
