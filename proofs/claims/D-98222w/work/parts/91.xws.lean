/-! ===== the class: keeps ===== -/
-- MODE X
set_option maxRecDepth 100000
theorem PVst {v : Int → Int → Int} (hV : PV v) {k : Int} (h : 0 ≤ k ∧ k < 30) : v 429 k = 430 + k := by
  have key : ∀ b : Fin 30, ((429 : Int), ((b.val : Nat) : Int), (430 : Int) + b.val) ∈ pvL := by decide
  have := hV _ (key ⟨k.toNat, by omega⟩)
  dsimp only at this
  rwa [show ((k.toNat : Nat) : Int) = k by omega] at this
theorem PTst {T : jjT} (hT : PT T) {k : Int} (h : 0 ≤ k ∧ k < 30) : jok T (430 + k) (-1) ∧ jln T (430 + k) = 287 := by
  have key : ∀ b : Fin 30, ((430 : Int) + b.val, (-1 : Int), (287 : Int)) ∈ ptL := by decide
  have m := key ⟨k.toNat, by omega⟩
  dsimp only at m
  rw [show ((k.toNat : Nat) : Int) = k by omega] at m
  exact ⟨hT.ok _ _ _ m, hT.ln _ _ _ m⟩
theorem pvst {k : Int} (h : 0 ≤ k ∧ k < 30) : 430 + k ∉ pvA := by
  have key : ∀ b : Fin 30, (430 : Int) + b.val ∉ pvA := by decide
  have := key ⟨k.toNat, by omega⟩
  dsimp only at this
  rwa [show ((k.toNat : Nat) : Int) = k by omega] at this
section XG
variable {g : jjG} {d : Nat} {T : jjT} {Q : jjQ} {A X : Int → Int}
theorem xw_copy {a b n : Int} {v : Int → Int → Int} (h1 : jok T a (-1) ∧ 400 ≤ a ∧ jln T a = n) (h2 : jok T b (-1) ∧ 400 ≤ b ∧ n ≤ jln T b) (hn : 0 ≤ n ∧ n < 1000) (hQ : Q (.inl none) (upA v b (fun k => if 0 ≤ k ∧ k < n then v a k else v b k), T)) : jmet g (d + 1) 0 0 MX1_copy [vR a, vR b] (v, T) Q := by
  have e : (fun k => if 0 ≤ k ∧ k < 0 + n then v a (0 + (k - 0)) else v b k) = (fun k => if 0 ≤ k ∧ k < n then v a k else v b k) := by
    funext k
    rw [Int.zero_add, Int.zero_add, Int.sub_zero]
  rw [← e] at hQ
  obtain ⟨p1, p2, p3⟩ := h1
  obtain ⟨r1, r2, r3⟩ := h2
  refine jmet_of (ls := [some (vR a), some (vR b)]) sX1_copy rfl (by decide +kernel) (by decide) rfl (by simp [jent]) ?_
  refine jW_step ?_
  simp (disch := (first | decide | omega)) only [bX1_copy, jxs, jcpy_eq, p1, p3, r1, true_and, and_true]
  (repeat (refine And.intro (by (first | omega | assumption | trivial | (simp only [inI]; omega) | (simp only [inL]; omega) | (refine jb_01) | (exact jb_in))) ?_))
  exact hQ
theorem xw_keeps_1 (hT : PT T) {v0 : Int → Int → Int} : ∀ (n : Nat) (k : Int) (v : Int → Int → Int), PV v → 1 ≤ k → k + n = 30 → (∀ j, 0 ≤ j → j < k - 1 → EQm 287 (v (430 + j)) (v0 (430 + j + 1))) → (∀ j, k - 1 ≤ j → j < 30 → v (430 + j) = v0 (430 + j)) → (∀ a, (a < 430 ∨ 459 < a) → v a = v0 a) →
    (∀ w, (∀ j, 0 ≤ j → j < 29 → EQm 287 (w (430 + j)) (v0 (430 + j + 1))) → (∀ a, (a < 430 ∨ 459 < a) → w a = v0 a) → PV w → jW bX1_keeps (g, d + 1, 0, 0, Q) 1 [some (vR 401), some (vI 30)] [] (w, T) 0 0) →
    jW bX1_keeps (g, d + 1, 0, 0, Q) 1 [some (vR 401), some (vI k)] [] (v, T) 0 0 := by
  intro n
  induction n with
  | zero =>
    intro k v hV hk hn h1 h2 h3 hQ
    have := hQ v (fun j j0 j1 => h1 j j0 (by omega)) h3 hV
    rwa [show (30 : Int) = k by omega] at this
  | succ n ih =>
    intro k v hV hk hn h1 h2 h3 hQ
    have e1 := PVst hV (k := k) (by omega)
    have e2 := PVst hV (k := k - 1) (by omega)
    have t1 := PTst hT (k := k) (by omega)
    have t2 := PTst hT (k := k - 1) (by omega)
    have a1 := t1.1
    have a2 := t2.1
    refine jW_step ?_
    simp (disch := (first | decide | omega)) only [bX1_keeps, jxs, hps, jtsw, jlsw, List.length_cons, List.length_nil, true_and, and_true, true_implies, false_implies, implies_true, not_true_eq_false, not_false_eq_true, false_and, and_false, if_true, if_false, or_true, true_or, or_false, false_or, Classical.not_not, and_self, Int.reduceAdd, Int.reduceMul, Int.reduceSub, Int.reduceNeg, Int.reduceLT, Int.reduceLE, Int.reduceEq, Int.reduceNe, Int.reduceToNat, Nat.reduceAdd, Nat.reduceMul, Nat.reduceSub, Nat.reduceLeDiff, Nat.reduceLT, Nat.reduceEqDiff, reduceIte, Nat.zero_le, Nat.le_refl, Nat.add_zero, Nat.zero_add, xwT hT, xwV hV, e1, e2]
    (first | refine ⟨fun h9 => (by exfalso; omega), fun _ => ?_⟩ | intro _)
    (repeat (refine And.intro (by (first | omega | assumption | trivial | (simp only [inI]; omega) | (simp only [inL]; omega) | (refine jb_01) | (exact jb_in))) ?_))
    refine ⟨0, 0, ⟨by omega, by omega⟩, xw_copy ⟨t1.1, by omega, t1.2⟩ ⟨t2.1, by omega, by rw [t2.2]; omega⟩ (by omega) ?_⟩
    have hVu : PV (upA v (430 + (k - 1)) (fun i => if 0 ≤ i ∧ i < 287 then v (430 + k) i else v (430 + (k - 1)) i)) := hV.A (pvst (by omega))
    have hV := hVu
    simp (disch := (first | decide | omega)) only [jxs, hps, jtsw, jlsw, List.length_cons, List.length_nil, true_and, and_true, true_implies, false_implies, implies_true, not_true_eq_false, not_false_eq_true, false_and, and_false, if_true, if_false, or_true, true_or, or_false, false_or, Classical.not_not, and_self, Int.reduceAdd, Int.reduceMul, Int.reduceSub, Int.reduceNeg, Int.reduceLT, Int.reduceLE, Int.reduceEq, Int.reduceNe, Int.reduceToNat, Nat.reduceAdd, Nat.reduceMul, Nat.reduceSub, Nat.reduceLeDiff, Nat.reduceLT, Nat.reduceEqDiff, reduceIte, Nat.zero_le, Nat.le_refl, Nat.add_zero, Nat.zero_add, xwT hT, xwV hV]
    (repeat (refine And.intro (by (first | omega | assumption | trivial | (simp only [inI]; omega) | (simp only [inL]; omega) | (refine jb_01) | (exact jb_in))) ?_))
    refine ih (k + 1) _ hVu (by omega) (by omega) ?_ ?_ ?_ hQ
    · intro j j0 j1
      by_cases e : j = k - 1
      · rw [e, upA_eq, show 430 + (k - 1) + 1 = 430 + k by omega, ← h2 k (by omega) (by omega)]
        exact fun i i0 i1 => if_pos ⟨i0, i1⟩
      · rw [upA_ne (by omega)]
        exact h1 j j0 (by omega)
    · intro j j0 j1
      rw [upA_ne (by omega)]
      exact h2 j (by omega) j1
    · intro a ha
      rw [upA_ne (by omega)]
      exact h3 a ha
/-- steps and their count alone differ -/
def jkS (v w : Int → Int → Int) : Prop := ∀ a, a ≠ 402 → (a < 430 ∨ 459 < a) → w a = v a
theorem jkS.pv {v w : Int → Int → Int} (h : jkS v w) (hV : PV v) : PV w := by
  refine hV.fr (fun a ha => h a ?_ ?_)
  · intro e; subst e; revert ha; decide
  · have key : ∀ b ∈ pvA, b < 430 ∨ 459 < b := by decide
    exact key a ha
theorem xw_keeps {v : Int → Int → Int} (hT : PT T) (hV : PV v) (hC : CI (v, T) A X) (hS : SI A) (hQ : ∀ w, CI (w, T) (keepA A) X → jkS v w → w 404 = v 404 → Q (.inl none) (w, T)) : jmet g (d + 2) 0 0 MX1_keeps [vR 401] (v, T) Q := by
  have h7 := hC.2.2.2.2.2.1
  have hk := fun w e1 e2 e3 e4 => hC.keep (w := w) hS e1 e2 e3 e4
  -- the last part: the row goes to the last step
  have k2 : ∀ u m, PV u → (0 ≤ m ∧ m ≤ 29) → m = A 7 - shK A → u 402 = up1 (v 402) 4 m → (∀ k, 0 ≤ k → k < m → EQm 287 (u (430 + k)) (v (430 + k + shK A))) → (∀ a, a ≠ 402 → (a < 430 ∨ 459 < a) → u a = v a) → jW bX1_keeps (g, d + 1, 0, 0, Q) 2 [some (vR 401), none] [] (u, T) 0 0 := by
    intro u m hVu hm em u2 u3 u4
    have e1 := PVst hVu (k := m) (by omega)
    have t1 := PTst hT (k := m) (by omega)
    have a1 := t1.1
    have n4 : u 402 4 = m := by rw [u2, up1_eq]
    have hV := hVu
    refine jW_step ?_
    simp (disch := (first | decide | omega)) only [bX1_keeps, jxs, hps, jtsw, jlsw, List.length_cons, List.length_nil, true_and, and_true, true_implies, false_implies, implies_true, not_true_eq_false, not_false_eq_true, false_and, and_false, if_true, if_false, or_true, true_or, or_false, false_or, Classical.not_not, and_self, Int.reduceAdd, Int.reduceMul, Int.reduceSub, Int.reduceNeg, Int.reduceLT, Int.reduceLE, Int.reduceEq, Int.reduceNe, Int.reduceToNat, Nat.reduceAdd, Nat.reduceMul, Nat.reduceSub, Nat.reduceLeDiff, Nat.reduceLT, Nat.reduceEqDiff, reduceIte, Nat.zero_le, Nat.le_refl, Nat.add_zero, Nat.zero_add, xwT hT, xwV hV, n4, e1]
    (repeat (refine And.intro (by (first | omega | assumption | trivial | (simp only [inI]; omega) | (simp only [inL]; omega) | (refine jb_01) | (exact jb_in))) ?_))
    refine ⟨0, 0, ⟨by omega, by omega⟩, xw_copy ⟨pt_404 hT, by omega, pl_404 hT⟩ ⟨t1.1, by omega, by rw [t1.2]; omega⟩ (by omega) ?_⟩
    have hVy : PV (upA u (430 + m) (fun i => if 0 ≤ i ∧ i < 287 then u 404 i else u (430 + m) i)) := hVu.A (pvst (by omega))
    have y4 : (upA u (430 + m) (fun i => if 0 ≤ i ∧ i < 287 then u 404 i else u (430 + m) i)) 402 = u 402 := upA_ne (by omega)
    have yo : ∀ a, a ≠ 430 + m → (upA u (430 + m) (fun i => if 0 ≤ i ∧ i < 287 then u 404 i else u (430 + m) i)) a = u a := fun a ha => upA_ne ha
    have ym : EQm 287 ((upA u (430 + m) (fun i => if 0 ≤ i ∧ i < 287 then u 404 i else u (430 + m) i)) (430 + m)) (v 404) := by
      intro i i0 i1
      rw [upA_eq, if_pos ⟨i0, i1⟩, u4 404 (by omega) (by omega)]
    generalize upA u (430 + m) (fun i => if 0 ≤ i ∧ i < 287 then u 404 i else u (430 + m) i) = y at *
    have n5 : y 402 4 = m := by rw [y4]; exact n4
    have hV := hVy
    simp (disch := (first | decide | omega)) only [jxs, hps, jtsw, jlsw, List.length_cons, List.length_nil, true_and, and_true, true_implies, false_implies, implies_true, not_true_eq_false, not_false_eq_true, false_and, and_false, if_true, if_false, or_true, true_or, or_false, false_or, Classical.not_not, and_self, Int.reduceAdd, Int.reduceMul, Int.reduceSub, Int.reduceNeg, Int.reduceLT, Int.reduceLE, Int.reduceEq, Int.reduceNe, Int.reduceToNat, Nat.reduceAdd, Nat.reduceMul, Nat.reduceSub, Nat.reduceLeDiff, Nat.reduceLT, Nat.reduceEqDiff, reduceIte, Nat.zero_le, Nat.le_refl, Nat.add_zero, Nat.zero_add, xwT hT, xwV hV, n5]
    (repeat (refine And.intro (by (first | omega | assumption | trivial | (simp only [inI]; omega) | (simp only [inL]; omega) | (refine jb_01) | (exact jb_in))) ?_))
    refine hQ (upA y 402 (up1 (y 402) 4 (m + 1))) (hk _ (fun k k0 k1 => ?_) ?_ ?_ (fun a a0 a1 => ?_)) (fun a a0 a1 => ?_) ?_
    · rw [upA_ne (by omega), yo _ (by omega)]
      exact u3 k k0 (by omega)
    · rw [← em, upA_ne (by omega)]
      exact ym
    · rw [upA_eq, y4, u2, up1_same, show m + 1 = A 7 + 1 - shK A by omega]
    · rw [upA_ne a0, yo a (by omega)]
      exact u4 a a0 a1
    · rw [upA_ne a0, yo a (by omega)]
      exact u4 a a0 a1
    · rw [upA_ne (by omega), yo 404 (by omega)]
      exact u4 404 (by omega) (by omega)
  refine jmet_of (ls := [some (vR 401), none]) sX1_keeps rfl (by decide +kernel) (by decide) rfl (by simp [jent]) ?_
  refine jW_step ?_
  simp (disch := (first | decide | omega)) only [bX1_keeps, jxs, hps, jtsw, jlsw, List.length_cons, List.length_nil, true_and, and_true, true_implies, false_implies, implies_true, not_true_eq_false, not_false_eq_true, false_and, and_false, if_true, if_false, or_true, true_or, or_false, false_or, Classical.not_not, and_self, Int.reduceAdd, Int.reduceMul, Int.reduceSub, Int.reduceNeg, Int.reduceLT, Int.reduceLE, Int.reduceEq, Int.reduceNe, Int.reduceToNat, Nat.reduceAdd, Nat.reduceMul, Nat.reduceSub, Nat.reduceLeDiff, Nat.reduceLT, Nat.reduceEqDiff, reduceIte, Nat.zero_le, Nat.le_refl, Nat.add_zero, Nat.zero_add, xwT hT, xwV hV, hC.n4]
  (repeat (refine And.intro (by (first | omega | assumption | trivial | (simp only [inI]; omega) | (simp only [inL]; omega) | (refine jb_01) | (exact jb_in))) ?_))
  refine ⟨fun h => ?_, fun h => ?_⟩
  · have s0 : shK A = 0 := by unfold shK; rw [if_neg (by omega)]
    refine k2 v (A 7) hV (by omega) (by omega) ?_ (fun k k0 k1 => ?_) (fun _ _ _ => rfl)
    · have := hC.n4
      rw [← this, up1_id]
    · rw [s0, Int.add_zero]
      exact fun _ _ _ => rfl
  · have s1 : shK A = 1 := by unfold shK; rw [if_pos (by omega)]
    refine xw_keeps_1 hT (v0 := v) 29 1 v hV (by omega) (by omega) (fun j j0 j1 => by omega) (fun _ _ _ => rfl) (fun _ _ => rfl) ?_
    intro w w1 w2 hVw
    have n4 : w 402 4 = 30 := by rw [w2 402 (by omega), hC.n4]; omega
    have hV := hVw
    refine jW_step ?_
    simp (disch := (first | decide | omega)) only [bX1_keeps, jxs, hps, jtsw, jlsw, List.length_cons, List.length_nil, true_and, and_true, true_implies, false_implies, implies_true, not_true_eq_false, not_false_eq_true, false_and, and_false, if_true, if_false, or_true, true_or, or_false, false_or, Classical.not_not, and_self, Int.reduceAdd, Int.reduceMul, Int.reduceSub, Int.reduceNeg, Int.reduceLT, Int.reduceLE, Int.reduceEq, Int.reduceNe, Int.reduceToNat, Nat.reduceAdd, Nat.reduceMul, Nat.reduceSub, Nat.reduceLeDiff, Nat.reduceLT, Nat.reduceEqDiff, reduceIte, Nat.zero_le, Nat.le_refl, Nat.add_zero, Nat.zero_add, xwT hT, xwV hV, n4]
    (try refine ⟨fun _ => ?_, fun h9 => (by exfalso; omega)⟩)
    (repeat (refine And.intro (by (first | omega | assumption | trivial | (simp only [inI]; omega) | (simp only [inL]; omega) | (refine jb_01) | (exact jb_in))) ?_))
    refine jW_sub (ls' := [some (vR 401), none]) (by simp [jsub]) ?_
    refine k2 _ 29 (by (first | assumption | (repeat (first | assumption | refine PV.A ?_ (by decide) | refine PV.F ?_ ?_ | refine twR.up ?_ (by decide) | refine PV.r ?_)))) (by omega) (by omega) ?_ (fun k k0 k1 => ?_) (fun a a0 a1 => ?_)
    · rw [upA_eq, w2 402 (by omega)]
    · rw [upA_ne (by omega), s1]
      exact w1 k k0 k1
    · rw [upA_ne a0]
      exact w2 a a1
end XG
