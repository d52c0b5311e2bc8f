/-! ===== the reference: nudges by hand ===== -/
set_option maxRecDepth 100000
abbrev ithP (A : Int → Int) (b s p : Int) : Prop := ((0 ≤ b ∧ b ≤ A 0 - 1) ∧ A (46 + 6 * b + 5) < 3) ∧ A (46 + 6 * b + 5) = s ∧ (0 ≤ p ∧ p ≤ A (13 + s) - 1)
def ndA (m n p : Int) : Int := ooA (swp (dec m n) p) m
theorem ndA_bd {m n p : Int} (hm : 0 ≤ m ∧ m ≤ 6) (hn : 0 ≤ n ∧ n < fac m) (hp : 0 ≤ p ∧ p + 1 < m) : 0 ≤ ndA m n p ∧ ndA m n p < fac m := (prm_dec hm ((dec_PRM hm hn).sw hp)).1
/-- whether a book (none: any) stands at a place in an order -/
def atP (el : Int → Int) (m n b p : Int) : Prop := b = -1 ∨ el (dec m n p) = b
def ng2 (m n : Int) : Nat → Int → (Int → Int) → (Int → Int) → Int → (Int → Int) × (Int → Int) × Int
  | 0, _, tk, qu, en => (tk, qu, en)
  | r + 1, p, tk, qu, en => if 0 ≤ tk (ndA m n p) then ng2 m n r (p + 1) tk qu en else ng2 m n r (p + 1) (up1 tk (ndA m n p) (tk n + 1)) (up1 qu en (ndA m n p)) (en + 1)
def ng1 (el : Int → Int) (m b p o q : Int) : Nat → Int → (Int → Int) → (Int → Int) → Int → Int
  | 0, _, _, _, _ => -1
  | r + 1, k, tk, qu, en => if en ≤ k then -1 else if (b = -1 ∨ el (dec m (qu k) p) = b) ∧ (o = -1 ∨ el (dec m (qu k) q) = o) then tk (qu k) else ng1 el m b p o q r (k + 1) (ng2 m (qu k) (m - 1).toNat 0 tk qu en).1 (ng2 m (qu k) (m - 1).toNat 0 tk qu en).2.1 (ng2 m (qu k) (m - 1).toNat 0 tk qu en).2.2
def cnT (tk : Int → Int) : Nat → Int
  | 0 => 0
  | n + 1 => cnT tk n + (if 0 ≤ tk n then 1 else 0)
theorem cnT_bd {tk : Int → Int} : ∀ n : Nat, 0 ≤ cnT tk n ∧ cnT tk n ≤ n
  | 0 => by unfold cnT; omega
  | n + 1 => by
    have := cnT_bd (tk := tk) n
    unfold cnT
    split <;> omega
theorem cnT_cg {tk tk' : Int → Int} : ∀ n : Nat, EQm n tk tk' → cnT tk n = cnT tk' n
  | 0, _ => rfl
  | n + 1, h => by
    unfold cnT
    rw [cnT_cg n (fun i h0 h1 => h i h0 (by omega)), h n (by omega) (by omega)]
theorem cnT_up {tk : Int → Int} {t z : Int} (h0 : 0 ≤ t) (h1 : tk t < 0) (h2 : 0 ≤ z) : ∀ n : Nat, t < n → cnT (up1 tk t z) n = cnT tk n + 1 ∧ cnT tk n < n
  | 0, h => by omega
  | n + 1, h => by
    have b := cnT_bd (tk := tk) n
    unfold cnT
    by_cases e : t = n
    · subst e
      rw [cnT_cg (tk' := tk) n (fun i i0 i1 => up1_ne (by omega)), up1_eq, if_pos h2, if_neg (by omega)]
      omega
    · have r := cnT_up h0 h1 h2 n (by omega)
      rw [r.1, up1_ne (by omega)]
      split <;> omega
def INV (m : Int) (tk qu : Int → Int) (en : Int) : Prop := en = cnT tk (fac m).toNat ∧ (∀ j, 0 ≤ j → j < en → (0 ≤ qu j ∧ qu j < fac m) ∧ 0 ≤ tk (qu j)) ∧ ∀ j, 0 ≤ j → j < fac m → tk j < en
theorem INV.st {m n t en : Int} {tk qu : Int → Int} (h : INV m tk qu en) (hn : (0 ≤ n ∧ n < fac m) ∧ 0 ≤ tk n) (ht : 0 ≤ t ∧ t < fac m) (h1 : tk t < 0) : INV m (up1 tk t (tk n + 1)) (up1 qu en t) (en + 1) ∧ en < fac m := by
  have c := cnT_up (z := tk n + 1) ht.1 h1 (by omega) (fac m).toNat (by omega)
  have e0 := cnT_bd (tk := tk) (fac m).toNat
  have e1 := h.1
  refine ⟨⟨by rw [c.1]; omega, fun j j0 j1 => ?_, fun j j0 j1 => ?_⟩, by omega⟩
  · by_cases e : j = en
    · rw [e, up1_eq, up1_eq]; omega
    · have q := h.2.1 j j0 (by omega)
      rw [up1_ne e]
      by_cases e2 : qu j = t
      · rw [e2] at q; omega
      · rw [up1_ne e2]; exact q
  · by_cases e : j = t
    · rw [e, up1_eq]
      have := h.2.2 n hn.1.1 hn.1.2
      omega
    · rw [up1_ne e]
      have := h.2.2 j j0 j1
      omega
section TG
variable {g : jjG} {d : Nat} {T : jjT} {Q : jjQ}
theorem tw_isThere {v : Int → Int → Int} {b s p : Int} (hT : PT T) (hV : PV v) (hS : TE v) (hQ : (ithP (v 540) b s p → Q (.inl (some (vI 1))) (v, T)) ∧ (¬ ithP (v 540) b s p → Q (.inl (some (vI 0))) (v, T))) : jmet g (d + 4) 0 0 MX2_isThere [vR 539, vI b, vI s, vI p] (v, T) Q := by
  have h0 := hS.1.1
  unfold ithP at hQ
  refine jmet_of (ls := [some (vR 539), some (vI b), some (vI s), some (vI p)]) sX2_isThere rfl (by decide +kernel) (by decide) rfl (by simp [jent]) ?_
  have no : ¬ (((0 ≤ b ∧ b ≤ v 540 0 - 1) ∧ v 540 (46 + 6 * b + 5) < 3) ∧ v 540 (46 + 6 * b + 5) = s ∧ (0 ≤ p ∧ p ≤ v 540 (13 + s) - 1)) → jW bX2_isThere (g, d + 3, 0, 0, Q) 1 [some (vR 539), some (vI b), some (vI s), some (vI p)] [] (v, T) 0 0 := by
    intro q
    refine jW_step ?_
    simp (disch := (first | decide | omega)) only [bX2_isThere, jxs, hps, jtsw, jlsw, List.length_cons, List.length_nil, true_and, and_true, true_implies, false_implies, implies_true, not_true_eq_false, not_false_eq_true, false_and, and_false, if_true, if_false, or_true, true_or, or_false, false_or, Classical.not_not, and_self, Int.reduceAdd, Int.reduceMul, Int.reduceSub, Int.reduceNeg, Int.reduceLT, Int.reduceLE, Int.reduceEq, Int.reduceNe, Int.reduceToNat, Nat.reduceAdd, Nat.reduceMul, Nat.reduceSub, Nat.reduceLeDiff, Nat.reduceLT, Nat.reduceEqDiff, reduceIte, Nat.zero_le, Nat.le_refl, Nat.add_zero, Nat.zero_add, twT hT, twV hV]
    refine jW_step ?_
    simp (disch := (first | decide | omega)) only [bX2_isThere, jxs, hps, jtsw, jlsw, List.length_cons, List.length_nil, true_and, and_true, true_implies, false_implies, implies_true, not_true_eq_false, not_false_eq_true, false_and, and_false, if_true, if_false, or_true, true_or, or_false, false_or, Classical.not_not, and_self, Int.reduceAdd, Int.reduceMul, Int.reduceSub, Int.reduceNeg, Int.reduceLT, Int.reduceLE, Int.reduceEq, Int.reduceNe, Int.reduceToNat, Nat.reduceAdd, Nat.reduceMul, Nat.reduceSub, Nat.reduceLeDiff, Nat.reduceLT, Nat.reduceEqDiff, reduceIte, Nat.zero_le, Nat.le_refl, Nat.add_zero, Nat.zero_add, twT hT, twV hV]
    (repeat (refine And.intro (by (first | omega | assumption | trivial | (simp only [inI]; omega) | (simp only [inL]; omega) | (refine jb_01) | (exact jb_in))) ?_))
    exact hQ.2 q
  refine jW_step ?_
  simp (disch := (first | decide | omega)) only [bX2_isThere, jxs, hps, jtsw, jlsw, List.length_cons, List.length_nil, true_and, and_true, true_implies, false_implies, implies_true, not_true_eq_false, not_false_eq_true, false_and, and_false, if_true, if_false, or_true, true_or, or_false, false_or, Classical.not_not, and_self, Int.reduceAdd, Int.reduceMul, Int.reduceSub, Int.reduceNeg, Int.reduceLT, Int.reduceLE, Int.reduceEq, Int.reduceNe, Int.reduceToNat, Nat.reduceAdd, Nat.reduceMul, Nat.reduceSub, Nat.reduceLeDiff, Nat.reduceLT, Nat.reduceEqDiff, reduceIte, Nat.zero_le, Nat.le_refl, Nat.add_zero, Nat.zero_add, twT hT, twV hV]
  (repeat (refine And.intro (by (first | omega | assumption | trivial | (simp only [inI]; omega) | (simp only [inL]; omega) | (refine jb_01) | (exact jb_in))) ?_))
  refine ⟨0, 0, ⟨by omega, by omega⟩, tw_isOnShelf hT (by (first | assumption | (repeat (first | assumption | refine PV.A ?_ (by decide) | refine PV.F ?_ ?_ | refine twR.up ?_ (by decide) | refine PV.r ?_)))) (by (first | omega | assumption | trivial | (simp only [inI]; omega) | (simp only [inL]; omega) | (refine jb_01) | (exact jb_in))) ?_⟩
  simp (disch := (first | decide | omega)) only [jxs, hps, jtsw, jlsw, List.length_cons, List.length_nil, true_and, and_true, true_implies, false_implies, implies_true, not_true_eq_false, not_false_eq_true, false_and, and_false, if_true, if_false, or_true, true_or, or_false, false_or, Classical.not_not, and_self, Int.reduceAdd, Int.reduceMul, Int.reduceSub, Int.reduceNeg, Int.reduceLT, Int.reduceLE, Int.reduceEq, Int.reduceNe, Int.reduceToNat, Nat.reduceAdd, Nat.reduceMul, Nat.reduceSub, Nat.reduceLeDiff, Nat.reduceLT, Nat.reduceEqDiff, reduceIte, Nat.zero_le, Nat.le_refl, Nat.add_zero, Nat.zero_add, twT hT, twV hV]
  refine ⟨fun h => ?_, fun h => ?_⟩
  · exact no (fun q => h q.1)
  · have w0 := (hS.1.2.2.2.2.2.2 (46 + 6 * b + 5) (by omega) (by omega)).1
    (repeat (refine And.intro (by (first | omega | assumption | trivial | (simp only [inI]; omega) | (simp only [inL]; omega) | (refine jb_01) | (exact jb_in))) ?_))
    refine ⟨0, 0, ⟨by omega, by omega⟩, tw_get hT (by (first | assumption | (repeat (first | assumption | refine PV.A ?_ (by decide) | refine PV.F ?_ ?_ | refine twR.up ?_ (by decide) | refine PV.r ?_)))) (by (first | omega | assumption | trivial | (simp only [inI]; omega) | (simp only [inL]; omega) | (refine jb_01) | (exact jb_in))) ?_⟩
    simp (disch := (first | decide | omega)) only [jxs, hps, jtsw, jlsw, List.length_cons, List.length_nil, true_and, and_true, true_implies, false_implies, implies_true, not_true_eq_false, not_false_eq_true, false_and, and_false, if_true, if_false, or_true, true_or, or_false, false_or, Classical.not_not, and_self, Int.reduceAdd, Int.reduceMul, Int.reduceSub, Int.reduceNeg, Int.reduceLT, Int.reduceLE, Int.reduceEq, Int.reduceNe, Int.reduceToNat, Nat.reduceAdd, Nat.reduceMul, Nat.reduceSub, Nat.reduceLeDiff, Nat.reduceLT, Nat.reduceEqDiff, reduceIte, Nat.zero_le, Nat.le_refl, Nat.add_zero, Nat.zero_add, twT hT, twV hV]
    refine ⟨fun h2 => ?_, fun h2 => ?_⟩
    · exact no (fun q => h2 q.2.1)
    · have h2' : v 540 (46 + 6 * b + 5) = s := by omega
      have hm := hS.1.2.2.2.2.2.1 (13 + s) (by omega) (by omega)
      (repeat (refine And.intro (by (first | omega | assumption | trivial | (simp only [inI]; omega) | (simp only [inL]; omega) | (refine jb_01) | (exact jb_in))) ?_))
      refine ⟨0, 0, ⟨by omega, by omega⟩, tw_isIn hT (by (first | assumption | (repeat (first | assumption | refine PV.A ?_ (by decide) | refine PV.F ?_ ?_ | refine twR.up ?_ (by decide) | refine PV.r ?_)))) (by (first | omega | assumption | trivial | (simp only [inI]; omega) | (simp only [inL]; omega) | (refine jb_01) | (exact jb_in))) ?_⟩
      simp (disch := (first | decide | omega)) only [jxs, hps, jtsw, jlsw, List.length_cons, List.length_nil, true_and, and_true, true_implies, false_implies, implies_true, not_true_eq_false, not_false_eq_true, false_and, and_false, if_true, if_false, or_true, true_or, or_false, false_or, Classical.not_not, and_self, Int.reduceAdd, Int.reduceMul, Int.reduceSub, Int.reduceNeg, Int.reduceLT, Int.reduceLE, Int.reduceEq, Int.reduceNe, Int.reduceToNat, Nat.reduceAdd, Nat.reduceMul, Nat.reduceSub, Nat.reduceLeDiff, Nat.reduceLT, Nat.reduceEqDiff, reduceIte, Nat.zero_le, Nat.le_refl, Nat.add_zero, Nat.zero_add, twT hT, twV hV]
      refine ⟨fun h3 => ?_, fun h3 => ?_⟩
      · exact no (fun q => h3 q.2.2)
      · refine jW_step ?_
        simp (disch := (first | decide | omega)) only [bX2_isThere, jxs, hps, jtsw, jlsw, List.length_cons, List.length_nil, true_and, and_true, true_implies, false_implies, implies_true, not_true_eq_false, not_false_eq_true, false_and, and_false, if_true, if_false, or_true, true_or, or_false, false_or, Classical.not_not, and_self, Int.reduceAdd, Int.reduceMul, Int.reduceSub, Int.reduceNeg, Int.reduceLT, Int.reduceLE, Int.reduceEq, Int.reduceNe, Int.reduceToNat, Nat.reduceAdd, Nat.reduceMul, Nat.reduceSub, Nat.reduceLeDiff, Nat.reduceLT, Nat.reduceEqDiff, reduceIte, Nat.zero_le, Nat.le_refl, Nat.add_zero, Nat.zero_add, twT hT, twV hV]
        (repeat (refine And.intro (by (first | omega | assumption | trivial | (simp only [inI]; omega) | (simp only [inL]; omega) | (refine jb_01) | (exact jb_in))) ?_))
        exact hQ.1 ⟨h, h2', h3⟩
theorem tw_isAt {v : Int → Int → Int} {m n b p : Int} {el c : Int → Int} (hT : PT T) (hV : PV v) (hS : LAID v m el c ∧ (0 ≤ m ∧ m ≤ 6) ∧ (0 ≤ n ∧ n < fac m) ∧ (b = -1 ∨ (0 ≤ p ∧ p < m))) (hQ : ((b = -1 ∨ el (dec m n p) = b) → Q (.inl (some (vI 1))) (v, T)) ∧ (¬ (b = -1 ∨ el (dec m n p) = b) → Q (.inl (some (vI 0))) (v, T))) : jmet g (d + 1) 0 0 MX2_isAt [vR 539, vI n, vI b, vI p] (v, T) Q := by
  obtain ⟨hL, hm, hn, hp⟩ := hS
  have hf := fac_bd hm.2
  refine jmet_of (ls := [some (vR 539), some (vI n), some (vI b), some (vI p)]) sX2_isAt rfl (by decide +kernel) (by decide) rfl (by simp [jent]) ?_
  have yes : (b = -1 ∨ el (dec m n p) = b) → jW bX2_isAt (g, d, 0, 0, Q) 1 [some (vR 539), some (vI n), some (vI b), some (vI p)] [] (v, T) 0 0 := by
    intro q
    refine jW_step ?_
    simp (disch := (first | decide | omega)) only [bX2_isAt, jxs, hps, jtsw, jlsw, List.length_cons, List.length_nil, true_and, and_true, true_implies, false_implies, implies_true, not_true_eq_false, not_false_eq_true, false_and, and_false, if_true, if_false, or_true, true_or, or_false, false_or, Classical.not_not, and_self, Int.reduceAdd, Int.reduceMul, Int.reduceSub, Int.reduceNeg, Int.reduceLT, Int.reduceLE, Int.reduceEq, Int.reduceNe, Int.reduceToNat, Nat.reduceAdd, Nat.reduceMul, Nat.reduceSub, Nat.reduceLeDiff, Nat.reduceLT, Nat.reduceEqDiff, reduceIte, Nat.zero_le, Nat.le_refl, Nat.add_zero, Nat.zero_add, twT hT, twV hV]
    refine jW_step ?_
    simp (disch := (first | decide | omega)) only [bX2_isAt, jxs, hps, jtsw, jlsw, List.length_cons, List.length_nil, true_and, and_true, true_implies, false_implies, implies_true, not_true_eq_false, not_false_eq_true, false_and, and_false, if_true, if_false, or_true, true_or, or_false, false_or, Classical.not_not, and_self, Int.reduceAdd, Int.reduceMul, Int.reduceSub, Int.reduceNeg, Int.reduceLT, Int.reduceLE, Int.reduceEq, Int.reduceNe, Int.reduceToNat, Nat.reduceAdd, Nat.reduceMul, Nat.reduceSub, Nat.reduceLeDiff, Nat.reduceLT, Nat.reduceEqDiff, reduceIte, Nat.zero_le, Nat.le_refl, Nat.add_zero, Nat.zero_add, twT hT, twV hV]
    (repeat (refine And.intro (by (first | omega | assumption | trivial | (simp only [inI]; omega) | (simp only [inL]; omega) | (refine jb_01) | (exact jb_in))) ?_))
    exact hQ.1 q
  refine jW_step ?_
  simp (disch := (first | decide | omega)) only [bX2_isAt, jxs, hps, jtsw, jlsw, List.length_cons, List.length_nil, true_and, and_true, true_implies, false_implies, implies_true, not_true_eq_false, not_false_eq_true, false_and, and_false, if_true, if_false, or_true, true_or, or_false, false_or, Classical.not_not, and_self, Int.reduceAdd, Int.reduceMul, Int.reduceSub, Int.reduceNeg, Int.reduceLT, Int.reduceLE, Int.reduceEq, Int.reduceNe, Int.reduceToNat, Nat.reduceAdd, Nat.reduceMul, Nat.reduceSub, Nat.reduceLeDiff, Nat.reduceLT, Nat.reduceEqDiff, reduceIte, Nat.zero_le, Nat.le_refl, Nat.add_zero, Nat.zero_add, twT hT, twV hV]
  refine ⟨fun h => ?_, fun h => ?_⟩
  · exact yes (Or.inl h)
  · have hp2 := hp.resolve_left (by omega)
    have e1 := hL.2.2.2.1 n p hn.1 hp2.1 hp2.2 (by omega)
    have db := (dec_st hm hn hp2).2.2.1
    have e2 := hL.2.2.1 (dec m n p) db.1 db.2
    (repeat (refine And.intro (by (first | omega | assumption | trivial | (simp only [inI]; omega) | (simp only [inL]; omega) | (refine jb_01) | (exact jb_in))) ?_))
    rw [e1]
    (repeat (refine And.intro (by (first | omega | assumption | trivial | (simp only [inI]; omega) | (simp only [inL]; omega) | (refine jb_01) | (exact jb_in))) ?_))
    rw [e2]
    refine ⟨fun h2 => ?_, fun h2 => ?_⟩
    · refine jW_step ?_
      simp (disch := (first | decide | omega)) only [bX2_isAt, jxs, hps, jtsw, jlsw, List.length_cons, List.length_nil, true_and, and_true, true_implies, false_implies, implies_true, not_true_eq_false, not_false_eq_true, false_and, and_false, if_true, if_false, or_true, true_or, or_false, false_or, Classical.not_not, and_self, Int.reduceAdd, Int.reduceMul, Int.reduceSub, Int.reduceNeg, Int.reduceLT, Int.reduceLE, Int.reduceEq, Int.reduceNe, Int.reduceToNat, Nat.reduceAdd, Nat.reduceMul, Nat.reduceSub, Nat.reduceLeDiff, Nat.reduceLT, Nat.reduceEqDiff, reduceIte, Nat.zero_le, Nat.le_refl, Nat.add_zero, Nat.zero_add, twT hT, twV hV]
      (repeat (refine And.intro (by (first | omega | assumption | trivial | (simp only [inI]; omega) | (simp only [inL]; omega) | (refine jb_01) | (exact jb_in))) ?_))
      exact hQ.2 (by omega)
    · exact yes (Or.inr (by omega))
theorem tw_nudged {v : Int → Int → Int} {m n p : Int} (hT : PT T) (hV : PV v) (hS : v 539 34 = m ∧ ORD (v 551) m (fac m) 0 ∧ (0 ≤ m ∧ m ≤ 6) ∧ (0 ≤ n ∧ n < fac m) ∧ (0 ≤ p ∧ p + 1 < m)) (hQ : ∀ f, Q (.inl (some (vI (ndA m n p)))) (upA v 555 f, T)) : jmet g (d + 2) 0 0 MX2_nudged [vR 539, vI n, vI p] (v, T) Q := by
  obtain ⟨h34, hR, hm, hn, hp⟩ := hS
  have hf := fac_bd hm.2
  refine jmet_of (ls := [some (vR 539), some (vI n), some (vI p)]) sX2_nudged rfl (by decide +kernel) (by decide) rfl (by simp [jent]) ?_
  refine jW_step ?_
  simp (disch := (first | decide | omega)) only [bX2_nudged, jxs, hps, jtsw, jlsw, List.length_cons, List.length_nil, true_and, and_true, true_implies, false_implies, implies_true, not_true_eq_false, not_false_eq_true, false_and, and_false, if_true, if_false, or_true, true_or, or_false, false_or, Classical.not_not, and_self, Int.reduceAdd, Int.reduceMul, Int.reduceSub, Int.reduceNeg, Int.reduceLT, Int.reduceLE, Int.reduceEq, Int.reduceNe, Int.reduceToNat, Nat.reduceAdd, Nat.reduceMul, Nat.reduceSub, Nat.reduceLeDiff, Nat.reduceLT, Nat.reduceEqDiff, reduceIte, Nat.zero_le, Nat.le_refl, Nat.add_zero, Nat.zero_add, twT hT, twV hV]
  refine ⟨0, 0, ⟨by omega, by omega⟩, tw_takeOrder hT hV ⟨by omega, by rw [h34]; exact hm⟩ ?_⟩
  rw [h34]
  simp (disch := (first | decide | omega)) only [jxs, hps, jtsw, jlsw, List.length_cons, List.length_nil, true_and, and_true, true_implies, false_implies, implies_true, not_true_eq_false, not_false_eq_true, false_and, and_false, if_true, if_false, or_true, true_or, or_false, false_or, Classical.not_not, and_self, Int.reduceAdd, Int.reduceMul, Int.reduceSub, Int.reduceNeg, Int.reduceLT, Int.reduceLE, Int.reduceEq, Int.reduceNe, Int.reduceToNat, Nat.reduceAdd, Nat.reduceMul, Nat.reduceSub, Nat.reduceLeDiff, Nat.reduceLT, Nat.reduceEqDiff, reduceIte, Nat.zero_le, Nat.le_refl, Nat.add_zero, Nat.zero_add, twT hT, twV hV]
  have e : EQm m (fun i => if 0 ≤ i ∧ i < m then v 551 (6 * n + i) else v 555 i) (dec m n) := by
    intro i i0 i1
    show (if 0 ≤ i ∧ i < m then v 551 (6 * n + i) else v 555 i) = _
    rw [if_pos ⟨i0, i1⟩]
    exact hR n i hn.1 i0 i1 (by omega)
  generalize (fun i => if 0 ≤ i ∧ i < m then v 551 (6 * n + i) else v 555 i) = w0 at *
  have u39 : (upA v 555 w0) 539 = v 539 := upA_ne (by omega)
  have u55 : (upA v 555 w0) 555 = w0 := upA_eq
  refine ⟨0, 0, ⟨by omega, by omega⟩, tw_changeOrder hT (by (first | assumption | (repeat (first | assumption | refine PV.A ?_ (by decide) | refine PV.F ?_ ?_ | refine twR.up ?_ (by decide) | refine PV.r ?_)))) (by omega) ?_⟩
  simp (disch := (first | decide | omega)) only [jxs, hps, jtsw, jlsw, List.length_cons, List.length_nil, true_and, and_true, true_implies, false_implies, implies_true, not_true_eq_false, not_false_eq_true, false_and, and_false, if_true, if_false, or_true, true_or, or_false, false_or, Classical.not_not, and_self, Int.reduceAdd, Int.reduceMul, Int.reduceSub, Int.reduceNeg, Int.reduceLT, Int.reduceLE, Int.reduceEq, Int.reduceNe, Int.reduceToNat, Nat.reduceAdd, Nat.reduceMul, Nat.reduceSub, Nat.reduceLeDiff, Nat.reduceLT, Nat.reduceEqDiff, reduceIte, Nat.zero_le, Nat.le_refl, Nat.add_zero, Nat.zero_add, twT hT, twV hV]
  refine ⟨0, 0, ⟨by omega, by omega⟩, tw_orderOf hT (by (first | assumption | (repeat (first | assumption | refine PV.A ?_ (by decide) | refine PV.F ?_ ?_ | refine twR.up ?_ (by decide) | refine PV.r ?_)))) (by rw [upA_ne (by omega), h34]; exact hm) ?_⟩
  rw [upA_eq, upA_ne (by omega), h34]
  have e2 : ooA (swp w0 p) m = ndA m n p := ooA_cg (swp_cg e hp) hm.1
  rw [e2]
  simp (disch := (first | decide | omega)) only [jxs, hps, jtsw, jlsw, List.length_cons, List.length_nil, true_and, and_true, true_implies, false_implies, implies_true, not_true_eq_false, not_false_eq_true, false_and, and_false, if_true, if_false, or_true, true_or, or_false, false_or, Classical.not_not, and_self, Int.reduceAdd, Int.reduceMul, Int.reduceSub, Int.reduceNeg, Int.reduceLT, Int.reduceLE, Int.reduceEq, Int.reduceNe, Int.reduceToNat, Nat.reduceAdd, Nat.reduceMul, Nat.reduceSub, Nat.reduceLeDiff, Nat.reduceLT, Nat.reduceEqDiff, reduceIte, Nat.zero_le, Nat.le_refl, Nat.add_zero, Nat.zero_add, twT hT, twV hV]
  (repeat (refine And.intro (by (first | omega | assumption | trivial | (simp only [inI]; omega) | (simp only [inL]; omega) | (refine jb_01) | (exact jb_in))) ?_))
  exact hQ _
theorem tw_ng_7 {l1 l2 l3 l4 l5 l6 k n m : Int} (hT : PT T) (hm : 0 ≤ m ∧ m ≤ 6) (hn : 0 ≤ n ∧ n < fac m) (hk : 0 ≤ k ∧ k < 720) : ∀ (r : Nat) (p : Int) (v : Int → Int → Int) (tk qu : Int → Int) (en : Int), PV v → v 539 34 = m → ORD (v 551) m (fac m) 0 → 0 ≤ p → (m = p + 1 + r ∨ (m ≤ p + 1 ∧ r = 0)) → p ≤ 10 → EQm (fac m) (v 557) tk → EQm en (v 556) qu → INV m tk qu en → 0 ≤ tk n →
    (∀ w, (∀ a, a ≠ 555 → a ≠ 556 → a ≠ 557 → w a = v a) → EQm (fac m) (w 557) (ng2 m n r p tk qu en).1 → EQm (ng2 m n r p tk qu en).2.2 (w 556) (ng2 m n r p tk qu en).2.1 → INV m (ng2 m n r p tk qu en).1 (ng2 m n r p tk qu en).2.1 (ng2 m n r p tk qu en).2.2 → jW bX2_nudges (g, d + 9, 0, 0, Q) 5 [some (vR 539), some (vI l1), some (vI l2), some (vI l3), some (vI l4), some (vI l5), some (vI l6), some (vI (ng2 m n r p tk qu en).2.2), some (vI (k + 1)), none, none, none] [] (w, T) 0 0) →
    jW bX2_nudges (g, d + 9, 0, 0, Q) 7 [some (vR 539), some (vI l1), some (vI l2), some (vI l3), some (vI l4), some (vI l5), some (vI l6), some (vI en), some (vI k), some (vI n), some (vI p), none] [] (v, T) 0 0 := by
  have hf := fac_bd hm.2
  intro r
  induction r with
  | zero =>
    intro p v tk qu en hV h34 hR hp hr hp2 ht hq hI hn0 hQ
    unfold ng2 at hQ
    refine jW_step ?_
    simp (disch := (first | decide | omega)) only [bX2_nudges, jxs, hps, jtsw, jlsw, List.length_cons, List.length_nil, true_and, and_true, true_implies, false_implies, implies_true, not_true_eq_false, not_false_eq_true, false_and, and_false, if_true, if_false, or_true, true_or, or_false, false_or, Classical.not_not, and_self, Int.reduceAdd, Int.reduceMul, Int.reduceSub, Int.reduceNeg, Int.reduceLT, Int.reduceLE, Int.reduceEq, Int.reduceNe, Int.reduceToNat, Nat.reduceAdd, Nat.reduceMul, Nat.reduceSub, Nat.reduceLeDiff, Nat.reduceLT, Nat.reduceEqDiff, reduceIte, Nat.zero_le, Nat.le_refl, Nat.add_zero, Nat.zero_add, twT hT, twV hV, h34]
    (repeat (refine And.intro (by (first | omega | assumption | trivial | (simp only [inI]; omega) | (simp only [inL]; omega) | (refine jb_01) | (exact jb_in))) ?_))
    (try refine ⟨fun _ => ?_, fun h9 => (by exfalso; omega)⟩)
    (repeat (refine And.intro (by (first | omega | assumption | trivial | (simp only [inI]; omega) | (simp only [inL]; omega) | (refine jb_01) | (exact jb_in))) ?_))
    exact jW_sub (by simp [jsub]) (hQ v (fun _ _ _ _ => rfl) ht hq hI)
  | succ r ih =>
    intro p v tk qu en hV h34 hR hp hr hp2 ht hq hI hn0 hQ
    unfold ng2 at hQ
    have hpm : 0 ≤ p ∧ p + 1 < m := by omega
    have tb := ndA_bd hm hn hpm
    have enb := cnT_bd (tk := tk) (fac m).toNat
    have en1 := hI.1
    refine jW_step ?_
    simp (disch := (first | decide | omega)) only [bX2_nudges, jxs, hps, jtsw, jlsw, List.length_cons, List.length_nil, true_and, and_true, true_implies, false_implies, implies_true, not_true_eq_false, not_false_eq_true, false_and, and_false, if_true, if_false, or_true, true_or, or_false, false_or, Classical.not_not, and_self, Int.reduceAdd, Int.reduceMul, Int.reduceSub, Int.reduceNeg, Int.reduceLT, Int.reduceLE, Int.reduceEq, Int.reduceNe, Int.reduceToNat, Nat.reduceAdd, Nat.reduceMul, Nat.reduceSub, Nat.reduceLeDiff, Nat.reduceLT, Nat.reduceEqDiff, reduceIte, Nat.zero_le, Nat.le_refl, Nat.add_zero, Nat.zero_add, twT hT, twV hV, h34]
    (repeat (refine And.intro (by (first | omega | assumption | trivial | (simp only [inI]; omega) | (simp only [inL]; omega) | (refine jb_01) | (exact jb_in))) ?_))
    (first | refine ⟨fun h9 => (by exfalso; omega), fun _ => ?_⟩ | intro _)
    refine ⟨0, 0, ⟨by omega, by omega⟩, tw_nudged hT hV ⟨h34, hR, hm, hn, hpm⟩ ?_⟩
    intro f
    have hVu : PV (upA v 555 f) := by (first | assumption | (repeat (first | assumption | refine PV.A ?_ (by decide) | refine PV.F ?_ ?_ | refine twR.up ?_ (by decide) | refine PV.r ?_)))
    have uo : ∀ a, a ≠ 555 → (upA v 555 f) a = v a := fun a ha => upA_ne ha
    generalize upA v 555 f = u at *
    generalize ndA m n p = t at *
    have u57 : EQm (fac m) (u 557) tk := by rw [uo 557 (by omega)]; exact ht
    have u56 : EQm en (u 556) qu := by rw [uo 556 (by omega)]; exact hq
    have et := u57 t tb.1 tb.2
    have eN := u57 n hn.1 hn.2
    have k8 : ∀ w tk' qu' en' l11, PV w → (∀ a, a ≠ 555 → a ≠ 556 → a ≠ 557 → w a = v a) → EQm (fac m) (w 557) tk' → EQm en' (w 556) qu' → INV m tk' qu' en' → 0 ≤ tk' n →
        (∀ w, (∀ a, a ≠ 555 → a ≠ 556 → a ≠ 557 → w a = v a) → EQm (fac m) (w 557) (ng2 m n r (p + 1) tk' qu' en').1 → EQm (ng2 m n r (p + 1) tk' qu' en').2.2 (w 556) (ng2 m n r (p + 1) tk' qu' en').2.1 → INV m (ng2 m n r (p + 1) tk' qu' en').1 (ng2 m n r (p + 1) tk' qu' en').2.1 (ng2 m n r (p + 1) tk' qu' en').2.2 → jW bX2_nudges (g, d + 9, 0, 0, Q) 5 [some (vR 539), some (vI l1), some (vI l2), some (vI l3), some (vI l4), some (vI l5), some (vI l6), some (vI (ng2 m n r (p + 1) tk' qu' en').2.2), some (vI (k + 1)), none, none, none] [] (w, T) 0 0) →
        jW bX2_nudges (g, d + 9, 0, 0, Q) 8 [some (vR 539), some (vI l1), some (vI l2), some (vI l3), some (vI l4), some (vI l5), some (vI l6), some (vI en'), some (vI k), some (vI n), some (vI p), some (vI l11)] [] (w, T) 0 0 := by
      intro w tk' qu' en' l11 hVw wo w57 w56 wI wn wQ
      have hV := hVw
      refine jW_step ?_
      simp (disch := (first | decide | omega)) only [bX2_nudges, jxs, hps, jtsw, jlsw, List.length_cons, List.length_nil, true_and, and_true, true_implies, false_implies, implies_true, not_true_eq_false, not_false_eq_true, false_and, and_false, if_true, if_false, or_true, true_or, or_false, false_or, Classical.not_not, and_self, Int.reduceAdd, Int.reduceMul, Int.reduceSub, Int.reduceNeg, Int.reduceLT, Int.reduceLE, Int.reduceEq, Int.reduceNe, Int.reduceToNat, Nat.reduceAdd, Nat.reduceMul, Nat.reduceSub, Nat.reduceLeDiff, Nat.reduceLT, Nat.reduceEqDiff, reduceIte, Nat.zero_le, Nat.le_refl, Nat.add_zero, Nat.zero_add, twT hT, twV hV]
      (repeat (refine And.intro (by (first | omega | assumption | trivial | (simp only [inI]; omega) | (simp only [inL]; omega) | (refine jb_01) | (exact jb_in))) ?_))
      refine jW_sub (ls' := [some (vR 539), some (vI l1), some (vI l2), some (vI l3), some (vI l4), some (vI l5), some (vI l6), some (vI en'), some (vI k), some (vI n), some (vI (p + 1)), none]) (by simp [jsub]) ?_
      refine ih (p + 1) w tk' qu' en' hVw (by rw [wo 539 (by omega) (by omega) (by omega)]; exact h34) (by rw [wo 551 (by omega) (by omega) (by omega)]; exact hR) (by omega) (by omega) (by omega) w57 w56 wI wn ?_
      intro y y1
      exact wQ y (fun a a1 a2 a3 => (y1 a a1 a2 a3).trans (wo a a1 a2 a3))
    have hV := hVu
    simp (disch := (first | decide | omega)) only [jxs, hps, jtsw, jlsw, List.length_cons, List.length_nil, true_and, and_true, true_implies, false_implies, implies_true, not_true_eq_false, not_false_eq_true, false_and, and_false, if_true, if_false, or_true, true_or, or_false, false_or, Classical.not_not, and_self, Int.reduceAdd, Int.reduceMul, Int.reduceSub, Int.reduceNeg, Int.reduceLT, Int.reduceLE, Int.reduceEq, Int.reduceNe, Int.reduceToNat, Nat.reduceAdd, Nat.reduceMul, Nat.reduceSub, Nat.reduceLeDiff, Nat.reduceLT, Nat.reduceEqDiff, reduceIte, Nat.zero_le, Nat.le_refl, Nat.add_zero, Nat.zero_add, twT hT, twV hV]
    (repeat (refine And.intro (by (first | omega | assumption | trivial | (simp only [inI]; omega) | (simp only [inL]; omega) | (refine jb_01) | (exact jb_in))) ?_))
    rw [et]
    refine ⟨fun h => ?_, fun h => ?_⟩
    · rw [if_neg (by omega)] at hQ
      have st := hI.st ⟨hn, hn0⟩ tb h
      have tkn := hI.2.2 n hn.1 hn.2
      (repeat (refine And.intro (by (first | omega | assumption | trivial | (simp only [inI]; omega) | (simp only [inL]; omega) | (refine jb_01) | (exact jb_in))) ?_))
      rw [eN]
      (repeat (refine And.intro (by (first | omega | assumption | trivial | (simp only [inI]; omega) | (simp only [inL]; omega) | (refine jb_01) | (exact jb_in))) ?_))
      refine k8 (upA (upA u 556 (up1 (u 556) en t)) 557 (up1 (u 557) t (tk n + 1))) _ _ _ _ (by (first | assumption | (repeat (first | assumption | refine PV.A ?_ (by decide) | refine PV.F ?_ ?_ | refine twR.up ?_ (by decide) | refine PV.r ?_)))) (fun a a1 a2 a3 => by rw [upA_ne a3, upA_ne a2]; exact uo a a1) ?_ ?_ st.1 ?_ hQ
      · rw [upA_eq]
        intro i i0 i1
        by_cases e : i = t
        · rw [e, up1_eq, up1_eq]
        · rw [up1_ne e, up1_ne e]; exact u57 i i0 i1
      · rw [upA_ne (by omega), upA_eq]
        intro i i0 i1
        by_cases e : i = en
        · rw [e, up1_eq, up1_eq]
        · rw [up1_ne e, up1_ne e]; exact u56 i i0 (by omega)
      · by_cases e : n = t
        · rw [e] at hn0; omega
        · rw [up1_ne e]; exact hn0
    · rw [if_pos (by omega)] at hQ
      (repeat (refine And.intro (by (first | omega | assumption | trivial | (simp only [inI]; omega) | (simp only [inL]; omega) | (refine jb_01) | (exact jb_in))) ?_))
      exact k8 u tk qu en _ hVu (fun a a1 a2 a3 => uo a a1) u57 u56 hI hn0 hQ
end TG
