/-! ===== the reference: the game, whole ===== -/
set_option maxRecDepth 100000
def dsuC (m : Nat) : Bool := (List.range (fac m).toNat).all fun n => (List.range m).all fun k => (List.range m).any fun p => decide (dec m n p = k)
theorem dsuC_1 : ∀ m : Fin 7, dsuC m.val = true := by decide +kernel
theorem dec_sur {m n k : Int} (hm : 0 ≤ m ∧ m ≤ 6) (hn : 0 ≤ n ∧ n < fac m) (hk : 0 ≤ k ∧ k < m) : ∃ p, (0 ≤ p ∧ p < m) ∧ dec m n p = k := by
  have c := dsuC_1 ⟨m.toNat, by omega⟩
  unfold dsuC at c
  dsimp only at c
  rw [show ((m.toNat : Nat) : Int) = m by omega, List.all_eq_true] at c
  have c2 := c n.toNat (List.mem_range.2 (by omega))
  rw [List.all_eq_true] at c2
  have c3 := c2 k.toNat (List.mem_range.2 (by omega))
  rw [List.any_eq_true] at c3
  obtain ⟨p, p1, p2⟩ := c3
  have p3 := List.mem_range.1 p1
  rw [show ((n.toNat : Nat) : Int) = n by omega, show ((k.toNat : Nat) : Int) = k by omega] at p2
  exact ⟨p, by omega, of_decide_eq_true p2⟩
theorem pbF_ex {el w : Int → Int} {b : Int} : ∀ (r : Nat) (p x y : Int), (∃ q, (p ≤ q ∧ q < p + r) ∧ el (w q) = b) → pbF el w b r p x = pbF el w b r p y
  | 0, p, x, y, ⟨q, q1, q2⟩ => by omega
  | r + 1, p, x, y, ⟨q, q1, q2⟩ => by
    unfold pbF
    by_cases h : el (w p) = b
    · rw [if_pos h, if_pos h]
    · rw [if_neg h, if_neg h]
      refine pbF_ex r (p + 1) x y ⟨q, ?_, q2⟩
      by_cases e : q = p
      · rw [e] at q2; exact absurd q2 h
      · omega
/-- what orders are worth at the end; a move earlier; some moves earlier -/
def wo0 (el : Int → Int) (m b : Int) : Int → Int := fun j => pbF el (dec m j) b m.toNat 0 0
def wrS (ld : Int → Int) (m ni mv : Int) (wo : Int → Int) : Int → Int := fun k => boA ld wo m k ((ni + mv) % 2) (if mv % 2 = 0 then 1 else 0)
def woN (ld : Int → Int) (m ni : Int) : Nat → (Int → Int) → (Int → Int)
  | 0, wo => wo
  | r + 1, wo => woN ld m ni r (wrS ld m ni ((r : Int) + 1) wo)
def mvF (ld wo : Int → Int) (m n kind best : Int) : Nat → Int → Int
  | 0, mv => mv
  | r + 1, mv => if wo (mvA ld m n mv kind) = best then mv else mvF ld wo m n kind best r (mv + 1)
def gmS2 (ld wo : Int → Int) (m st kind fi : Int) : Int := if fi = 0 then boA ld wo m st kind 1 else mvF ld wo m st kind (boA ld wo m st kind 1) (m + 1).toNat (-1)
def gmS (A X : Int → Int) (s b n fi : Int) : Int := gmS2 (ldJ (tbS A X (shsA A s)) (A (13 + s))) (woN (ldJ (tbS A X (shsA A s)) (A (13 + s))) (A (13 + s)) (A 1) (n - 1).toNat (wo0 (elZ (A 0) (shsA A s)).1 (A (13 + s)) b)) (A (13 + s)) (fstA A s) (A 1 % 2) fi
def gmA (A X : Int → Int) (s b n fi : Int) : Int := if (0 ≤ s ∧ s ≤ 2) ∧ (2 ≤ A (13 + s) ∧ A (13 + s) ≤ 5) ∧ ithP A b s 0 ∧ (1 ≤ n ∧ n ≤ 5) then gmS A X s b n fi else -2
theorem boF_at {ld wo : Int → Int} {m n kind le : Int} : ∀ (r : Nat) (p b : Int), boF ld wo m n kind le r p b = b ∨ ∃ q, (p ≤ q ∧ q < p + r) ∧ boF ld wo m n kind le r p b = wo (mvA ld m n q kind)
  | 0, _, _ => Or.inl rfl
  | r + 1, p, b => by
    unfold boF
    have h := boF_at (ld := ld) (wo := wo) (m := m) (n := n) (kind := kind) (le := le) r (p + 1) (if le = 0 then (if b < wo (mvA ld m n p kind) then wo (mvA ld m n p kind) else b) else (if wo (mvA ld m n p kind) < b then wo (mvA ld m n p kind) else b))
    rcases h with h | ⟨q, q1, q2⟩
    · rw [h]
      split
      · split
        · exact Or.inr ⟨p, by omega, rfl⟩
        · exact Or.inl rfl
      · split
        · exact Or.inr ⟨p, by omega, rfl⟩
        · exact Or.inl rfl
    · exact Or.inr ⟨q, by omega, q2⟩
theorem boA_at {ld wo : Int → Int} {m n kind le : Int} (hm : 1 ≤ m) : ∃ q, (-1 ≤ q ∧ q + 1 < m) ∧ wo (mvA ld m n q kind) = boA ld wo m n kind le := by
  unfold boA
  rcases boF_at (ld := ld) (wo := wo) (m := m) (n := n) (kind := kind) (le := le) (m - 1).toNat 0 (wo (mvA ld m n (-1) kind)) with h | ⟨q, q1, q2⟩
  · exact ⟨-1, by omega, h.symm⟩
  · exact ⟨q, by omega, q2.symm⟩
theorem boF_cg {ld wo wo' : Int → Int} {m n kind le : Int} (hm : 0 ≤ m ∧ m ≤ 6) (hL : LD ld (fac m)) (hn : 0 ≤ n ∧ n < fac m) (hk : 0 ≤ kind ∧ kind ≤ 1) (h : EQm (fac m) wo wo') : ∀ (r : Nat) (p b : Int), 0 ≤ p → p + r + 1 ≤ m ∨ r = 0 → boF ld wo m n kind le r p b = boF ld wo' m n kind le r p b
  | 0, _, _, _, _ => rfl
  | r + 1, p, b, hp, hr => by
    unfold boF
    have mb := mvA_bd (mv := p) hm hL hn (Or.inr ⟨hp, by omega⟩) hk
    rw [h _ mb.1 mb.2]
    exact boF_cg hm hL hn hk h r (p + 1) _ (by omega) (by omega)
theorem boA_cg {ld wo wo' : Int → Int} {m n kind le : Int} (hm : 0 ≤ m ∧ m ≤ 6) (hL : LD ld (fac m)) (hn : 0 ≤ n ∧ n < fac m) (hk : 0 ≤ kind ∧ kind ≤ 1) (h : EQm (fac m) wo wo') : boA ld wo m n kind le = boA ld wo' m n kind le := by
  unfold boA
  have mb := mvA_bd (mv := -1) hm hL hn (Or.inl rfl) hk
  rw [h _ mb.1 mb.2]
  exact boF_cg hm hL hn hk h _ 0 _ (by omega) (by omega)
section TG
variable {g : jjG} {d : Nat} {T : jjT} {Q : jjQ}
theorem tw_gm_3 {l1 b l3 l4 l5 k m : Int} {el c : Int → Int} (hT : PT T) (hm : 0 ≤ m ∧ m ≤ 6) (hk : 0 ≤ k ∧ k < fac m) (hb : 0 ≤ b) : ∀ (r : Nat) (p : Int) (v : Int → Int → Int), PV v → LAID v m el c → 0 ≤ p → m = p + r →
    (∀ w, w 558 = up1 (v 558) k (pbF el (dec m k) b r p (v 558 k)) → (∀ a, a ≠ 558 → w a = v a) → jW bX2_game (g, d + 9, 0, 0, Q) 2 [some (vR 539), some (vI l1), some (vI b), some (vI l3), some (vI l4), some (vI l5), some (vI (k + 1)), none, none] [] (w, T) 0 0) →
    jW bX2_game (g, d + 9, 0, 0, Q) 3 [some (vR 539), some (vI l1), some (vI b), some (vI l3), some (vI l4), some (vI l5), some (vI k), some (vI p), none] [] (v, T) 0 0 := by
  have hf := fac_bd hm.2
  intro r
  induction r with
  | zero =>
    intro p v hV hL hp hr hQ
    have h34 := hL.1
    unfold pbF at hQ
    rw [up1_id] at hQ
    refine jW_step ?_
    simp (disch := (first | decide | omega)) only [bX2_game, jxs, hps, jtsw, jlsw, List.length_cons, List.length_nil, true_and, and_true, true_implies, false_implies, implies_true, not_true_eq_false, not_false_eq_true, false_and, and_false, if_true, if_false, or_true, true_or, or_false, false_or, Classical.not_not, and_self, Int.reduceAdd, Int.reduceMul, Int.reduceSub, Int.reduceNeg, Int.reduceLT, Int.reduceLE, Int.reduceEq, Int.reduceNe, Int.reduceToNat, Nat.reduceAdd, Nat.reduceMul, Nat.reduceSub, Nat.reduceLeDiff, Nat.reduceLT, Nat.reduceEqDiff, reduceIte, Nat.zero_le, Nat.le_refl, Nat.add_zero, Nat.zero_add, twT hT, twV hV, h34]
    (repeat (refine And.intro (by (first | omega | assumption | trivial | (simp only [inI]; omega) | (simp only [inL]; omega) | (refine jb_01) | (exact jb_in))) ?_))
    (try refine ⟨fun _ => ?_, fun h9 => (by exfalso; omega)⟩)
    (repeat (refine And.intro (by (first | omega | assumption | trivial | (simp only [inI]; omega) | (simp only [inL]; omega) | (refine jb_01) | (exact jb_in))) ?_))
    exact jW_sub (by simp [jsub]) (hQ v rfl (fun _ _ => rfl))
  | succ r ih =>
    intro p v hV hL hp hr hQ
    have h34 := hL.1
    unfold pbF at hQ
    have k4 : ∀ x, x = (if el (dec m k p) = b then p else v 558 k) → jW bX2_game (g, d + 9, 0, 0, Q) 4 [some (vR 539), some (vI l1), some (vI b), some (vI l3), some (vI l4), some (vI l5), some (vI k), some (vI p), none] [] (upA v 558 (up1 (v 558) k x), T) 0 0 := by
      intro x hx
      have hVu : PV (upA v 558 (up1 (v 558) k x)) := by (first | assumption | (repeat (first | assumption | refine PV.A ?_ (by decide) | refine PV.F ?_ ?_ | refine twR.up ?_ (by decide) | refine PV.r ?_)))
      have u58 : (upA v 558 (up1 (v 558) k x)) 558 = up1 (v 558) k x := upA_eq
      have uo : ∀ a, a ≠ 558 → (upA v 558 (up1 (v 558) k x)) a = v a := fun a ha => upA_ne ha
      generalize upA v 558 (up1 (v 558) k x) = u at *
      have hV := hVu
      refine jW_step ?_
      simp (disch := (first | decide | omega)) only [bX2_game, jxs, hps, jtsw, jlsw, List.length_cons, List.length_nil, true_and, and_true, true_implies, false_implies, implies_true, not_true_eq_false, not_false_eq_true, false_and, and_false, if_true, if_false, or_true, true_or, or_false, false_or, Classical.not_not, and_self, Int.reduceAdd, Int.reduceMul, Int.reduceSub, Int.reduceNeg, Int.reduceLT, Int.reduceLE, Int.reduceEq, Int.reduceNe, Int.reduceToNat, Nat.reduceAdd, Nat.reduceMul, Nat.reduceSub, Nat.reduceLeDiff, Nat.reduceLT, Nat.reduceEqDiff, reduceIte, Nat.zero_le, Nat.le_refl, Nat.add_zero, Nat.zero_add, twT hT, twV hV]
      (repeat (refine And.intro (by (first | omega | assumption | trivial | (simp only [inI]; omega) | (simp only [inL]; omega) | (refine jb_01) | (exact jb_in))) ?_))
      refine ih (p + 1) u hVu (hL.fr (uo 539 (by omega)) (uo 551 (by omega)) (uo 552 (by omega)) (uo 553 (by omega)) (uo 554 (by omega))) (by omega) (by omega) ?_
      rw [u58, up1_eq, up1_same, hx]
      intro w w1 w2
      exact hQ w w1 (fun a ha => (w2 a ha).trans (uo a ha))
    refine jW_step ?_
    simp (disch := (first | decide | omega)) only [bX2_game, jxs, hps, jtsw, jlsw, List.length_cons, List.length_nil, true_and, and_true, true_implies, false_implies, implies_true, not_true_eq_false, not_false_eq_true, false_and, and_false, if_true, if_false, or_true, true_or, or_false, false_or, Classical.not_not, and_self, Int.reduceAdd, Int.reduceMul, Int.reduceSub, Int.reduceNeg, Int.reduceLT, Int.reduceLE, Int.reduceEq, Int.reduceNe, Int.reduceToNat, Nat.reduceAdd, Nat.reduceMul, Nat.reduceSub, Nat.reduceLeDiff, Nat.reduceLT, Nat.reduceEqDiff, reduceIte, Nat.zero_le, Nat.le_refl, Nat.add_zero, Nat.zero_add, twT hT, twV hV, h34]
    (repeat (refine And.intro (by (first | omega | assumption | trivial | (simp only [inI]; omega) | (simp only [inL]; omega) | (refine jb_01) | (exact jb_in))) ?_))
    (first | refine ⟨fun h9 => (by exfalso; omega), fun _ => ?_⟩ | intro _)
    refine ⟨0, 0, ⟨by omega, by omega⟩, tw_isAt hT hV ⟨hL, hm, hk, Or.inr ⟨hp, by omega⟩⟩ ⟨fun h => ?_, fun h => ?_⟩⟩
    · have he : el (dec m k p) = b := h.resolve_left (by omega)
      simp (disch := (first | decide | omega)) only [jxs, hps, jtsw, jlsw, List.length_cons, List.length_nil, true_and, and_true, true_implies, false_implies, implies_true, not_true_eq_false, not_false_eq_true, false_and, and_false, if_true, if_false, or_true, true_or, or_false, false_or, Classical.not_not, and_self, Int.reduceAdd, Int.reduceMul, Int.reduceSub, Int.reduceNeg, Int.reduceLT, Int.reduceLE, Int.reduceEq, Int.reduceNe, Int.reduceToNat, Nat.reduceAdd, Nat.reduceMul, Nat.reduceSub, Nat.reduceLeDiff, Nat.reduceLT, Nat.reduceEqDiff, reduceIte, Nat.zero_le, Nat.le_refl, Nat.add_zero, Nat.zero_add, twT hT, twV hV]
      (repeat (refine And.intro (by (first | omega | assumption | trivial | (simp only [inI]; omega) | (simp only [inL]; omega) | (refine jb_01) | (exact jb_in))) ?_))
      exact k4 p (by rw [if_pos he])
    · have q := k4 (v 558 k) (by rw [if_neg (fun x => h (Or.inr x))])
      rw [up1_id, upA_id] at q
      simp (disch := (first | decide | omega)) only [jxs, hps, jtsw, jlsw, List.length_cons, List.length_nil, true_and, and_true, true_implies, false_implies, implies_true, not_true_eq_false, not_false_eq_true, false_and, and_false, if_true, if_false, or_true, true_or, or_false, false_or, Classical.not_not, and_self, Int.reduceAdd, Int.reduceMul, Int.reduceSub, Int.reduceNeg, Int.reduceLT, Int.reduceLE, Int.reduceEq, Int.reduceNe, Int.reduceToNat, Nat.reduceAdd, Nat.reduceMul, Nat.reduceSub, Nat.reduceLeDiff, Nat.reduceLT, Nat.reduceEqDiff, reduceIte, Nat.zero_le, Nat.le_refl, Nat.add_zero, Nat.zero_add, twT hT, twV hV]
      exact q
theorem tw_gm_2 {l1 b l3 l4 l5 m : Int} {el c : Int → Int} (hT : PT T) (hm : 0 ≤ m ∧ m ≤ 6) (hb : 0 ≤ b) (hx : ∃ q, (0 ≤ q ∧ q < m) ∧ el q = b) : ∀ (r : Nat) (k : Int) (v : Int → Int → Int), PV v → LAID v m el c → 0 ≤ k → k + r = fac m → EQm k (v 558) (wo0 el m b) →
    (∀ w, EQm (fac m) (w 558) (wo0 el m b) → (∀ a, a ≠ 558 → w a = v a) → jW bX2_game (g, d + 9, 0, 0, Q) 2 [some (vR 539), some (vI l1), some (vI b), some (vI l3), some (vI l4), some (vI l5), some (vI (fac m)), none, none] [] (w, T) 0 0) →
    jW bX2_game (g, d + 9, 0, 0, Q) 2 [some (vR 539), some (vI l1), some (vI b), some (vI l3), some (vI l4), some (vI l5), some (vI k), none, none] [] (v, T) 0 0 := by
  have hf := fac_bd hm.2
  intro r
  induction r with
  | zero =>
    intro k v hV hL hk hr he hQ
    have := hQ v (by rwa [show fac m = k by omega]) (fun _ _ => rfl)
    rwa [show fac m = k by omega] at this
  | succ r ih =>
    intro k v hV hL hk hr he hQ
    have h35 := hL.2.1
    have kb : 0 ≤ k ∧ k < fac m := ⟨hk, by omega⟩
    obtain ⟨q0, q1, q2⟩ := hx
    obtain ⟨p0, p1, p2⟩ := dec_sur hm kb q1
    refine jW_step ?_
    simp (disch := (first | decide | omega)) only [bX2_game, jxs, hps, jtsw, jlsw, List.length_cons, List.length_nil, true_and, and_true, true_implies, false_implies, implies_true, not_true_eq_false, not_false_eq_true, false_and, and_false, if_true, if_false, or_true, true_or, or_false, false_or, Classical.not_not, and_self, Int.reduceAdd, Int.reduceMul, Int.reduceSub, Int.reduceNeg, Int.reduceLT, Int.reduceLE, Int.reduceEq, Int.reduceNe, Int.reduceToNat, Nat.reduceAdd, Nat.reduceMul, Nat.reduceSub, Nat.reduceLeDiff, Nat.reduceLT, Nat.reduceEqDiff, reduceIte, Nat.zero_le, Nat.le_refl, Nat.add_zero, Nat.zero_add, twT hT, twV hV, h35]
    (repeat (refine And.intro (by (first | omega | assumption | trivial | (simp only [inI]; omega) | (simp only [inL]; omega) | (refine jb_01) | (exact jb_in))) ?_))
    (first | refine ⟨fun h9 => (by exfalso; omega), fun _ => ?_⟩ | intro _)
    refine tw_gm_3 hT hm kb hb m.toNat 0 v hV hL (by omega) (by omega) ?_
    intro w w1 w2
    have hVw : PV w := hV.fr (fun a ha => w2 a (fun e => by subst e; revert ha; decide))
    refine ih (k + 1) w hVw (hL.fr (w2 539 (by omega)) (w2 551 (by omega)) (w2 552 (by omega)) (w2 553 (by omega)) (w2 554 (by omega))) (by omega) (by omega) ?_ ?_
    · intro i i0 i1
      rw [w1]
      by_cases e : i = k
      · rw [e, up1_eq]
        exact pbF_ex m.toNat 0 _ 0 ⟨p0, by omega, by rw [p2]; exact q2⟩
      · rw [up1_ne e]
        exact he i i0 (by omega)
    · intro y y1 y2
      exact hQ y y1 (fun a ha => (y2 a ha).trans (w2 a ha))
theorem tw_gm_6 {l1 l2 l3 l4 l5 mv m ni : Int} {el c wo : Int → Int} (hT : PT T) (hm : 0 ≤ m ∧ m ≤ 6) (hmv : 1 ≤ mv ∧ mv ≤ 5) (hni : 0 ≤ ni ∧ ni < 100000) : ∀ (r : Nat) (k : Int) (v : Int → Int → Int), PV v → LAID v m el c → v 540 1 = ni → EQm (fac m) (v 558) wo → 0 ≤ k → k + r = fac m → EQm k (v 559) (wrS (ldJ c m) m ni mv wo) →
    (∀ w, EQm (fac m) (w 559) (wrS (ldJ c m) m ni mv wo) → (∀ a, a ≠ 555 → a ≠ 559 → w a = v a) → jW bX2_game (g, d + 9, 0, 0, Q) 6 [some (vR 539), some (vI l1), some (vI l2), some (vI l3), some (vI l4), some (vI l5), some (vI mv), some (vI (fac m)), none] [] (w, T) 0 0) →
    jW bX2_game (g, d + 9, 0, 0, Q) 6 [some (vR 539), some (vI l1), some (vI l2), some (vI l3), some (vI l4), some (vI l5), some (vI mv), some (vI k), none] [] (v, T) 0 0 := by
  have hf := fac_bd hm.2
  intro r
  induction r with
  | zero =>
    intro k v hV hL hv hw hk hr he hQ
    have := hQ v (by rwa [show fac m = k by omega]) (fun _ _ _ => rfl)
    rwa [show fac m = k by omega] at this
  | succ r ih =>
    intro k v hV hL hv hw hk hr he hQ
    have h35 := hL.2.1
    have kb : 0 ≤ k ∧ k < fac m := ⟨hk, by omega⟩
    have k7 : ∀ z, z = (if mv % 2 = 0 then (1 : Int) else 0) → jW bX2_game (g, d + 9, 0, 0, Q) 7 [some (vR 539), some (vI l1), some (vI l2), some (vI l3), some (vI l4), some (vI l5), some (vI mv), some (vI k), none] [vI z, vI ((ni + mv) % 2), vI k, vR 539, vI k, vR 559] (v, T) 0 0 := by
      intro z hz
      refine jW_step ?_
      simp (disch := (first | decide | omega)) only [bX2_game, jxs, hps, jtsw, jlsw, List.length_cons, List.length_nil, true_and, and_true, true_implies, false_implies, implies_true, not_true_eq_false, not_false_eq_true, false_and, and_false, if_true, if_false, or_true, true_or, or_false, false_or, Classical.not_not, and_self, Int.reduceAdd, Int.reduceMul, Int.reduceSub, Int.reduceNeg, Int.reduceLT, Int.reduceLE, Int.reduceEq, Int.reduceNe, Int.reduceToNat, Nat.reduceAdd, Nat.reduceMul, Nat.reduceSub, Nat.reduceLeDiff, Nat.reduceLT, Nat.reduceEqDiff, reduceIte, Nat.zero_le, Nat.le_refl, Nat.add_zero, Nat.zero_add, twT hT, twV hV]
      refine ⟨0, 0, ⟨by omega, by omega⟩, tw_bestOf hT hV ⟨hL, hm, kb, by omega, hw⟩ ?_⟩
      intro u hu
      have hVu : PV u := hV.fr (fun a ha => hu a (fun e => by subst e; revert ha; decide))
      have e1 : boA (ldJ c m) wo m k ((ni + mv) % 2) z = wrS (ldJ c m) m ni mv wo k := by unfold wrS; rw [hz]
      rw [e1]
      have hV := hVu
      simp (disch := (first | decide | omega)) only [jxs, hps, jtsw, jlsw, List.length_cons, List.length_nil, true_and, and_true, true_implies, false_implies, implies_true, not_true_eq_false, not_false_eq_true, false_and, and_false, if_true, if_false, or_true, true_or, or_false, false_or, Classical.not_not, and_self, Int.reduceAdd, Int.reduceMul, Int.reduceSub, Int.reduceNeg, Int.reduceLT, Int.reduceLE, Int.reduceEq, Int.reduceNe, Int.reduceToNat, Nat.reduceAdd, Nat.reduceMul, Nat.reduceSub, Nat.reduceLeDiff, Nat.reduceLT, Nat.reduceEqDiff, reduceIte, Nat.zero_le, Nat.le_refl, Nat.add_zero, Nat.zero_add, twT hT, twV hV]
      (repeat (refine And.intro (by (first | omega | assumption | trivial | (simp only [inI]; omega) | (simp only [inL]; omega) | (refine jb_01) | (exact jb_in))) ?_))
      have u9 : u 559 = v 559 := hu 559 (by omega)
      have yo : ∀ x a, a ≠ 555 → a ≠ 559 → (upA u 559 x) a = v a := fun x a a1 a2 => (upA_ne a2).trans (hu a a1)
      refine ih (k + 1) (upA u 559 (up1 (u 559) k (wrS (ldJ c m) m ni mv wo k))) (by (first | assumption | (repeat (first | assumption | refine PV.A ?_ (by decide) | refine PV.F ?_ ?_ | refine twR.up ?_ (by decide) | refine PV.r ?_)))) (hL.fr (yo _ 539 (by omega) (by omega)) (yo _ 551 (by omega) (by omega)) (yo _ 552 (by omega) (by omega)) (yo _ 553 (by omega) (by omega)) (yo _ 554 (by omega) (by omega))) (by rw [yo _ 540 (by omega) (by omega)]; exact hv) (by rw [yo _ 558 (by omega) (by omega)]; exact hw) (by omega) (by omega) ?_ ?_
      · rw [upA_eq]
        intro i i0 i1
        by_cases e : i = k
        · rw [e, up1_eq]
        · rw [up1_ne e, u9]; exact he i i0 (by omega)
      · intro w w1 w2
        exact hQ w w1 (fun a a1 a2 => (w2 a a1 a2).trans (yo _ a a1 a2))
    refine jW_step ?_
    simp (disch := (first | decide | omega)) only [bX2_game, jxs, hps, jtsw, jlsw, List.length_cons, List.length_nil, true_and, and_true, true_implies, false_implies, implies_true, not_true_eq_false, not_false_eq_true, false_and, and_false, if_true, if_false, or_true, true_or, or_false, false_or, Classical.not_not, and_self, Int.reduceAdd, Int.reduceMul, Int.reduceSub, Int.reduceNeg, Int.reduceLT, Int.reduceLE, Int.reduceEq, Int.reduceNe, Int.reduceToNat, Nat.reduceAdd, Nat.reduceMul, Nat.reduceSub, Nat.reduceLeDiff, Nat.reduceLT, Nat.reduceEqDiff, reduceIte, Nat.zero_le, Nat.le_refl, Nat.add_zero, Nat.zero_add, twT hT, twV hV, h35, hv]
    (repeat (refine And.intro (by (first | omega | assumption | trivial | (simp only [inI]; omega) | (simp only [inL]; omega) | (refine jb_01) | (exact jb_in))) ?_))
    (first | refine ⟨fun h9 => (by exfalso; omega), fun _ => ?_⟩ | intro _)
    (repeat (refine And.intro (by (first | omega | assumption | trivial | (simp only [inI]; omega) | (simp only [inL]; omega) | (refine jb_01) | (exact jb_in))) ?_))
    refine ⟨fun h => ?_, fun h => ?_⟩
    · exact k7 0 (by rw [if_neg h])
    · exact k7 1 (by rw [if_pos (by omega)])
theorem tw_gm_8 {l1 l2 l3 l4 l5 mv m : Int} {el c : Int → Int} {wn : Int → Int} (hT : PT T) (hm : 0 ≤ m ∧ m ≤ 6) : ∀ (r : Nat) (k : Int) (v : Int → Int → Int), PV v → v 539 35 = fac m → EQm (fac m) (v 559) wn → 0 ≤ k → k + r = fac m → EQm k (v 558) wn →
    (∀ w, EQm (fac m) (w 558) wn → (∀ a, a ≠ 558 → w a = v a) → jW bX2_game (g, d + 9, 0, 0, Q) 8 [some (vR 539), some (vI l1), some (vI l2), some (vI l3), some (vI l4), some (vI l5), some (vI mv), some (vI (fac m)), none] [] (w, T) 0 0) →
    jW bX2_game (g, d + 9, 0, 0, Q) 8 [some (vR 539), some (vI l1), some (vI l2), some (vI l3), some (vI l4), some (vI l5), some (vI mv), some (vI k), none] [] (v, T) 0 0 := by
  have hf := fac_bd hm.2
  intro r
  induction r with
  | zero =>
    intro k v hV h35 hw hk hr he hQ
    have := hQ v (by rwa [show fac m = k by omega]) (fun _ _ => rfl)
    rwa [show fac m = k by omega] at this
  | succ r ih =>
    intro k v hV h35 hw hk hr he hQ
    refine jW_step ?_
    simp (disch := (first | decide | omega)) only [bX2_game, jxs, hps, jtsw, jlsw, List.length_cons, List.length_nil, true_and, and_true, true_implies, false_implies, implies_true, not_true_eq_false, not_false_eq_true, false_and, and_false, if_true, if_false, or_true, true_or, or_false, false_or, Classical.not_not, and_self, Int.reduceAdd, Int.reduceMul, Int.reduceSub, Int.reduceNeg, Int.reduceLT, Int.reduceLE, Int.reduceEq, Int.reduceNe, Int.reduceToNat, Nat.reduceAdd, Nat.reduceMul, Nat.reduceSub, Nat.reduceLeDiff, Nat.reduceLT, Nat.reduceEqDiff, reduceIte, Nat.zero_le, Nat.le_refl, Nat.add_zero, Nat.zero_add, twT hT, twV hV, h35]
    (repeat (refine And.intro (by (first | omega | assumption | trivial | (simp only [inI]; omega) | (simp only [inL]; omega) | (refine jb_01) | (exact jb_in))) ?_))
    (first | refine ⟨fun h9 => (by exfalso; omega), fun _ => ?_⟩ | intro _)
    (repeat (refine And.intro (by (first | omega | assumption | trivial | (simp only [inI]; omega) | (simp only [inL]; omega) | (refine jb_01) | (exact jb_in))) ?_))
    refine ih (k + 1) (upA v 558 (up1 (v 558) k (v 559 k))) (by (first | assumption | (repeat (first | assumption | refine PV.A ?_ (by decide) | refine PV.F ?_ ?_ | refine twR.up ?_ (by decide) | refine PV.r ?_)))) (by rw [upA_ne (by omega)]; exact h35) (by rw [upA_ne (by omega)]; exact hw) (by omega) (by omega) ?_ ?_
    · rw [upA_eq]
      intro i i0 i1
      by_cases e : i = k
      · rw [e, up1_eq]; exact hw k hk (by omega)
      · rw [up1_ne e]; exact he i i0 (by omega)
    · intro w w1 w2
      exact hQ w w1 (fun a ha => (w2 a ha).trans (upA_ne ha))
theorem tw_gm_9 {l1 l2 l3 l4 st kind best m : Int} {el c wo : Int → Int} (hT : PT T) (hm : 0 ≤ m ∧ m ≤ 6) (hst : 0 ≤ st ∧ st < fac m) (hk : 0 ≤ kind ∧ kind ≤ 1) : ∀ (r : Nat) (mv : Int) (v : Int → Int → Int), PV v → LAID v m el c → EQm (fac m) (v 558) wo → -1 ≤ mv → mv + r = m → (∃ q, (mv ≤ q ∧ q + 1 < m) ∧ wo (mvA (ldJ c m) m st q kind) = best) →
    (∀ u, (∀ a, a ≠ 555 → u a = v a) → Q (.inl (some (vI (mvF (ldJ c m) wo m st kind best r mv)))) (u, T)) →
    jW bX2_game (g, d + 9, 0, 0, Q) 9 [some (vR 539), some (vI l1), some (vI l2), some (vI l3), some (vI l4), some (vI st), some (vI kind), some (vI best), some (vI mv)] [] (v, T) 0 0 := by
  have hf := fac_bd hm.2
  have LDj := ldJ_LD (c := c) hm
  intro r
  induction r with
  | zero =>
    intro mv v hV hL hw h1 hr hx hQ
    obtain ⟨q, q1, _⟩ := hx
    omega
  | succ r ih =>
    intro mv v hV hL hw h1 hr hx hQ
    unfold mvF at hQ
    obtain ⟨q, q1, q2⟩ := hx
    have hv : mv = -1 ∨ (0 ≤ mv ∧ mv + 1 < m) := by omega
    have mb := mvA_bd hm LDj hst hv hk
    refine jW_step ?_
    simp (disch := (first | decide | omega)) only [bX2_game, jxs, hps, jtsw, jlsw, List.length_cons, List.length_nil, true_and, and_true, true_implies, false_implies, implies_true, not_true_eq_false, not_false_eq_true, false_and, and_false, if_true, if_false, or_true, true_or, or_false, false_or, Classical.not_not, and_self, Int.reduceAdd, Int.reduceMul, Int.reduceSub, Int.reduceNeg, Int.reduceLT, Int.reduceLE, Int.reduceEq, Int.reduceNe, Int.reduceToNat, Nat.reduceAdd, Nat.reduceMul, Nat.reduceSub, Nat.reduceLeDiff, Nat.reduceLT, Nat.reduceEqDiff, reduceIte, Nat.zero_le, Nat.le_refl, Nat.add_zero, Nat.zero_add, twT hT, twV hV]
    refine ⟨0, 0, ⟨by omega, by omega⟩, tw_moved hT hV ⟨hL, hm, hst, hv, hk⟩ ?_⟩
    intro u hu
    have hVu : PV u := hV.fr (fun a ha => hu a (fun e => by subst e; revert ha; decide))
    have e1 : u 558 (mvA (ldJ c m) m st mv kind) = wo (mvA (ldJ c m) m st mv kind) := by rw [hu 558 (by omega)]; exact hw _ mb.1 mb.2
    have hne : ¬ wo (mvA (ldJ c m) m st mv kind) = best → ∃ q, (mv + 1 ≤ q ∧ q + 1 < m) ∧ wo (mvA (ldJ c m) m st q kind) = best := by
      intro hn
      refine ⟨q, ⟨?_, q1.2⟩, q2⟩
      by_cases e : q = mv
      · rw [e] at q2; exact absurd q2 hn
      · omega
    generalize mvA (ldJ c m) m st mv kind = t at *
    have hV := hVu
    simp (disch := (first | decide | omega)) only [jxs, hps, jtsw, jlsw, List.length_cons, List.length_nil, true_and, and_true, true_implies, false_implies, implies_true, not_true_eq_false, not_false_eq_true, false_and, and_false, if_true, if_false, or_true, true_or, or_false, false_or, Classical.not_not, and_self, Int.reduceAdd, Int.reduceMul, Int.reduceSub, Int.reduceNeg, Int.reduceLT, Int.reduceLE, Int.reduceEq, Int.reduceNe, Int.reduceToNat, Nat.reduceAdd, Nat.reduceMul, Nat.reduceSub, Nat.reduceLeDiff, Nat.reduceLT, Nat.reduceEqDiff, reduceIte, Nat.zero_le, Nat.le_refl, Nat.add_zero, Nat.zero_add, twT hT, twV hV]
    (repeat (refine And.intro (by (first | omega | assumption | trivial | (simp only [inI]; omega) | (simp only [inL]; omega) | (refine jb_01) | (exact jb_in))) ?_))
    rw [e1]
    refine ⟨fun h => ?_, fun h => ?_⟩
    · rw [if_pos h] at hQ
      (repeat (refine And.intro (by (first | omega | assumption | trivial | (simp only [inI]; omega) | (simp only [inL]; omega) | (refine jb_01) | (exact jb_in))) ?_))
      exact hQ u hu
    · rw [if_neg h] at hQ
      (repeat (refine And.intro (by (first | omega | assumption | trivial | (simp only [inI]; omega) | (simp only [inL]; omega) | (refine jb_01) | (exact jb_in))) ?_))
      refine ih (mv + 1) u hVu (hL.fr (hu 539 (by omega)) (hu 551 (by omega)) (hu 552 (by omega)) (hu 553 (by omega)) (hu 554 (by omega))) (by rw [hu 558 (by omega)]; exact hw) (by omega) (by omega) (hne h) ?_
      intro y hy
      exact hQ y (fun a ha => (hy a ha).trans (hu a ha))
end TG
