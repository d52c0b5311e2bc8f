/-! ===== the reference: catalogue ===== -/
set_option maxRecDepth 100000
def ctF (f : Int → Int) (b : Int) : Nat → Int → (Int → Int) → (Int → Int)
  | 0, _, th => th
  | n + 1, p, th => ctF f b n (p + 1) (up1 th p (th p + (if f p = b then 1 else 0)))
def ctL (ch : Int → Int) (m ni b : Int) : Nat → Int → (Int → Int) → (Int → Int) → (Int → Int)
  | 0, _, _, th => th
  | n + 1, k, f, th => ctL ch m ni b n (k + 1) (nitR ch m ((ni + k) % 2) f) (ctF f b m.toNat 0 th)
def amF (th : Int → Int) : Nat → Int → Int → Int
  | 0, _, x => x
  | n + 1, p, x => amF th n (p + 1) (if th x < th p then p else x)
def amA (th : Int → Int) (m : Int) : Int := amF th (m - 1).toNat 1 0
def lkF (m : Int) : Nat → (Int → Int) → Int → Int
  | 0, th, x => if 0 < th x then x else -1
  | n + 1, th, x => lkF m n (up1 th x 0) (amA (up1 th x 0) m)
def lkA (th : Int → Int) (m i : Int) : Int := lkF m i.toNat th (amA th m)
def ctA (A X : Int → Int) (b s n : Int) : Int → Int := ctL (tbl A X) (lrZ A s (-1)).2 (A 1) b (n + 1).toNat 0 (lrZ A s (-1)).1 (fun _ => 0)
def catR (A X : Int → Int) (b s n i lk : Int) : Int := if lk = 0 then ctA A X b s n i else lkA (ctA A X b s n) (lrZ A s (-1)).2 i
def catA (A X : Int → Int) (b n i lk : Int) : Int := if (0 ≤ b ∧ b ≤ A 0 - 1) ∧ A (46 + 6 * b + 5) < 3 then (if 0 ≤ n ∧ n ≤ 99 then (if 0 ≤ i ∧ i ≤ A (13 + A (46 + 6 * b + 5)) - 1 then catR A X b (A (46 + 6 * b + 5)) n i lk else -1) else -1) else -1
/-- 545 to 549, 560 and the row's length differ -/
def jky (v w : Int → Int → Int) : Prop := (∃ m, w 539 = up1 (v 539) 28 m) ∧ ∀ a, a ≠ 539 → (a < 545 ∨ 549 < a) → a ≠ 560 → w a = v a
theorem jky.pv {v w : Int → Int → Int} (h : jky v w) (hV : PV v) : PV w := by
  obtain ⟨⟨m, h1⟩, h2⟩ := h
  intro q hq
  by_cases e : q.1 = 539
  · rw [e, h1]
    exact (PV.r hV).up (by decide) q hq e
  · have key : ∀ a ∈ pvA, a = 539 ∨ ((a < 545 ∨ 549 < a) ∧ a ≠ 560) := by decide
    have := (key _ (pvL_A q hq)).resolve_left e
    rw [h2 q.1 e this.1 this.2]
    exact hV q hq
theorem jky.a {v w : Int → Int → Int} (h : jky v w) : w 540 = v 540 := h.2 540 (by omega) (by omega) (by omega)
theorem jky.x {v w : Int → Int → Int} (h : jky v w) : w 542 = v 542 := h.2 542 (by omega) (by omega) (by omega)
theorem jky.te {v w : Int → Int → Int} (h : jky v w) (hE : TE v) : TE w := by
  unfold TE
  rw [h.a, h.x]
  exact hE
theorem jky.rf {v : Int → Int → Int} : jky v v := ⟨⟨v 539 28, up1_id.symm⟩, fun _ _ _ _ => rfl⟩
theorem jky.tr {u v w : Int → Int → Int} (h : jky u v) (h2 : jky v w) : jky u w := by
  obtain ⟨⟨m, h3⟩, h4⟩ := h
  obtain ⟨⟨m2, h5⟩, h6⟩ := h2
  exact ⟨⟨m2, by rw [h5, h3, up1_same]⟩, fun a a1 a2 a3 => (h6 a a1 a2 a3).trans (h4 a a1 a2 a3)⟩
theorem jky.up {v : Int → Int → Int} {a : Int} {f : Int → Int} (h : (545 ≤ a ∧ a ≤ 549) ∨ a = 560) : jky v (upA v a f) := by
  refine ⟨⟨v 539 28, ?_⟩, fun b b1 b2 b3 => ?_⟩
  · rw [upA_ne (by omega), up1_id]
  · rw [upA_ne (by omega)]
theorem ctF_bd {f : Int → Int} {b k : Int} : ∀ (n : Nat) (p : Int) (th : Int → Int), 0 ≤ p → p + n ≤ 10 → (∀ i, 0 ≤ i → i < 10 → 0 ≤ th i ∧ th i ≤ k + 1 ∧ (p ≤ i → th i ≤ k)) → ∀ i, 0 ≤ i → i < 10 → 0 ≤ ctF f b n p th i ∧ ctF f b n p th i ≤ k + 1
  | 0, p, th, _, _, h => fun i h0 h1 => ⟨(h i h0 h1).1, (h i h0 h1).2.1⟩
  | n + 1, p, th, hp, hn, h => by
    unfold ctF
    refine ctF_bd n (p + 1) _ (by omega) (by omega) ?_
    intro i h0 h1
    have a := h i h0 h1
    by_cases e : i = p
    · subst e
      rw [up1_eq]
      have := a.2.2 (Int.le_refl _)
      by_cases h5 : f i = b
      · rw [if_pos h5]; omega
      · rw [if_neg h5]; omega
    · rw [up1_ne e]
      exact ⟨a.1, a.2.1, fun h5 => a.2.2 (by omega)⟩
theorem amF_bd {th : Int → Int} : ∀ (n : Nat) (p x : Int), 1 ≤ p → p + n ≤ 10 → (0 ≤ x ∧ x < 10) → 0 ≤ amF th n p x ∧ amF th n p x < 10
  | 0, _, _, _, _, h => h
  | n + 1, p, x, hp, hn, h => by
    unfold amF
    exact amF_bd n (p + 1) _ (by omega) (by omega) (by split <;> omega)
section TG
variable {g : jjG} {d : Nat} {T : jjT} {Q : jjQ}
theorem tw_cat_2 {l1 l2 l3 l4 l5 : Int} (hT : PT T) : ∀ (n : Nat) (k : Int) (v : Int → Int → Int), PV v → 0 ≤ k → k + n = 10 →
    (jW bX2_catalogue (g, d + 8, 0, 0, Q) 3 [some (vR 539), some (vI l1), some (vI l2), some (vI l3), some (vI l4), some (vI l5), some (vI 0), none, none] [] (upA v 560 (fun i => if k ≤ i ∧ i < 10 then 0 else v 560 i), T) 0 0) →
    jW bX2_catalogue (g, d + 8, 0, 0, Q) 2 [some (vR 539), some (vI l1), some (vI l2), some (vI l3), some (vI l4), some (vI l5), some (vI k), none, none] [] (v, T) 0 0 := by
  intro n
  induction n with
  | zero =>
    intro k v hV hk hn hQ
    have e : upA v 560 (fun i => if k ≤ i ∧ i < 10 then 0 else v 560 i) = v := by
      have : (fun i => if k ≤ i ∧ i < 10 then 0 else v 560 i) = v 560 := by
        funext i; rw [if_neg (by omega)]
      rw [this, upA_id]
    rw [e] at hQ
    refine jW_step ?_
    simp (disch := (first | decide | omega)) only [bX2_catalogue, jxs, hps, jtsw, jlsw, List.length_cons, List.length_nil, true_and, and_true, true_implies, false_implies, implies_true, not_true_eq_false, not_false_eq_true, false_and, and_false, if_true, if_false, or_true, true_or, or_false, false_or, Classical.not_not, and_self, Int.reduceAdd, Int.reduceMul, Int.reduceSub, Int.reduceNeg, Int.reduceLT, Int.reduceLE, Int.reduceEq, Int.reduceNe, Int.reduceToNat, Nat.reduceAdd, Nat.reduceMul, Nat.reduceSub, Nat.reduceLeDiff, Nat.reduceLT, Nat.reduceEqDiff, reduceIte, Nat.zero_le, Nat.le_refl, Nat.add_zero, Nat.zero_add, twT hT, twV hV]
    (try refine ⟨fun _ => ?_, fun h9 => (by exfalso; omega)⟩)
    exact hQ
  | succ n ih =>
    intro k v hV hk hn hQ
    refine jW_step ?_
    simp (disch := (first | decide | omega)) only [bX2_catalogue, jxs, hps, jtsw, jlsw, List.length_cons, List.length_nil, true_and, and_true, true_implies, false_implies, implies_true, not_true_eq_false, not_false_eq_true, false_and, and_false, if_true, if_false, or_true, true_or, or_false, false_or, Classical.not_not, and_self, Int.reduceAdd, Int.reduceMul, Int.reduceSub, Int.reduceNeg, Int.reduceLT, Int.reduceLE, Int.reduceEq, Int.reduceNe, Int.reduceToNat, Nat.reduceAdd, Nat.reduceMul, Nat.reduceSub, Nat.reduceLeDiff, Nat.reduceLT, Nat.reduceEqDiff, reduceIte, Nat.zero_le, Nat.le_refl, Nat.add_zero, Nat.zero_add, twT hT, twV hV]
    (first | refine ⟨fun h9 => (by exfalso; omega), fun _ => ?_⟩ | intro _)
    (repeat (refine And.intro (by (first | omega | assumption | trivial | (simp only [inI]; omega) | (simp only [inL]; omega) | (refine jb_01) | (exact jb_in))) ?_))
    refine ih (k + 1) _ (by (first | assumption | (repeat (first | assumption | refine PV.A ?_ (by decide) | refine PV.F ?_ ?_ | refine twR.up ?_ (by decide) | refine PV.r ?_)))) (by omega) (by omega) ?_
    rw [upA_same, upA_eq]
    have e : (fun i => if k + 1 ≤ i ∧ i < 10 then 0 else up1 (v 560) k 0 i) = (fun i => if k ≤ i ∧ i < 10 then 0 else v 560 i) := by
      funext i
      by_cases h1 : i = k
      · subst h1; rw [if_neg (by omega), up1_eq, if_pos (by omega)]
      · rw [up1_ne h1]
        by_cases h2 : k ≤ i ∧ i < 10
        · rw [if_pos h2, if_pos (by omega)]
        · rw [if_neg h2, if_neg (by omega)]
    rw [e]
    exact hQ
theorem tw_cat_4 {l1 l2 l3 l4 l5 k m : Int} (hT : PT T) (hk : 0 ≤ k ∧ k ≤ 100) (hm : m ≤ 10) : ∀ (n : Nat) (p : Int) (v : Int → Int → Int), PV v → v 539 28 = m → 0 ≤ p → m = p + n → (∀ i, 0 ≤ i → i < 10 → 0 ≤ v 560 i ∧ v 560 i ≤ k + 1) →
    (jW bX2_catalogue (g, d + 8, 0, 0, Q) 4 [some (vR 539), some (vI l1), some (vI l2), some (vI l3), some (vI l4), some (vI l5), some (vI k), some (vI m), none] [] (upA v 560 (ctF (v 549) l1 n p (v 560)), T) 0 0) →
    (∀ i, p ≤ i → i < 10 → v 560 i ≤ k) →
    jW bX2_catalogue (g, d + 8, 0, 0, Q) 4 [some (vR 539), some (vI l1), some (vI l2), some (vI l3), some (vI l4), some (vI l5), some (vI k), some (vI p), none] [] (v, T) 0 0 := by
  intro n
  induction n with
  | zero =>
    intro p v hV hv hp hn hb hQ hb2
    unfold ctF at hQ
    rw [upA_id, show m = p by omega] at hQ
    exact hQ
  | succ n ih =>
    intro p v hV hv hp hn hb hQ hb2
    unfold ctF at hQ
    have b1 := hb p hp (by omega)
    have b2 := hb2 p (by omega) (by omega)
    have k5 : ∀ z, z = (if v 549 p = l1 then (1 : Int) else 0) → jW bX2_catalogue (g, d + 8, 0, 0, Q) 5 [some (vR 539), some (vI l1), some (vI l2), some (vI l3), some (vI l4), some (vI l5), some (vI k), some (vI p), none] [vI z, vI (v 560 p), vI p, vR 560] (v, T) 0 0 := by
      intro z hz
      have z1 : 0 ≤ z ∧ z ≤ 1 := by rw [hz]; split <;> omega
      rw [← hz] at hQ
      refine jW_step ?_
      simp (disch := (first | decide | omega)) only [bX2_catalogue, jxs, hps, jtsw, jlsw, List.length_cons, List.length_nil, true_and, and_true, true_implies, false_implies, implies_true, not_true_eq_false, not_false_eq_true, false_and, and_false, if_true, if_false, or_true, true_or, or_false, false_or, Classical.not_not, and_self, Int.reduceAdd, Int.reduceMul, Int.reduceSub, Int.reduceNeg, Int.reduceLT, Int.reduceLE, Int.reduceEq, Int.reduceNe, Int.reduceToNat, Nat.reduceAdd, Nat.reduceMul, Nat.reduceSub, Nat.reduceLeDiff, Nat.reduceLT, Nat.reduceEqDiff, reduceIte, Nat.zero_le, Nat.le_refl, Nat.add_zero, Nat.zero_add, twT hT, twV hV]
      (repeat (refine And.intro (by (first | omega | assumption | trivial | (simp only [inI]; omega) | (simp only [inL]; omega) | (refine jb_01) | (exact jb_in))) ?_))
      refine ih (p + 1) _ (by (first | assumption | (repeat (first | assumption | refine PV.A ?_ (by decide) | refine PV.F ?_ ?_ | refine twR.up ?_ (by decide) | refine PV.r ?_)))) (by rw [upA_ne (by omega)]; exact hv) (by omega) (by omega) ?_ ?_ ?_
      · intro i i0 i1
        rw [upA_eq]
        by_cases e : i = p
        · subst e; rw [up1_eq]; omega
        · rw [up1_ne e]; exact hb i i0 i1
      · rw [upA_same, upA_eq, upA_ne (by omega)]
        exact hQ
      · intro i i0 i1
        rw [upA_eq, up1_ne (by omega)]
        exact hb2 i (by omega) i1
    refine jW_step ?_
    simp (disch := (first | decide | omega)) only [bX2_catalogue, jxs, hps, jtsw, jlsw, List.length_cons, List.length_nil, true_and, and_true, true_implies, false_implies, implies_true, not_true_eq_false, not_false_eq_true, false_and, and_false, if_true, if_false, or_true, true_or, or_false, false_or, Classical.not_not, and_self, Int.reduceAdd, Int.reduceMul, Int.reduceSub, Int.reduceNeg, Int.reduceLT, Int.reduceLE, Int.reduceEq, Int.reduceNe, Int.reduceToNat, Nat.reduceAdd, Nat.reduceMul, Nat.reduceSub, Nat.reduceLeDiff, Nat.reduceLT, Nat.reduceEqDiff, reduceIte, Nat.zero_le, Nat.le_refl, Nat.add_zero, Nat.zero_add, twT hT, twV hV, hv]
    (repeat (refine And.intro (by (first | omega | assumption | trivial | (simp only [inI]; omega) | (simp only [inL]; omega) | (refine jb_01) | (exact jb_in))) ?_))
    (first | refine ⟨fun h9 => (by exfalso; omega), fun _ => ?_⟩ | intro _)
    (repeat (refine And.intro (by (first | omega | assumption | trivial | (simp only [inI]; omega) | (simp only [inL]; omega) | (refine jb_01) | (exact jb_in))) ?_))
    refine ⟨fun h => ?_, fun h => ?_⟩
    · exact k5 0 (by rw [if_neg (by omega)])
    · exact k5 1 (by rw [if_pos (by omega)])
theorem tw_cat_3 {l1 l2 l3 l4 l5 m : Int} (hT : PT T) (h2 : 0 ≤ l2 ∧ l2 ≤ 99) : ∀ (n : Nat) (k : Int) (v : Int → Int → Int), PV v → v 539 28 = m → RO (v 549) m → 0 ≤ k → k + n = l2 + 1 → (0 ≤ v 540 1 ∧ v 540 1 < 100000) → (∀ i, 0 ≤ i → i < 10 → 0 ≤ v 560 i ∧ v 560 i ≤ k) →
    (∀ w, jky v w → w 539 28 = m → w 560 = ctL (v 548) m (v 540 1) l1 n k (v 549) (v 560) → jW bX2_catalogue (g, d + 8, 0, 0, Q) 3 [some (vR 539), some (vI l1), some (vI l2), some (vI l3), some (vI l4), some (vI l5), some (vI (l2 + 1)), none, none] [] (w, T) 0 0) →
    jW bX2_catalogue (g, d + 8, 0, 0, Q) 3 [some (vR 539), some (vI l1), some (vI l2), some (vI l3), some (vI l4), some (vI l5), some (vI k), none, none] [] (v, T) 0 0 := by
  intro n
  induction n with
  | zero =>
    intro k v hV hv hR hk hn h1 hb hQ
    have := hQ v jky.rf hv rfl
    rwa [show l2 + 1 = k by omega] at this
  | succ n ih =>
    intro k v hV hv hR hk hn h1 hb hQ
    unfold ctL at hQ
    have hm := hR.1
    refine jW_step ?_
    simp (disch := (first | decide | omega)) only [bX2_catalogue, jxs, hps, jtsw, jlsw, List.length_cons, List.length_nil, true_and, and_true, true_implies, false_implies, implies_true, not_true_eq_false, not_false_eq_true, false_and, and_false, if_true, if_false, or_true, true_or, or_false, false_or, Classical.not_not, and_self, Int.reduceAdd, Int.reduceMul, Int.reduceSub, Int.reduceNeg, Int.reduceLT, Int.reduceLE, Int.reduceEq, Int.reduceNe, Int.reduceToNat, Nat.reduceAdd, Nat.reduceMul, Nat.reduceSub, Nat.reduceLeDiff, Nat.reduceLT, Nat.reduceEqDiff, reduceIte, Nat.zero_le, Nat.le_refl, Nat.add_zero, Nat.zero_add, twT hT, twV hV]
    (first | refine ⟨fun h9 => (by exfalso; omega), fun _ => ?_⟩ | intro _)
    refine tw_cat_4 hT (k := k) (m := m) (by omega) (by omega) m.toNat 0 v hV hv (by omega) (by omega) (fun i i0 i1 => ⟨(hb i i0 i1).1, by have := (hb i i0 i1).2; omega⟩) ?_ (fun i i0 i1 => (hb i i0 i1).2)
    have bd := ctF_bd (f := v 549) (b := l1) (k := k) m.toNat 0 (v 560) (by omega) (by omega) (fun i i0 i1 => ⟨(hb i i0 i1).1, by have := (hb i i0 i1).2; omega, fun _ => (hb i i0 i1).2⟩)
    generalize ctF (v 549) l1 m.toNat 0 (v 560) = t1 at *
    have hVu : PV (upA v 560 t1) := by (first | assumption | (repeat (first | assumption | refine PV.A ?_ (by decide) | refine PV.F ?_ ?_ | refine twR.up ?_ (by decide) | refine PV.r ?_)))
    have j1 : jky v (upA v 560 t1) := jky.up (by omega)
    have u9 : (upA v 560 t1) 549 = v 549 := upA_ne (by omega)
    have u8 : (upA v 560 t1) 548 = v 548 := upA_ne (by omega)
    have u39 : (upA v 560 t1) 539 = v 539 := upA_ne (by omega)
    have u60 : (upA v 560 t1) 560 = t1 := upA_eq
    have u40 : (upA v 560 t1) 540 = v 540 := upA_ne (by omega)
    generalize upA v 560 t1 = u at *
    have hV := hVu
    have hu : u 539 28 = m := by rw [u39]; exact hv
    refine jW_step ?_
    simp (disch := (first | decide | omega)) only [bX2_catalogue, jxs, hps, jtsw, jlsw, List.length_cons, List.length_nil, true_and, and_true, true_implies, false_implies, implies_true, not_true_eq_false, not_false_eq_true, false_and, and_false, if_true, if_false, or_true, true_or, or_false, false_or, Classical.not_not, and_self, Int.reduceAdd, Int.reduceMul, Int.reduceSub, Int.reduceNeg, Int.reduceLT, Int.reduceLE, Int.reduceEq, Int.reduceNe, Int.reduceToNat, Nat.reduceAdd, Nat.reduceMul, Nat.reduceSub, Nat.reduceLeDiff, Nat.reduceLT, Nat.reduceEqDiff, reduceIte, Nat.zero_le, Nat.le_refl, Nat.add_zero, Nat.zero_add, twT hT, twV hV, hu]
    (repeat (refine And.intro (by (first | omega | assumption | trivial | (simp only [inI]; omega) | (simp only [inL]; omega) | (refine jb_01) | (exact jb_in))) ?_))
    (try refine ⟨fun _ => ?_, fun h9 => (by exfalso; omega)⟩)
    (repeat (refine And.intro (by (first | omega | assumption | trivial | (simp only [inI]; omega) | (simp only [inL]; omega) | (refine jb_01) | (exact jb_in))) ?_))
    rw [u40]
    (repeat (refine And.intro (by (first | omega | assumption | trivial | (simp only [inI]; omega) | (simp only [inL]; omega) | (refine jb_01) | (exact jb_in))) ?_))
    refine ⟨0, 0, ⟨by omega, by omega⟩, tw_nightOn hT hV ⟨by rw [u9, hu]; exact hR, by omega⟩ ?_⟩
    rw [u8, u9, hu]
    simp (disch := (first | decide | omega)) only [jxs, hps, jtsw, jlsw, List.length_cons, List.length_nil, true_and, and_true, true_implies, false_implies, implies_true, not_true_eq_false, not_false_eq_true, false_and, and_false, if_true, if_false, or_true, true_or, or_false, false_or, Classical.not_not, and_self, Int.reduceAdd, Int.reduceMul, Int.reduceSub, Int.reduceNeg, Int.reduceLT, Int.reduceLE, Int.reduceEq, Int.reduceNe, Int.reduceToNat, Nat.reduceAdd, Nat.reduceMul, Nat.reduceSub, Nat.reduceLeDiff, Nat.reduceLT, Nat.reduceEqDiff, reduceIte, Nat.zero_le, Nat.le_refl, Nat.add_zero, Nat.zero_add, twT hT, twV hV]
    (repeat (refine And.intro (by (first | omega | assumption | trivial | (simp only [inI]; omega) | (simp only [inL]; omega) | (refine jb_01) | (exact jb_in))) ?_))
    have j2 : jky u (upA u 549 (nitR (v 548) m ((v 540 1 + k) % 2) (v 549))) := jky.up (by omega)
    refine jW_sub (ls' := [some (vR 539), some (vI l1), some (vI l2), some (vI l3), some (vI l4), some (vI l5), some (vI (k + 1)), none, none]) (by simp [jsub]) ?_
    refine ih (k + 1) _ (by (first | assumption | (repeat (first | assumption | refine PV.A ?_ (by decide) | refine PV.F ?_ ?_ | refine twR.up ?_ (by decide) | refine PV.r ?_)))) (by rw [upA_ne (by omega)]; exact hu) (by rw [upA_eq]; exact nitR_RO (by omega) hR) (by omega) (by omega) (by rw [upA_ne (by omega), u40]; exact h1) (by rw [upA_ne (by omega), u60]; exact bd) ?_
    rw [upA_eq, upA_ne (by omega), upA_ne (by omega), upA_ne (by omega), u8, u40, u60]
    intro w hw
    exact hQ w ((j1.tr j2).tr hw)
theorem tw_cat_8 {l1 l2 l3 l4 l5 k m : Int} {v : Int → Int → Int} (hT : PT T) (hV : PV v) (hm : v 539 28 = m) (hm2 : 0 ≤ m ∧ m ≤ 10) (hk : 0 ≤ k ∧ k ≤ 100) : ∀ (n : Nat) (p x : Int), 1 ≤ p → (m = p + n ∨ (m ≤ p ∧ n = 0)) → p ≤ 10 → (0 ≤ x ∧ x < 10) →
    (jW bX2_catalogue (g, d + 8, 0, 0, Q) 6 [some (vR 539), some (vI l1), some (vI l2), some (vI l3), some (vI l4), some (vI l5), some (vI (amF (v 560) n p x)), some (vI (k + 1)), none] [] (v, T) 0 0) →
    jW bX2_catalogue (g, d + 8, 0, 0, Q) 8 [some (vR 539), some (vI l1), some (vI l2), some (vI l3), some (vI l4), some (vI l5), some (vI x), some (vI k), some (vI p)] [] (v, T) 0 0 := by
  intro n
  induction n with
  | zero =>
    intro p x hp hn hp2 hx hQ
    unfold amF at hQ
    refine jW_step ?_
    simp (disch := (first | decide | omega)) only [bX2_catalogue, jxs, hps, jtsw, jlsw, List.length_cons, List.length_nil, true_and, and_true, true_implies, false_implies, implies_true, not_true_eq_false, not_false_eq_true, false_and, and_false, if_true, if_false, or_true, true_or, or_false, false_or, Classical.not_not, and_self, Int.reduceAdd, Int.reduceMul, Int.reduceSub, Int.reduceNeg, Int.reduceLT, Int.reduceLE, Int.reduceEq, Int.reduceNe, Int.reduceToNat, Nat.reduceAdd, Nat.reduceMul, Nat.reduceSub, Nat.reduceLeDiff, Nat.reduceLT, Nat.reduceEqDiff, reduceIte, Nat.zero_le, Nat.le_refl, Nat.add_zero, Nat.zero_add, twT hT, twV hV, hm]
    (repeat (refine And.intro (by (first | omega | assumption | trivial | (simp only [inI]; omega) | (simp only [inL]; omega) | (refine jb_01) | (exact jb_in))) ?_))
    (try refine ⟨fun _ => ?_, fun h9 => (by exfalso; omega)⟩)
    (repeat (refine And.intro (by (first | omega | assumption | trivial | (simp only [inI]; omega) | (simp only [inL]; omega) | (refine jb_01) | (exact jb_in))) ?_))
    exact jW_sub (by simp [jsub]) hQ
  | succ n ih =>
    intro p x hp hn hp2 hx hQ
    unfold amF at hQ
    have k9 : ∀ y, y = (if v 560 x < v 560 p then p else x) → jW bX2_catalogue (g, d + 8, 0, 0, Q) 9 [some (vR 539), some (vI l1), some (vI l2), some (vI l3), some (vI l4), some (vI l5), some (vI y), some (vI k), some (vI p)] [] (v, T) 0 0 := by
      intro y hy
      have y1 : 0 ≤ y ∧ y < 10 := by rw [hy]; split <;> omega
      rw [← hy] at hQ
      refine jW_step ?_
      simp (disch := (first | decide | omega)) only [bX2_catalogue, jxs, hps, jtsw, jlsw, List.length_cons, List.length_nil, true_and, and_true, true_implies, false_implies, implies_true, not_true_eq_false, not_false_eq_true, false_and, and_false, if_true, if_false, or_true, true_or, or_false, false_or, Classical.not_not, and_self, Int.reduceAdd, Int.reduceMul, Int.reduceSub, Int.reduceNeg, Int.reduceLT, Int.reduceLE, Int.reduceEq, Int.reduceNe, Int.reduceToNat, Nat.reduceAdd, Nat.reduceMul, Nat.reduceSub, Nat.reduceLeDiff, Nat.reduceLT, Nat.reduceEqDiff, reduceIte, Nat.zero_le, Nat.le_refl, Nat.add_zero, Nat.zero_add, twT hT, twV hV]
      (repeat (refine And.intro (by (first | omega | assumption | trivial | (simp only [inI]; omega) | (simp only [inL]; omega) | (refine jb_01) | (exact jb_in))) ?_))
      exact ih (p + 1) y (by omega) (by omega) (by omega) y1 hQ
    refine jW_step ?_
    simp (disch := (first | decide | omega)) only [bX2_catalogue, jxs, hps, jtsw, jlsw, List.length_cons, List.length_nil, true_and, and_true, true_implies, false_implies, implies_true, not_true_eq_false, not_false_eq_true, false_and, and_false, if_true, if_false, or_true, true_or, or_false, false_or, Classical.not_not, and_self, Int.reduceAdd, Int.reduceMul, Int.reduceSub, Int.reduceNeg, Int.reduceLT, Int.reduceLE, Int.reduceEq, Int.reduceNe, Int.reduceToNat, Nat.reduceAdd, Nat.reduceMul, Nat.reduceSub, Nat.reduceLeDiff, Nat.reduceLT, Nat.reduceEqDiff, reduceIte, Nat.zero_le, Nat.le_refl, Nat.add_zero, Nat.zero_add, twT hT, twV hV, hm]
    (repeat (refine And.intro (by (first | omega | assumption | trivial | (simp only [inI]; omega) | (simp only [inL]; omega) | (refine jb_01) | (exact jb_in))) ?_))
    (first | refine ⟨fun h9 => (by exfalso; omega), fun _ => ?_⟩ | intro _)
    (repeat (refine And.intro (by (first | omega | assumption | trivial | (simp only [inI]; omega) | (simp only [inL]; omega) | (refine jb_01) | (exact jb_in))) ?_))
    refine ⟨fun h => ?_, fun h => ?_⟩
    · exact k9 x (by rw [if_neg (by omega)])
    · exact k9 p (by rw [if_pos (by omega)])
theorem tw_cat_6 {l1 l2 l3 l4 l5 m : Int} (hT : PT T) (hm2 : 0 ≤ m ∧ m ≤ 10) (h3 : 0 ≤ l3 ∧ l3 < 10) : ∀ (n : Nat) (k x : Int) (v : Int → Int → Int), PV v → v 539 28 = m → 1 ≤ k → k + n = l3 + 1 → (0 ≤ x ∧ x < 10) →
    (∀ w, jky v w → Q (.inl (some (vI (lkF m n (v 560) x)))) (w, T)) →
    jW bX2_catalogue (g, d + 8, 0, 0, Q) 6 [some (vR 539), some (vI l1), some (vI l2), some (vI l3), some (vI l4), some (vI l5), some (vI x), some (vI k), none] [] (v, T) 0 0 := by
  intro n
  induction n with
  | zero =>
    intro k x v hV hm hk hn hx hQ
    unfold lkF at hQ
    refine jW_step ?_
    simp (disch := (first | decide | omega)) only [bX2_catalogue, jxs, hps, jtsw, jlsw, List.length_cons, List.length_nil, true_and, and_true, true_implies, false_implies, implies_true, not_true_eq_false, not_false_eq_true, false_and, and_false, if_true, if_false, or_true, true_or, or_false, false_or, Classical.not_not, and_self, Int.reduceAdd, Int.reduceMul, Int.reduceSub, Int.reduceNeg, Int.reduceLT, Int.reduceLE, Int.reduceEq, Int.reduceNe, Int.reduceToNat, Nat.reduceAdd, Nat.reduceMul, Nat.reduceSub, Nat.reduceLeDiff, Nat.reduceLT, Nat.reduceEqDiff, reduceIte, Nat.zero_le, Nat.le_refl, Nat.add_zero, Nat.zero_add, twT hT, twV hV]
    (try refine ⟨fun _ => ?_, fun h9 => (by exfalso; omega)⟩)
    (repeat (refine And.intro (by (first | omega | assumption | trivial | (simp only [inI]; omega) | (simp only [inL]; omega) | (refine jb_01) | (exact jb_in))) ?_))
    refine ⟨fun h => ?_, fun h => ?_⟩
    · rw [if_neg (by omega)] at hQ
      refine jW_step ?_
      simp (disch := (first | decide | omega)) only [bX2_catalogue, jxs, hps, jtsw, jlsw, List.length_cons, List.length_nil, true_and, and_true, true_implies, false_implies, implies_true, not_true_eq_false, not_false_eq_true, false_and, and_false, if_true, if_false, or_true, true_or, or_false, false_or, Classical.not_not, and_self, Int.reduceAdd, Int.reduceMul, Int.reduceSub, Int.reduceNeg, Int.reduceLT, Int.reduceLE, Int.reduceEq, Int.reduceNe, Int.reduceToNat, Nat.reduceAdd, Nat.reduceMul, Nat.reduceSub, Nat.reduceLeDiff, Nat.reduceLT, Nat.reduceEqDiff, reduceIte, Nat.zero_le, Nat.le_refl, Nat.add_zero, Nat.zero_add, twT hT, twV hV]
      (repeat (refine And.intro (by (first | omega | assumption | trivial | (simp only [inI]; omega) | (simp only [inL]; omega) | (refine jb_01) | (exact jb_in))) ?_))
      exact hQ v jky.rf
    · rw [if_pos (by omega)] at hQ
      refine jW_step ?_
      simp (disch := (first | decide | omega)) only [bX2_catalogue, jxs, hps, jtsw, jlsw, List.length_cons, List.length_nil, true_and, and_true, true_implies, false_implies, implies_true, not_true_eq_false, not_false_eq_true, false_and, and_false, if_true, if_false, or_true, true_or, or_false, false_or, Classical.not_not, and_self, Int.reduceAdd, Int.reduceMul, Int.reduceSub, Int.reduceNeg, Int.reduceLT, Int.reduceLE, Int.reduceEq, Int.reduceNe, Int.reduceToNat, Nat.reduceAdd, Nat.reduceMul, Nat.reduceSub, Nat.reduceLeDiff, Nat.reduceLT, Nat.reduceEqDiff, reduceIte, Nat.zero_le, Nat.le_refl, Nat.add_zero, Nat.zero_add, twT hT, twV hV]
      (repeat (refine And.intro (by (first | omega | assumption | trivial | (simp only [inI]; omega) | (simp only [inL]; omega) | (refine jb_01) | (exact jb_in))) ?_))
      exact hQ v jky.rf
  | succ n ih =>
    intro k x v hV hm hk hn hx hQ
    unfold lkF at hQ
    refine jW_step ?_
    simp (disch := (first | decide | omega)) only [bX2_catalogue, jxs, hps, jtsw, jlsw, List.length_cons, List.length_nil, true_and, and_true, true_implies, false_implies, implies_true, not_true_eq_false, not_false_eq_true, false_and, and_false, if_true, if_false, or_true, true_or, or_false, false_or, Classical.not_not, and_self, Int.reduceAdd, Int.reduceMul, Int.reduceSub, Int.reduceNeg, Int.reduceLT, Int.reduceLE, Int.reduceEq, Int.reduceNe, Int.reduceToNat, Nat.reduceAdd, Nat.reduceMul, Nat.reduceSub, Nat.reduceLeDiff, Nat.reduceLT, Nat.reduceEqDiff, reduceIte, Nat.zero_le, Nat.le_refl, Nat.add_zero, Nat.zero_add, twT hT, twV hV]
    (first | refine ⟨fun h9 => (by exfalso; omega), fun _ => ?_⟩ | intro _)
    (first | refine ⟨fun h9 => (by exfalso; omega), fun _ => ?_⟩ | intro _)
    (repeat (refine And.intro (by (first | omega | assumption | trivial | (simp only [inI]; omega) | (simp only [inL]; omega) | (refine jb_01) | (exact jb_in))) ?_))
    have hVu : PV (upA v 560 (up1 (v 560) x 0)) := by (first | assumption | (repeat (first | assumption | refine PV.A ?_ (by decide) | refine PV.F ?_ ?_ | refine twR.up ?_ (by decide) | refine PV.r ?_)))
    have j1 : jky v (upA v 560 (up1 (v 560) x 0)) := jky.up (by omega)
    have u39 : (upA v 560 (up1 (v 560) x 0)) 539 = v 539 := upA_ne (by omega)
    have u60 : (upA v 560 (up1 (v 560) x 0)) 560 = up1 (v 560) x 0 := upA_eq
    generalize upA v 560 (up1 (v 560) x 0) = u at *
    refine jW_step ?_
    simp (disch := (first | decide | omega)) only [bX2_catalogue, jxs, hps, jtsw, jlsw, List.length_cons, List.length_nil, true_and, and_true, true_implies, false_implies, implies_true, not_true_eq_false, not_false_eq_true, false_and, and_false, if_true, if_false, or_true, true_or, or_false, false_or, Classical.not_not, and_self, Int.reduceAdd, Int.reduceMul, Int.reduceSub, Int.reduceNeg, Int.reduceLT, Int.reduceLE, Int.reduceEq, Int.reduceNe, Int.reduceToNat, Nat.reduceAdd, Nat.reduceMul, Nat.reduceSub, Nat.reduceLeDiff, Nat.reduceLT, Nat.reduceEqDiff, reduceIte, Nat.zero_le, Nat.le_refl, Nat.add_zero, Nat.zero_add, twT hT, twV hV]
    have b := amF_bd (th := u 560) (m - 1).toNat 1 0 (by omega) (by omega) (by omega)
    refine tw_cat_8 hT hVu (by rw [u39]; exact hm) hm2 (by omega) (m - 1).toNat 1 0 (by omega) (by omega) (by omega) (by omega) ?_
    refine ih (k + 1) _ u hVu (by rw [u39]; exact hm) (by omega) (by omega) b ?_
    rw [u60]
    intro w hw
    exact hQ w (j1.tr hw)
end TG
