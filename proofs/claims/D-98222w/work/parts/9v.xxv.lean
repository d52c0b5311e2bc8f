/-! ===== plain law: the i-th place, the likeliest first ===== -/
-- MODE X
set_option maxRecDepth 100000
/-- how many places are ahead of one -/
def ahF (th : Int → Int) (k : Int) : Nat → Int → Int
  | 0, _ => 0
  | n + 1, p => (if th k < th p ∨ (th p = th k ∧ p < k) then 1 else 0) + ahF th k n (p + 1)
def ahA (th : Int → Int) (m k : Int) : Int := ahF th k m.toNat 0
def lksF (th : Int → Int) (m i : Int) : Nat → Int → Int
  | 0, _ => -1
  | n + 1, k => if ahA th m k = i then (if th k = 0 then -1 else k) else lksF th m i n (k + 1)
def lksA (th : Int → Int) (m i : Int) : Int := lksF th m i m.toNat 0
theorem ahF_bd {th : Int → Int} {k : Int} : ∀ (n : Nat) (p : Int), 0 ≤ ahF th k n p ∧ ahF th k n p ≤ n
  | 0, _ => by unfold ahF; omega
  | n + 1, p => by
    have := ahF_bd (th := th) (k := k) n (p + 1)
    unfold ahF
    split <;> omega
theorem ahF_cg {th th' : Int → Int} {k m : Int} (h : EQm m th th') (hk : 0 ≤ k ∧ k < m) : ∀ (n : Nat) (p : Int), 0 ≤ p → p + n ≤ m → ahF th k n p = ahF th' k n p
  | 0, _, _, _ => rfl
  | n + 1, p, hp, hn => by
    unfold ahF
    rw [h p hp (by omega), h k hk.1 hk.2, ahF_cg h hk n (p + 1) (by omega) (by omega)]
theorem lksF_cg {th th' : Int → Int} {m i : Int} (h : EQm m th th') : ∀ (n : Nat) (k : Int), 0 ≤ k → k + n ≤ m → lksF th m i n k = lksF th' m i n k
  | 0, _, _, _ => rfl
  | n + 1, k, hk, hn => by
    have e : ahA th m k = ahA th' m k := ahF_cg h ⟨hk, by omega⟩ m.toNat 0 (by omega) (by omega)
    unfold lksF
    rw [e, h k hk (by omega), lksF_cg h n (k + 1) (by omega) (by omega)]
/-- ahead -/
def AHD (th : Int → Int) (x k : Int) : Prop := th k < th x ∨ (th x = th k ∧ x < k)
theorem ahF_le {th : Int → Int} {x k : Int} (h : AHD th x k) : ∀ (n : Nat) (p : Int), ahF th x n p ≤ ahF th k n p
  | 0, _ => by unfold ahF; omega
  | n + 1, p => by
    have := ahF_le h n (p + 1)
    unfold AHD at h
    unfold ahF
    split <;> split <;> omega
theorem ahF_lt {th : Int → Int} {x k : Int} (h : AHD th x k) : ∀ (n : Nat) (p : Int), p ≤ x → x < p + n → ahF th x n p < ahF th k n p
  | 0, p, h0, h1 => by omega
  | n + 1, p, h0, h1 => by
    have q := ahF_le h n (p + 1)
    by_cases e : p = x
    · have h2 : th k < th p ∨ (th p = th k ∧ p < k) := by rw [e]; exact h
      unfold ahF
      rw [if_pos h2, if_neg (by rw [e]; omega)]
      omega
    · have := ahF_lt h n (p + 1) (by omega) (by omega)
      unfold AHD at h
      unfold ahF
      split <;> split <;> omega
theorem ahF_z {th : Int → Int} {x k : Int} (h : AHD th x k) (hk : 0 < th k) : ∀ (n : Nat) (p : Int), ahF th k n p = ahF (up1 th x 0) k n p + (if p ≤ x ∧ x < p + n then 1 else 0)
  | 0, p => by unfold ahF; rw [if_neg (by omega)]; rfl
  | n + 1, p => by
    have xk : ¬ k = x := by intro e; unfold AHD at h; rw [e] at h; omega
    have q := ahF_z h hk n (p + 1)
    unfold ahF
    rw [up1_ne xk]
    by_cases e : p = x
    · have h2 : th k < th p ∨ (th p = th k ∧ p < k) := by rw [e]; exact h
      rw [if_pos h2, q, if_neg (show ¬ (p + 1 ≤ x ∧ x < p + 1 + (n : Int)) by omega), if_pos (show p ≤ x ∧ x < p + ((n + 1 : Nat) : Int) by omega), e, up1_eq, if_neg (by omega)]
      omega
    · rw [up1_ne e, q]
      generalize (if th k < th p ∨ (th p = th k ∧ p < k) then (1 : Int) else 0) = z
      by_cases c : p + 1 ≤ x ∧ x < p + 1 + n
      · rw [if_pos c, if_pos (show p ≤ x ∧ x < p + ((n + 1 : Nat) : Int) by omega)]; omega
      · rw [if_neg c, if_neg (show ¬ (p ≤ x ∧ x < p + ((n + 1 : Nat) : Int)) by omega)]; omega
theorem ahF_0 {th : Int → Int} {x : Int} : ∀ (n : Nat) (p : Int), (∀ k, p ≤ k → k < p + n → k = x ∨ AHD th x k) → ahF th x n p = 0
  | 0, _, _ => rfl
  | n + 1, p, h => by
    have q := ahF_0 n (p + 1) (fun k k0 k1 => h k (by omega) (by omega))
    have a := h p (by omega) (by omega)
    unfold AHD at a
    unfold ahF
    rw [q, if_neg (by rcases a with a | a; · rw [a]; omega
                      · omega)]
    rfl
/-- the first of the greatest is ahead of all others -/
theorem amF_hd {th : Int → Int} : ∀ (n : Nat) (p x : Int), (∀ k, 0 ≤ k → k < p → k = x ∨ AHD th x k) → (0 ≤ x ∧ x < p) → (0 ≤ amF th n p x ∧ amF th n p x < p + n) ∧ ∀ k, 0 ≤ k → k < p + n → k = amF th n p x ∨ AHD th (amF th n p x) k
  | 0, p, x, h, hx => by
    unfold amF
    exact ⟨by omega, fun k k0 k1 => h k k0 (by omega)⟩
  | n + 1, p, x, h, hx => by
    unfold amF
    have key := amF_hd n (p + 1) (if th x < th p then p else x) (fun k k0 k1 => by
      by_cases c : th x < th p
      · rw [if_pos c]
        by_cases e : k = p
        · exact Or.inl e
        · refine Or.inr (Or.inl ?_)
          have a := h k k0 (by omega)
          unfold AHD at a
          rcases a with a | a
          · rw [a]; exact c
          · omega
      · rw [if_neg c]
        by_cases e : k = p
        · rw [e]
          refine Or.inr ?_
          unfold AHD
          omega
        · exact h k k0 (by omega)) (by split <;> omega)
    refine ⟨by have := key.1; omega, fun k k0 k1 => key.2 k k0 (by omega)⟩
def LKS (th : Int → Int) (m i r : Int) : Prop := (∃ k, (0 ≤ k ∧ k < m) ∧ 0 < th k ∧ ahA th m k = i ∧ r = k) ∨ (r = -1 ∧ ∀ k, 0 ≤ k → k < m → 0 < th k → ¬ ahA th m k = i)
theorem ahA_inj {th : Int → Int} {m x k : Int} (hx : 0 ≤ x ∧ x < m) (hk : 0 ≤ k ∧ k < m) (h : ahA th m x = ahA th m k) : x = k := by
  have cs : x = k ∨ AHD th x k ∨ AHD th k x := by unfold AHD; omega
  unfold ahA at h
  rcases cs with c | c | c
  · exact c
  · have := ahF_lt c m.toNat 0 hx.1 (by omega); omega
  · have := ahF_lt c m.toNat 0 hk.1 (by omega); omega
theorem LKS.uq {th : Int → Int} {m i r r' : Int} (h : LKS th m i r) (h' : LKS th m i r') : r = r' := by
  rcases h with ⟨k, k1, k2, k3, k4⟩ | ⟨k1, k2⟩
  · rcases h' with ⟨l, l1, l2, l3, l4⟩ | ⟨l1, l2⟩
    · rw [k4, l4]; exact ahA_inj k1 l1 (k3.trans l3.symm)
    · exact (l2 k k1.1 k1.2 k2 k3).elim
  · rcases h' with ⟨l, l1, l2, l3, l4⟩ | ⟨l1, l2⟩
    · exact (k2 l l1.1 l1.2 l2 l3).elim
    · rw [k1, l1]
theorem lksF_sp {th : Int → Int} {m i : Int} (h0 : ∀ k, 0 ≤ k → k < m → 0 ≤ th k) : ∀ (n : Nat) (k : Int), 0 ≤ k → k + n = m → (∀ j, 0 ≤ j → j < k → ¬ ahA th m j = i) → LKS th m i (lksF th m i n k)
  | 0, k, hk, hn, hj => Or.inr ⟨rfl, fun j j0 j1 _ => hj j j0 (by omega)⟩
  | n + 1, k, hk, hn, hj => by
    unfold lksF
    by_cases c : ahA th m k = i
    · rw [if_pos c]
      by_cases z : th k = 0
      · rw [if_pos z]
        refine Or.inr ⟨rfl, fun j j0 j1 j2 j3 => ?_⟩
        have := ahA_inj ⟨j0, j1⟩ ⟨hk, by omega⟩ (j3.trans c.symm)
        rw [this] at j2
        omega
      · rw [if_neg z]
        have := h0 k hk (by omega)
        exact Or.inl ⟨k, ⟨hk, by omega⟩, by omega, c, rfl⟩
    · rw [if_neg c]
      refine lksF_sp h0 n (k + 1) (by omega) (by omega) (fun j j0 j1 => ?_)
      by_cases e : j = k
      · rw [e]; exact c
      · exact hj j j0 (by omega)
theorem lkF_sp {m : Int} (hm : 1 ≤ m ∧ m ≤ 10) : ∀ (n : Nat) (th : Int → Int), (∀ k, 0 ≤ k → k < m → 0 ≤ th k) → LKS th m n (lkF m n th (amA th m))
  | 0, th, h0 => by
    have q := amF_hd (th := th) (m - 1).toNat 1 0 (fun k k0 k1 => Or.inl (by omega)) (by omega)
    have q2 : (0 ≤ amA th m ∧ amA th m < m) ∧ ∀ k, 0 ≤ k → k < m → k = amA th m ∨ AHD th (amA th m) k := by
      unfold amA
      refine ⟨by have := q.1; omega, fun k k0 k1 => q.2 k k0 (by omega)⟩
    generalize amA th m = x at *
    have e : ahA th m x = 0 := ahF_0 m.toNat 0 (fun k k0 k1 => q2.2 k k0 (by omega))
    unfold lkF
    by_cases c : 0 < th x
    · rw [if_pos c]
      exact Or.inl ⟨x, q2.1, c, e, rfl⟩
    · rw [if_neg c]
      refine Or.inr ⟨rfl, fun k k0 k1 k2 _ => ?_⟩
      have a := q2.2 k k0 k1
      unfold AHD at a
      rcases a with a | a
      · rw [a] at k2; omega
      · omega
  | n + 1, th, h0 => by
    have q := amF_hd (th := th) (m - 1).toNat 1 0 (fun k k0 k1 => Or.inl (by omega)) (by omega)
    have q2 : (0 ≤ amA th m ∧ amA th m < m) ∧ ∀ k, 0 ≤ k → k < m → k = amA th m ∨ AHD th (amA th m) k := by
      unfold amA
      refine ⟨by have := q.1; omega, fun k k0 k1 => q.2 k k0 (by omega)⟩
    unfold lkF
    generalize amA th m = x at *
    have e : ahA th m x = 0 := ahF_0 m.toNat 0 (fun k k0 k1 => q2.2 k k0 (by omega))
    have ih := lkF_sp hm n (up1 th x 0) (fun k k0 k1 => by
      by_cases c : k = x
      · rw [c, up1_eq]; omega
      · rw [up1_ne c]; exact h0 k k0 k1)
    have st : ∀ k, 0 ≤ k → k < m → ¬ k = x → 0 < th k → ahA th m k = ahA (up1 th x 0) m k + 1 := by
      intro k k0 k1 k2 k3
      have a := (q2.2 k k0 k1).resolve_left k2
      have z := ahF_z a k3 m.toNat 0
      rw [if_pos (by omega)] at z
      exact z
    rcases ih with ⟨k, k1, k2, k3, k4⟩ | ⟨k1, k2⟩
    · have kx : ¬ k = x := by intro c; rw [c, up1_eq] at k2; omega
      rw [up1_ne kx] at k2
      have s := st k k1.1 k1.2 kx k2
      exact Or.inl ⟨k, k1, k2, by omega, k4⟩
    · refine Or.inr ⟨k1, fun k k0 k1 k3 k4 => ?_⟩
      by_cases c : k = x
      · rw [c, e] at k4; omega
      · have s := st k k0 k1 c k3
        exact k2 k k0 k1 (by rw [up1_ne c]; exact k3) (by omega)
theorem looks_law {th : Int → Int} {m i : Int} (hm : 1 ≤ m ∧ m ≤ 10) (hi : 0 ≤ i) (h0 : ∀ k, 0 ≤ k → k < m → 0 ≤ th k) : lkA th m i = lksA th m i := by
  have a := lkF_sp hm i.toNat th h0
  have b := lksF_sp (i := i) h0 m.toNat 0 (by omega) (by omega) (fun j j0 j1 => by omega)
  rw [show ((i.toNat : Nat) : Int) = i by omega] at a
  exact a.uq b
section XG
variable {g : jjG} {d : Nat} {T : jjT} {Q : jjQ} {v : Int → Int → Int}
theorem xw_looks_2 {i k m : Int} (hT : PT T) (hV : PV v) (hv : v 400 10 = m) (hm : 0 ≤ m ∧ m ≤ 10) (hk : 0 ≤ k ∧ k < m) : ∀ (n : Nat) (p lo : Int), 0 ≤ p → p + n = m → (0 ≤ lo ∧ lo ≤ p) →
    (jW bX0_looks (g, d, 0, 0, Q) 2 [some (vR 400), some (vI i), some (vI k), some (vI (lo + ahF (v 537) k n p)), some (vI m)] [] (v, T) 0 0) →
    jW bX0_looks (g, d, 0, 0, Q) 2 [some (vR 400), some (vI i), some (vI k), some (vI lo), some (vI p)] [] (v, T) 0 0 := by
  intro n
  induction n with
  | zero =>
    intro p lo hp hn hl hQ
    unfold ahF at hQ
    rw [Int.add_zero, show m = p by omega] at hQ
    exact hQ
  | succ n ih =>
    intro p lo hp hn hl hQ
    unfold ahF at hQ
    have k5 : ∀ z, z = (if v 537 k < v 537 p ∨ (v 537 p = v 537 k ∧ p < k) then (1 : Int) else 0) → jW bX0_looks (g, d, 0, 0, Q) 5 [some (vR 400), some (vI i), some (vI k), some (vI lo), some (vI p)] [vI z, vI lo] (v, T) 0 0 := by
      intro z hz
      have z1 : 0 ≤ z ∧ z ≤ 1 := by rw [hz]; split <;> omega
      rw [← hz] at hQ
      refine jW_step ?_
      simp (disch := (first | decide | omega)) only [bX0_looks, jxs, hps, jtsw, jlsw, List.length_cons, List.length_nil, true_and, and_true, true_implies, false_implies, implies_true, not_true_eq_false, not_false_eq_true, false_and, and_false, if_true, if_false, or_true, true_or, or_false, false_or, Classical.not_not, and_self, Int.reduceAdd, Int.reduceMul, Int.reduceSub, Int.reduceNeg, Int.reduceLT, Int.reduceLE, Int.reduceEq, Int.reduceNe, Int.reduceToNat, Nat.reduceAdd, Nat.reduceMul, Nat.reduceSub, Nat.reduceLeDiff, Nat.reduceLT, Nat.reduceEqDiff, reduceIte, Nat.zero_le, Nat.le_refl, Nat.add_zero, Nat.zero_add, xwT hT, xwV hV]
      (repeat (refine And.intro (by (first | omega | assumption | trivial | (simp only [inI]; omega) | (simp only [inL]; omega) | (refine jb_01) | (exact jb_in))) ?_))
      refine ih (p + 1) (lo + z) (by omega) (by omega) (by omega) ?_
      rw [show lo + z + ahF (v 537) k n (p + 1) = lo + (z + ahF (v 537) k n (p + 1)) by omega]
      exact hQ
    have k3 : (v 537 k < v 537 p ∨ (v 537 p = v 537 k ∧ p < k)) → jW bX0_looks (g, d, 0, 0, Q) 3 [some (vR 400), some (vI i), some (vI k), some (vI lo), some (vI p)] [vI lo] (v, T) 0 0 := by
      intro c
      refine jW_step ?_
      simp (disch := (first | decide | omega)) only [bX0_looks, jxs, hps, jtsw, jlsw, List.length_cons, List.length_nil, true_and, and_true, true_implies, false_implies, implies_true, not_true_eq_false, not_false_eq_true, false_and, and_false, if_true, if_false, or_true, true_or, or_false, false_or, Classical.not_not, and_self, Int.reduceAdd, Int.reduceMul, Int.reduceSub, Int.reduceNeg, Int.reduceLT, Int.reduceLE, Int.reduceEq, Int.reduceNe, Int.reduceToNat, Nat.reduceAdd, Nat.reduceMul, Nat.reduceSub, Nat.reduceLeDiff, Nat.reduceLT, Nat.reduceEqDiff, reduceIte, Nat.zero_le, Nat.le_refl, Nat.add_zero, Nat.zero_add, xwT hT, xwV hV]
      exact k5 1 (by rw [if_pos c])
    have k4 : ¬ (v 537 k < v 537 p ∨ (v 537 p = v 537 k ∧ p < k)) → jW bX0_looks (g, d, 0, 0, Q) 4 [some (vR 400), some (vI i), some (vI k), some (vI lo), some (vI p)] [vI lo] (v, T) 0 0 := by
      intro c
      refine jW_step ?_
      simp (disch := (first | decide | omega)) only [bX0_looks, jxs, hps, jtsw, jlsw, List.length_cons, List.length_nil, true_and, and_true, true_implies, false_implies, implies_true, not_true_eq_false, not_false_eq_true, false_and, and_false, if_true, if_false, or_true, true_or, or_false, false_or, Classical.not_not, and_self, Int.reduceAdd, Int.reduceMul, Int.reduceSub, Int.reduceNeg, Int.reduceLT, Int.reduceLE, Int.reduceEq, Int.reduceNe, Int.reduceToNat, Nat.reduceAdd, Nat.reduceMul, Nat.reduceSub, Nat.reduceLeDiff, Nat.reduceLT, Nat.reduceEqDiff, reduceIte, Nat.zero_le, Nat.le_refl, Nat.add_zero, Nat.zero_add, xwT hT, xwV hV]
      exact k5 0 (by rw [if_neg c])
    refine jW_step ?_
    simp (disch := (first | decide | omega)) only [bX0_looks, jxs, hps, jtsw, jlsw, List.length_cons, List.length_nil, true_and, and_true, true_implies, false_implies, implies_true, not_true_eq_false, not_false_eq_true, false_and, and_false, if_true, if_false, or_true, true_or, or_false, false_or, Classical.not_not, and_self, Int.reduceAdd, Int.reduceMul, Int.reduceSub, Int.reduceNeg, Int.reduceLT, Int.reduceLE, Int.reduceEq, Int.reduceNe, Int.reduceToNat, Nat.reduceAdd, Nat.reduceMul, Nat.reduceSub, Nat.reduceLeDiff, Nat.reduceLT, Nat.reduceEqDiff, reduceIte, Nat.zero_le, Nat.le_refl, Nat.add_zero, Nat.zero_add, xwT hT, xwV hV, hv]
    (repeat (refine And.intro (by (first | omega | assumption | trivial | (simp only [inI]; omega) | (simp only [inL]; omega) | (refine jb_01) | (exact jb_in))) ?_))
    (first | refine ⟨fun h9 => (by exfalso; omega), fun _ => ?_⟩ | intro _)
    (repeat (refine And.intro (by (first | omega | assumption | trivial | (simp only [inI]; omega) | (simp only [inL]; omega) | (refine jb_01) | (exact jb_in))) ?_))
    refine ⟨fun h => ?_, fun h => ?_⟩
    · exact k3 (Or.inl (by omega))
    · (repeat (refine And.intro (by (first | omega | assumption | trivial | (simp only [inI]; omega) | (simp only [inL]; omega) | (refine jb_01) | (exact jb_in))) ?_))
      refine ⟨fun h2 => ?_, fun h2 => ?_⟩
      · exact k4 (by omega)
      · refine ⟨fun h3 => ?_, fun h3 => ?_⟩
        · exact k4 (by omega)
        · exact k3 (by omega)
theorem xw_looks_1 {i m : Int} (hT : PT T) (hV : PV v) (hv : v 400 10 = m) (hm : 0 ≤ m ∧ m ≤ 10) : ∀ (n : Nat) (k : Int) (l3 l4 : Option jjV), 0 ≤ k → k + n = m →
    Q (.inl (some (vI (lksF (v 537) m i n k)))) (v, T) →
    jW bX0_looks (g, d, 0, 0, Q) 1 [some (vR 400), some (vI i), some (vI k), l3, l4] [] (v, T) 0 0 := by
  intro n
  induction n with
  | zero =>
    intro k l3 l4 hk hn hQ
    unfold lksF at hQ
    refine jW_step ?_
    simp (disch := (first | decide | omega)) only [bX0_looks, jxs, hps, jtsw, jlsw, List.length_cons, List.length_nil, true_and, and_true, true_implies, false_implies, implies_true, not_true_eq_false, not_false_eq_true, false_and, and_false, if_true, if_false, or_true, true_or, or_false, false_or, Classical.not_not, and_self, Int.reduceAdd, Int.reduceMul, Int.reduceSub, Int.reduceNeg, Int.reduceLT, Int.reduceLE, Int.reduceEq, Int.reduceNe, Int.reduceToNat, Nat.reduceAdd, Nat.reduceMul, Nat.reduceSub, Nat.reduceLeDiff, Nat.reduceLT, Nat.reduceEqDiff, reduceIte, Nat.zero_le, Nat.le_refl, Nat.add_zero, Nat.zero_add, xwT hT, xwV hV, hv]
    (try refine ⟨fun _ => ?_, fun h9 => (by exfalso; omega)⟩)
    (repeat (refine And.intro (by (first | omega | assumption | trivial | (simp only [inI]; omega) | (simp only [inL]; omega) | (refine jb_01) | (exact jb_in))) ?_))
    exact hQ
  | succ n ih =>
    intro k l3 l4 hk hn hQ
    unfold lksF ahA at hQ
    refine jW_step ?_
    simp (disch := (first | decide | omega)) only [bX0_looks, jxs, hps, jtsw, jlsw, List.length_cons, List.length_nil, true_and, and_true, true_implies, false_implies, implies_true, not_true_eq_false, not_false_eq_true, false_and, and_false, if_true, if_false, or_true, true_or, or_false, false_or, Classical.not_not, and_self, Int.reduceAdd, Int.reduceMul, Int.reduceSub, Int.reduceNeg, Int.reduceLT, Int.reduceLE, Int.reduceEq, Int.reduceNe, Int.reduceToNat, Nat.reduceAdd, Nat.reduceMul, Nat.reduceSub, Nat.reduceLeDiff, Nat.reduceLT, Nat.reduceEqDiff, reduceIte, Nat.zero_le, Nat.le_refl, Nat.add_zero, Nat.zero_add, xwT hT, xwV hV, hv]
    (first | refine ⟨fun h9 => (by exfalso; omega), fun _ => ?_⟩ | intro _)
    refine xw_looks_2 hT hV hv hm (k := k) ⟨hk, by omega⟩ m.toNat 0 0 (by omega) (by omega) (by omega) ?_
    rw [Int.zero_add]
    have b := ahF_bd (th := v 537) (k := k) m.toNat 0
    generalize ahF (v 537) k m.toNat 0 = lo at *
    refine jW_step ?_
    simp (disch := (first | decide | omega)) only [bX0_looks, jxs, hps, jtsw, jlsw, List.length_cons, List.length_nil, true_and, and_true, true_implies, false_implies, implies_true, not_true_eq_false, not_false_eq_true, false_and, and_false, if_true, if_false, or_true, true_or, or_false, false_or, Classical.not_not, and_self, Int.reduceAdd, Int.reduceMul, Int.reduceSub, Int.reduceNeg, Int.reduceLT, Int.reduceLE, Int.reduceEq, Int.reduceNe, Int.reduceToNat, Nat.reduceAdd, Nat.reduceMul, Nat.reduceSub, Nat.reduceLeDiff, Nat.reduceLT, Nat.reduceEqDiff, reduceIte, Nat.zero_le, Nat.le_refl, Nat.add_zero, Nat.zero_add, xwT hT, xwV hV, hv]
    (try refine ⟨fun _ => ?_, fun h9 => (by exfalso; omega)⟩)
    refine ⟨fun h => ?_, fun h => ?_⟩
    · rw [if_neg h] at hQ
      (repeat (refine And.intro (by (first | omega | assumption | trivial | (simp only [inI]; omega) | (simp only [inL]; omega) | (refine jb_01) | (exact jb_in))) ?_))
      exact ih (k + 1) _ _ (by omega) (by omega) hQ
    · rw [if_pos (by omega)] at hQ
      (repeat (refine And.intro (by (first | omega | assumption | trivial | (simp only [inI]; omega) | (simp only [inL]; omega) | (refine jb_01) | (exact jb_in))) ?_))
      refine ⟨fun h2 => ?_, fun h2 => ?_⟩
      · rw [if_neg h2] at hQ
        refine jW_step ?_
        simp (disch := (first | decide | omega)) only [bX0_looks, jxs, hps, jtsw, jlsw, List.length_cons, List.length_nil, true_and, and_true, true_implies, false_implies, implies_true, not_true_eq_false, not_false_eq_true, false_and, and_false, if_true, if_false, or_true, true_or, or_false, false_or, Classical.not_not, and_self, Int.reduceAdd, Int.reduceMul, Int.reduceSub, Int.reduceNeg, Int.reduceLT, Int.reduceLE, Int.reduceEq, Int.reduceNe, Int.reduceToNat, Nat.reduceAdd, Nat.reduceMul, Nat.reduceSub, Nat.reduceLeDiff, Nat.reduceLT, Nat.reduceEqDiff, reduceIte, Nat.zero_le, Nat.le_refl, Nat.add_zero, Nat.zero_add, xwT hT, xwV hV]
        (repeat (refine And.intro (by (first | omega | assumption | trivial | (simp only [inI]; omega) | (simp only [inL]; omega) | (refine jb_01) | (exact jb_in))) ?_))
        exact hQ
      · rw [if_pos (by omega)] at hQ
        refine jW_step ?_
        simp (disch := (first | decide | omega)) only [bX0_looks, jxs, hps, jtsw, jlsw, List.length_cons, List.length_nil, true_and, and_true, true_implies, false_implies, implies_true, not_true_eq_false, not_false_eq_true, false_and, and_false, if_true, if_false, or_true, true_or, or_false, false_or, Classical.not_not, and_self, Int.reduceAdd, Int.reduceMul, Int.reduceSub, Int.reduceNeg, Int.reduceLT, Int.reduceLE, Int.reduceEq, Int.reduceNe, Int.reduceToNat, Nat.reduceAdd, Nat.reduceMul, Nat.reduceSub, Nat.reduceLeDiff, Nat.reduceLT, Nat.reduceEqDiff, reduceIte, Nat.zero_le, Nat.le_refl, Nat.add_zero, Nat.zero_add, xwT hT, xwV hV]
        (repeat (refine And.intro (by (first | omega | assumption | trivial | (simp only [inI]; omega) | (simp only [inL]; omega) | (refine jb_01) | (exact jb_in))) ?_))
        exact hQ
theorem xw_looks {i m : Int} (hT : PT T) (hV : PV v) (hv : v 400 10 = m) (hm : 0 ≤ m ∧ m ≤ 10) (hQ : Q (.inl (some (vI (lksA (v 537) m i)))) (v, T)) : jmet g (d + 1) 0 0 MX0_looks [vR 400, vI i] (v, T) Q := by
  refine jmet_of (ls := [some (vR 400), some (vI i), none, none, none]) sX0_looks rfl (by decide +kernel) (by decide) rfl (by simp [jent]) ?_
  refine jW_step ?_
  simp (disch := (first | decide | omega)) only [bX0_looks, jxs, hps, jtsw, jlsw, List.length_cons, List.length_nil, true_and, and_true, true_implies, false_implies, implies_true, not_true_eq_false, not_false_eq_true, false_and, and_false, if_true, if_false, or_true, true_or, or_false, false_or, Classical.not_not, and_self, Int.reduceAdd, Int.reduceMul, Int.reduceSub, Int.reduceNeg, Int.reduceLT, Int.reduceLE, Int.reduceEq, Int.reduceNe, Int.reduceToNat, Nat.reduceAdd, Nat.reduceMul, Nat.reduceSub, Nat.reduceLeDiff, Nat.reduceLT, Nat.reduceEqDiff, reduceIte, Nat.zero_le, Nat.le_refl, Nat.add_zero, Nat.zero_add, xwT hT, xwV hV]
  exact xw_looks_1 hT hV hv hm m.toNat 0 _ _ (by omega) (by omega) hQ
end XG
