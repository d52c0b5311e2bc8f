/-! ===== the class: a state as another ===== -/
-- MODE X
set_option maxRecDepth 100000
/-- n arrays from p on become those from o on, as far as m -/
def jcq (v w : Int → Int → Int) (o p n m : Int) : Prop := (∀ k, 0 ≤ k → k < n → EQm m (w (p + k)) (v (o + k))) ∧ ∀ a, (a < p ∨ p + n ≤ a) → w a = v a
theorem jcq.pv {v w : Int → Int → Int} {o p n m : Int} (h : jcq v w o p n m) (hV : PV v) (hp : ∀ a ∈ pvA, a < p ∨ p + n ≤ a) : PV w := hV.fr (fun a ha => h.2 a (hp a ha))
theorem jcq.one {v : Int → Int → Int} {a b n : Int} : jcq v (upA v b (fun k => if 0 ≤ k ∧ k < n then v a k else v b k)) a b 1 n := by
  refine ⟨fun k k0 k1 i i0 i1 => ?_, fun x hx => upA_ne (by omega)⟩
  rw [show k = 0 by omega, Int.add_zero, Int.add_zero, upA_eq]
  exact if_pos ⟨i0, i1⟩
def bel (r : Int) : Int := if r = 1 then 6 else if r = 2 then 3 else if r = 3 then 287 else if r < 15 then 5 else if r < 28 then 4 else if r < 59 then 287 else 4
/-- the state from p on is that from o on -/
def jbe (v w : Int → Int → Int) (o p : Int) : Prop := (∀ r, 1 ≤ r → r ≤ 59 → r ≠ 4 → r ≠ 15 → r ≠ 28 → EQm (bel r) (w (p + r)) (v (o + r))) ∧ ∀ a, (a ≤ p ∨ p + 59 < a ∨ a = p + 4 ∨ a = p + 15 ∨ a = p + 28) → w a = v a
theorem jbe_of {v v1 v2 v3 v4 v5 v6 v7 : Int → Int → Int} {o p : Int} (hop : o + 60 = p ∨ p + 60 = o) (h1 : jcq v v1 (o + 1) (p + 1) 1 6) (h2 : jcq v1 v2 (o + 2) (p + 2) 1 3) (h3 : jcq v2 v3 (o + 3) (p + 3) 1 287) (h4 : jcq v3 v4 (o + 5) (p + 5) 10 5) (h5 : jcq v4 v5 (o + 16) (p + 16) 12 4) (h6 : jcq v5 v6 (o + 29) (p + 29) 30 287) (h7 : jcq v6 v7 (o + 59) (p + 59) 1 4) : jbe v v7 o p := by
  refine ⟨fun r r0 r1 r4 r15 r28 i i0 i1 => ?_, fun a ha => ?_⟩
  · unfold bel at i1
    by_cases c1 : r = 1
    · rw [if_pos c1] at i1
      rw [h7.2 _ (by omega), h6.2 _ (by omega), h5.2 _ (by omega), h4.2 _ (by omega), h3.2 _ (by omega), h2.2 _ (by omega)]
      have := h1.1 (r - 1) (by omega) (by omega) i i0 i1
      rwa [show p + 1 + (r - 1) = p + r by omega, show o + 1 + (r - 1) = o + r by omega] at this
    rw [if_neg c1] at i1
    by_cases c2 : r = 2
    · rw [if_pos c2] at i1
      rw [h7.2 _ (by omega), h6.2 _ (by omega), h5.2 _ (by omega), h4.2 _ (by omega), h3.2 _ (by omega), ← h1.2 (o + r) (by omega)]
      have := h2.1 (r - 2) (by omega) (by omega) i i0 i1
      rwa [show p + 2 + (r - 2) = p + r by omega, show o + 2 + (r - 2) = o + r by omega] at this
    rw [if_neg c2] at i1
    by_cases c3 : r = 3
    · rw [if_pos c3] at i1
      rw [h7.2 _ (by omega), h6.2 _ (by omega), h5.2 _ (by omega), h4.2 _ (by omega), ← h1.2 (o + r) (by omega), ← h2.2 (o + r) (by omega)]
      have := h3.1 (r - 3) (by omega) (by omega) i i0 i1
      rwa [show p + 3 + (r - 3) = p + r by omega, show o + 3 + (r - 3) = o + r by omega] at this
    rw [if_neg c3] at i1
    by_cases c4 : r < 15
    · rw [if_pos c4] at i1
      rw [h7.2 _ (by omega), h6.2 _ (by omega), h5.2 _ (by omega), ← h1.2 (o + r) (by omega), ← h2.2 (o + r) (by omega), ← h3.2 (o + r) (by omega)]
      have := h4.1 (r - 5) (by omega) (by omega) i i0 i1
      rwa [show p + 5 + (r - 5) = p + r by omega, show o + 5 + (r - 5) = o + r by omega] at this
    rw [if_neg c4] at i1
    by_cases c5 : r < 28
    · rw [if_pos c5] at i1
      rw [h7.2 _ (by omega), h6.2 _ (by omega), ← h1.2 (o + r) (by omega), ← h2.2 (o + r) (by omega), ← h3.2 (o + r) (by omega), ← h4.2 (o + r) (by omega)]
      have := h5.1 (r - 16) (by omega) (by omega) i i0 i1
      rwa [show p + 16 + (r - 16) = p + r by omega, show o + 16 + (r - 16) = o + r by omega] at this
    rw [if_neg c5] at i1
    by_cases c6 : r < 59
    · rw [if_pos c6] at i1
      rw [h7.2 _ (by omega), ← h1.2 (o + r) (by omega), ← h2.2 (o + r) (by omega), ← h3.2 (o + r) (by omega), ← h4.2 (o + r) (by omega), ← h5.2 (o + r) (by omega)]
      have := h6.1 (r - 29) (by omega) (by omega) i i0 i1
      rwa [show p + 29 + (r - 29) = p + r by omega, show o + 29 + (r - 29) = o + r by omega] at this
    rw [if_neg c6] at i1
    rw [← h1.2 (o + r) (by omega), ← h2.2 (o + r) (by omega), ← h3.2 (o + r) (by omega), ← h4.2 (o + r) (by omega), ← h5.2 (o + r) (by omega), ← h6.2 (o + r) (by omega)]
    have := h7.1 (r - 59) (by omega) (by omega) i i0 i1
    rwa [show p + 59 + (r - 59) = p + r by omega, show o + 59 + (r - 59) = o + r by omega] at this
  · rw [h7.2 _ (by omega), h6.2 _ (by omega), h5.2 _ (by omega), h4.2 _ (by omega), h3.2 _ (by omega), h2.2 _ (by omega), h1.2 _ (by omega)]
theorem jbe.cs {v w : Int → Int → Int} {T : jjT} {o p : Int} {A X : Int → Int} (h : jbe v w o p) (g : jGR (v, T) (w, T)) (hB : TB A) (h7 : 0 ≤ A 7 ∧ A 7 ≤ 30) (h8 : 0 ≤ A 8 ∧ A 8 ≤ 12) (hm : ∀ k s, 0 ≤ k → k < A 7 → 0 ≤ s → s < 3 → A (154 + 48 * k + 5 + s) ≤ 10) (q : CS (v, T) o A X) : CS (w, T) p A X := by
  have h0 := hB.1
  have h5 := hB.2.2.2.1
  have H := h.1
  obtain ⟨q1, q2, q3, q4, q5, q6, q7⟩ := q
  dsimp only at q1 q2 q3 q4 q5 q6 q7
  have E : ∀ r i, 1 ≤ r → r ≤ 59 → r ≠ 4 → r ≠ 15 → r ≠ 28 → 0 ≤ i → i < bel r → w (p + r) i = v (o + r) i := fun r i r0 r1 r4 r5 r6 i0 i1 => H r r0 r1 r4 r5 r6 i i0 i1
  refine ⟨?_, fun s s0 s1 => ?_, ?_, fun b k b0 b1 w0 w1 => ?_, fun k z b0 b1 w0 w1 => ?_, fun k k0 k1 => ?_, fun t t0 t1 => ?_⟩
  · dsimp only
    unfold cN at q1 ⊢
    have e := fun i i0 i1 => E 1 i (by omega) (by omega) (by omega) (by omega) (by omega) i0 (show i < 6 from i1)
    rw [e 0 (by omega) (by omega), e 1 (by omega) (by omega), e 2 (by omega) (by omega), e 3 (by omega) (by omega), e 4 (by omega) (by omega), e 5 (by omega) (by omega)]
    exact q1
  · dsimp only
    rw [E 2 s (by omega) (by omega) (by omega) (by omega) (by omega) s0 (by show s < 3; omega)]
    exact q2 s s0 s1
  · dsimp only
    unfold RW at q3 ⊢
    exact q3.f (fun s s0 s1 => (hB.2.2.2.2.2.1 (13 + s) (by omega) (by omega)).2) (fun i i0 i1 => E 3 i (by omega) (by omega) (by omega) (by omega) (by omega) i0 i1)
  · dsimp only
    have := E (5 + b) k (by omega) (by omega) (by omega) (by omega) (by omega) w0 (by unfold bel; rw [if_neg (by omega), if_neg (by omega), if_neg (by omega), if_pos (by omega)]; omega)
    rw [show p + 5 + b = p + (5 + b) by omega, this, show o + (5 + b) = o + 5 + b by omega]
    exact q4 b k b0 b1 w0 w1
  · dsimp only
    have := E (16 + k) z (by omega) (by omega) (by omega) (by omega) (by omega) w0 (by unfold bel; rw [if_neg (by omega), if_neg (by omega), if_neg (by omega), if_neg (by omega), if_pos (by omega)]; omega)
    rw [show p + 16 + k = p + (16 + k) by omega, this, show o + (16 + k) = o + 16 + k by omega]
    exact q5 k z b0 b1 w0 w1
  · dsimp only
    have q := q6 k k0 k1
    rw [show p + 29 + k = p + (29 + k) by omega]
    rw [show o + 29 + k = o + (29 + k) by omega] at q
    unfold RS at q ⊢
    exact q.f (fun s s0 s1 => hm k s k0 k1 s0 s1) (fun i i0 i1 => E (29 + k) i (by omega) (by omega) (by omega) (by omega) (by omega) i0 (by unfold bel; rw [if_neg (by omega), if_neg (by omega), if_neg (by omega), if_neg (by omega), if_neg (by omega), if_pos (by omega)]; exact i1))
  · dsimp only
    rw [E 59 t (by omega) (by omega) (by omega) (by omega) (by omega) t0 (by show t < 4; omega)]
    exact (q7 t t0 t1).gr g
section XG
variable {g : jjG} {d : Nat} {T : jjT} {Q : jjQ}
theorem xw_copy2_1 {a b o p N m : Int} (v0 : Int → Int → Int) (ha : jok T a (-5) ∧ jln T a = N) (hb : jok T b (-5) ∧ jln T b = N) (hm : 0 ≤ m ∧ m < 1000) (hN : 0 ≤ N ∧ N ≤ 30) (h4 : 400 ≤ o ∧ 400 ≤ p)
    (hd : o + N ≤ p ∨ p + N ≤ o) (ra : ∀ k, 0 ≤ k → k < N → v0 a k = o + k) (rb : ∀ k, 0 ≤ k → k < N → v0 b k = p + k) (oa : ∀ k, 0 ≤ k → k < N → jok T (o + k) (-1) ∧ jln T (o + k) = m) (ob : ∀ k, 0 ≤ k → k < N → jok T (p + k) (-1) ∧ jln T (p + k) = m) (ga : a < p ∨ p + N ≤ a) (gb : b < p ∨ p + N ≤ b)
    (hQ : ∀ w, jcq v0 w o p N m → Q (.inl none) (w, T)) : ∀ (n : Nat) (j : Int) (v : Int → Int → Int), 0 ≤ j → j + n = N → (∀ k, 0 ≤ k → k < j → EQm m (v (p + k)) (v0 (o + k))) → (∀ x, (x < p ∨ p + j ≤ x) → v x = v0 x) →
    jW bX1_copy_2 (g, d + 1, 0, 0, Q) 1 [some (vR a), some (vR b), some (vI j)] [] (v, T) 0 0 := by
  obtain ⟨pa1, pa2⟩ := ha
  obtain ⟨pb1, pb2⟩ := hb
  intro n
  induction n with
  | zero =>
    intro j v hj hn h1 h2
    refine jW_step ?_
    simp (disch := (first | decide | omega)) only [bX1_copy_2, jxs, pa1, pa2, pb1, pb2, true_and, and_true]
    (repeat (refine And.intro (by (first | omega | assumption | trivial | (simp only [inI]; omega) | (simp only [inL]; omega) | (refine jb_01) | (exact jb_in))) ?_))
    (try refine ⟨fun _ => ?_, fun h9 => (by exfalso; omega)⟩)
    (repeat (refine And.intro (by (first | omega | assumption | trivial | (simp only [inI]; omega) | (simp only [inL]; omega) | (refine jb_01) | (exact jb_in))) ?_))
    exact hQ v ⟨fun k k0 k1 => h1 k k0 (by omega), fun x hx => h2 x (by omega)⟩
  | succ n ih =>
    intro j v hj hn h1 h2
    have ea : v a j = o + j := by rw [h2 a (by omega)]; exact ra j hj (by omega)
    have eb : v b j = p + j := by rw [h2 b (by omega)]; exact rb j hj (by omega)
    have ka := oa j hj (by omega)
    have kb := ob j hj (by omega)
    refine jW_step ?_
    simp (disch := (first | decide | omega)) only [bX1_copy_2, jxs, pa1, pa2, pb1, pb2, ea, eb, true_and, and_true]
    (repeat (refine And.intro (by (first | omega | assumption | trivial | (simp only [inI]; omega) | (simp only [inL]; omega) | (refine jb_01) | (exact jb_in))) ?_))
    (first | refine ⟨fun h9 => (by exfalso; omega), fun _ => ?_⟩ | intro _)
    (repeat (refine And.intro (by (first | omega | assumption | trivial | (simp only [inI]; omega) | (simp only [inL]; omega) | (refine jb_01) | (exact jb_in))) ?_))
    refine ⟨0, 0, ⟨by omega, by omega⟩, xw_copy (n := m) ⟨ka.1, by omega, ka.2⟩ ⟨kb.1, by omega, by rw [kb.2]; omega⟩ hm ?_⟩
    simp (disch := (first | decide | omega)) only [jxs, true_and, and_true]
    (repeat (refine And.intro (by (first | omega | assumption | trivial | (simp only [inI]; omega) | (simp only [inL]; omega) | (refine jb_01) | (exact jb_in))) ?_))
    refine ih (j + 1) _ (by omega) (by omega) ?_ ?_
    · intro k k0 k1
      by_cases e : k = j
      · rw [e, upA_eq, ← h2 (o + j) (by omega)]
        exact fun i i0 i1 => if_pos ⟨i0, i1⟩
      · rw [upA_ne (by omega)]
        exact h1 k k0 (by omega)
    · intro x hx
      rw [upA_ne (by omega)]
      exact h2 x (by omega)
theorem xw_copy2 {a b o p N m : Int} (v : Int → Int → Int) (ha : jok T a (-5) ∧ jln T a = N) (hb : jok T b (-5) ∧ jln T b = N) (hm : 0 ≤ m ∧ m < 1000) (hN : 0 ≤ N ∧ N ≤ 30) (h4 : 400 ≤ o ∧ 400 ≤ p)
    (hd : o + N ≤ p ∨ p + N ≤ o) (ra : ∀ k, 0 ≤ k → k < N → v a k = o + k) (rb : ∀ k, 0 ≤ k → k < N → v b k = p + k) (oa : ∀ k, 0 ≤ k → k < N → jok T (o + k) (-1) ∧ jln T (o + k) = m) (ob : ∀ k, 0 ≤ k → k < N → jok T (p + k) (-1) ∧ jln T (p + k) = m) (ga : a < p ∨ p + N ≤ a) (gb : b < p ∨ p + N ≤ b)
    (hQ : ∀ w, jcq v w o p N m → Q (.inl none) (w, T)) : jmet g (d + 2) 0 0 MX1_copy_2 [vR a, vR b] (v, T) Q := by
  refine jmet_of (ls := [some (vR a), some (vR b), none]) sX1_copy_2 rfl (by decide +kernel) (by decide) rfl (by simp [jent]) ?_
  refine jW_step ?_
  simp (disch := (first | decide | omega)) only [bX1_copy_2, jxs, true_and, and_true]
  exact xw_copy2_1 v ha hb hm hN h4 hd ra rb oa ob ga gb hQ N.toNat 0 v (by omega) (by omega) (fun k k0 k1 => by omega) (fun x _ => rfl)
end XG
