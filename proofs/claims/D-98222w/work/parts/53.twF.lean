/-! ===== what a theft costs, told by shelves alone ===== -/
set_option maxRecDepth 100000
theorem cnF_mono {f : Int → Int} {b : Int} (k : Nat) : ∀ n : Nat, cnF f b k ≤ cnF f b (k + n)
  | 0 => by rw [Nat.add_zero]; omega
  | n + 1 => by
    have := cnF_mono (f := f) (b := b) k n
    show _ ≤ cnF f b (k + n) + _
    split <;> omega
theorem coL_cg {f f' r r' : Int → Int} {b m mr : Int} (hf : EQm m f f') (hr : EQm mr r r') : ∀ (k p : Nat) (q n : Int), (p : Int) + k = m → 0 ≤ q → q + (cnF f b (p + k) - cnF f b p) ≤ mr → coL f r b k p q n = coL f' r' b k p q n
  | 0, _, _, _, _, _, _ => rfl
  | k + 1, p, q, n, hk, hq, hc => by
    unfold coL
    rw [← hf p (by omega) (by omega)]
    have e1 : cnF f b (p + 1) = cnF f b p + (if f p = b then 0 else 1) := rfl
    have mono := cnF_mono (f := f) (b := b) (p + 1) k
    have e2 : p + (k + 1) = p + 1 + k := by omega
    rw [e2] at hc
    by_cases h : f p = b
    · rw [if_pos h, if_pos h]
      rw [if_pos h] at e1
      have := coL_cg hf hr k (p + 1) q n (by omega) hq (by omega) (b := b)
      rw [show ((p + 1 : Nat) : Int) = (p : Int) + 1 by omega] at this
      exact this
    · rw [if_neg h, if_neg h]
      rw [if_neg h] at e1
      rw [← hr q hq (by omega)]
      have := coL_cg hf hr k (p + 1) (q + 1) (n + (if f p = r q then 0 else 1)) (by omega) (by omega) (by omega) (b := b)
      rw [show ((p + 1 : Nat) : Int) = (p : Int) + 1 by omega] at this
      exact this
/-- the row without a book holds as many as differ from it in the row with all -/
theorem lrF_cn {A : Int → Int} {s b : Int} (hb : 0 ≤ b) (hge : ∀ p, 0 ≤ p → p < A (13 + s) → 0 ≤ A (16 + 10 * s + p)) : ∀ (n : Nat) (p m : Int) (m1 : Nat) (f f1 : Int → Int), 0 ≤ p → p + n = A (13 + s) → m = cnF f1 b m1 →
    (lrF A s b n p m f).2 = cnF (lrF A s (-1) n p m1 f1).1 b (lrF A s (-1) n p m1 f1).2.toNat
  | 0, p, m, m1, f, f1, hp, hn, hm => by
    unfold lrF
    dsimp only
    rw [hm, Int.toNat_natCast]
  | n + 1, p, m, m1, f, f1, hp, hn, hm => by
    have g := hge p hp (by omega)
    unfold lrF
    rw [if_neg (show ¬ A (16 + 10 * s + p) = -1 by omega)]
    have keep : cnF (up1 f1 m1 (A (16 + 10 * s + p))) b m1 = cnF f1 b m1 := cnF_cg m1 (fun i h0 h1 => up1_ne (by omega))
    have nx : cnF (up1 f1 m1 (A (16 + 10 * s + p))) b (m1 + 1) = cnF f1 b m1 + (if A (16 + 10 * s + p) = b then 0 else 1) := by
      show cnF (up1 f1 m1 (A (16 + 10 * s + p))) b m1 + (if up1 f1 m1 (A (16 + 10 * s + p)) m1 = b then 0 else 1) = _
      rw [keep, up1_eq]
    by_cases h : A (16 + 10 * s + p) = b
    · rw [if_pos h]
      have := lrF_cn hb hge n (p + 1) m (m1 + 1) f (up1 f1 m1 (A (16 + 10 * s + p))) (by omega) (by omega) (by rw [nx, if_pos h]; omega)
      rw [show ((m1 + 1 : Nat) : Int) = (m1 : Int) + 1 by omega] at this
      exact this
    · rw [if_neg h]
      have := lrF_cn hb hge n (p + 1) (m + 1) (m1 + 1) (up1 f m (A (16 + 10 * s + p))) (up1 f1 m1 (A (16 + 10 * s + p))) (by omega) (by omega) (by rw [nx, if_neg h]; omega)
      rw [show ((m1 + 1 : Nat) : Int) = (m1 : Int) + 1 by omega] at this
      exact this
