/-! ===== nights keep what is in a row ===== -/
set_option maxRecDepth 100000
/-- how many of the first differ from a book -/
def cnF (f : Int → Int) (b : Int) : Nat → Int
  | 0 => 0
  | n + 1 => cnF f b n + (if f n = b then 0 else 1)
theorem cnF_cg {f f' : Int → Int} {b : Int} : ∀ n : Nat, EQm n f f' → cnF f b n = cnF f' b n
  | 0, _ => rfl
  | n + 1, h => by
    unfold cnF
    rw [cnF_cg n (fun i h0 h1 => h i h0 (by omega)), h n (by omega) (by omega)]
theorem cnF_bd {f : Int → Int} {b : Int} : ∀ n : Nat, 0 ≤ cnF f b n ∧ cnF f b n ≤ n
  | 0 => by unfold cnF; omega
  | n + 1 => by
    have := cnF_bd (f := f) (b := b) n
    unfold cnF
    split <;> omega
theorem cnF_sw {f : Int → Int} {b : Int} (p : Nat) : ∀ n : Nat, p + 2 ≤ n → cnF (swp f p) b n = cnF f b n
  | 0, h => by omega
  | 1, h => by omega
  | n + 2, h => by
    by_cases e : p = n
    · subst e
      have a : cnF (swp f p) b p = cnF f b p := cnF_cg p (fun i h0 h1 => by unfold swp; rw [up1_ne (by omega), up1_ne (by omega)])
      have e1 : swp f p p = f (p + 1) := by unfold swp; rw [up1_ne (by omega), up1_eq]
      have e2 : swp f p ((p + 1 : Nat) : Int) = f p := by unfold swp; rw [show ((p + 1 : Nat) : Int) = (p : Int) + 1 by omega, up1_eq]
      show cnF (swp f p) b p + (if swp f p p = b then 0 else 1) + (if swp f p ((p + 1 : Nat) : Int) = b then 0 else 1) = cnF f b p + (if f p = b then 0 else 1) + (if f ((p + 1 : Nat) : Int) = b then 0 else 1)
      rw [a, e1, e2, show ((p + 1 : Nat) : Int) = (p : Int) + 1 by omega]
      omega
    · have a := cnF_sw (f := f) (b := b) p (n + 1) (by omega)
      have e1 : swp f p ((n + 1 : Nat) : Int) = f ((n + 1 : Nat) : Int) := by unfold swp; rw [up1_ne (by omega), up1_ne (by omega)]
      show cnF (swp f p) b (n + 1) + (if swp f p ((n + 1 : Nat) : Int) = b then 0 else 1) = cnF f b (n + 1) + (if f ((n + 1 : Nat) : Int) = b then 0 else 1)
      rw [a, e1]
theorem cnF_nit {c f : Int → Int} {b m : Int} : ∀ (n : Nat) (p : Int) (f : Int → Int), 0 ≤ p → cnF (nitL c m n p f) b m.toNat = cnF f b m.toNat
  | 0, _, _, _ => rfl
  | n + 1, p, f, hp => by
    unfold nitL
    by_cases h : m ≤ p + 1
    · rw [if_pos h]
    · rw [if_neg h, cnF_nit (f := f) n (p + 2) _ (by omega)]
      by_cases h2 : c (10 * f p + f (p + 1)) = 0
      · rw [if_pos h2]
      · rw [if_neg h2]
        have := cnF_sw (f := f) (b := b) p.toNat m.toNat (by omega)
        rw [show ((p.toNat : Nat) : Int) = p by omega] at this
        exact this
theorem cnF_rst {c : Int → Int} {b m ni : Int} : ∀ (n : Nat) (k : Int) (f : Int → Int), cnF (rstL c m ni n k f).1 b m.toNat = cnF f b m.toNat
  | 0, _, _ => rfl
  | n + 1, k, f => by
    unfold rstL
    by_cases h : clmR c f m = 0
    · rw [if_pos h, cnF_rst n (k + 1)]
      exact cnF_nit (f := f) 6 _ f (by omega)
    · rw [if_neg h]
