/-! ===== plain law: nights to come, as numbers ===== -/
-- MODE X
set_option maxRecDepth 100000
def fSq (c : Int → Int) (m ni : Int) (f : Int → Int) : Nat → Int → Int
  | 0 => f
  | k + 1 => nitR c m ((ni + k) % 2) (fSq c m ni f k)
def sT (c : Int → Int) (m ni : Int) (f : Int → Int) (k : Int) : Int := (ni + k) % 2 * 10 ^ m.toNat + rnF (fSq c m ni f k.toNat) m.toNat
theorem TAG.rf {N : Int} {c : Int → Int} : TAG N c c := fun _ _ _ _ _ _ => rfl
theorem EQm.rf {m : Int} {f : Int → Int} : EQm m f f := fun _ _ _ => rfl
theorem fSq_RN {c f : Int → Int} {m ni N : Int} (h0 : 0 ≤ ni) (hf : RN f m N) : ∀ k : Nat, RN (fSq c m ni f k) m N
  | 0 => hf
  | k + 1 => (nitR_cg (kind := (ni + k) % 2) (by omega) (TAG.rf (c := c)) EQm.rf (fSq_RN h0 hf k)).2
theorem rnF_inj {f f' : Int → Int} {m : Int} (h : RO f m) (h' : RO f' m) : ∀ n : Nat, (n : Int) ≤ m → rnF f n = rnF f' n → EQm n f f'
  | 0, _, _ => fun i i0 i1 => by omega
  | n + 1, hn, e => by
    have a := h.2 n (by omega) (by omega)
    have b := h'.2 n (by omega) (by omega)
    unfold rnF at e
    have q := rnF_inj h h' n (by omega) (by omega)
    intro i i0 i1
    by_cases w : i = n
    · rw [w]; omega
    · exact q i i0 (by omega)
theorem roL_rst {c : Int → Int} {m ni : Int} : ∀ (r : Nat) (k : Int) (f st : Int → Int), 0 ≤ k → ((rstL c m ni r k f).2 = -1 → ∃ s, roL c m ni r k f st = some s) ∧ (¬ (rstL c m ni r k f).2 = -1 → roL c m ni r k f st = none)
  | 0, k, f, st, hk => ⟨fun _ => ⟨st, rfl⟩, fun h => absurd rfl h⟩
  | r + 1, k, f, st, hk => by
    unfold rstL roL
    by_cases h : clmR c f m = 0
    · rw [if_pos h, if_pos h]
      exact roL_rst r (k + 1) _ _ (by omega)
    · rw [if_neg h, if_neg h]
      refine ⟨fun e => ?_, fun _ => rfl⟩
      dsimp only at e
      omega
theorem roL_st {c f : Int → Int} {m ni : Int} : ∀ (r : Nat) (k : Nat) (st s : Int → Int), roL c m ni r k (fSq c m ni f k) st = some s → (∀ j : Int, k ≤ j → j < k + r → s j = rnF (fSq c m ni f j.toNat) m.toNat) ∧ ∀ j : Int, j < k → s j = st j
  | 0, k, st, s, h => by
    unfold roL at h
    have e : st = s := Option.some.inj h
    exact ⟨fun j j0 j1 => by omega, fun j _ => by rw [e]⟩
  | r + 1, k, st, s, h => by
    unfold roL at h
    by_cases q : clmR c (fSq c m ni f k) m = 0
    · rw [if_pos q] at h
      have t := roL_st (c := c) (f := f) (m := m) (ni := ni) r (k + 1) (up1 st k (rnF (fSq c m ni f k) m.toNat)) s h
      refine ⟨fun j j0 j1 => ?_, fun j j0 => ?_⟩
      · by_cases w : j = k
        · rw [t.2 j (by omega), w, up1_eq, Int.toNat_natCast]
        · exact t.1 j (by omega) (by omega)
      · rw [t.2 j (by omega), up1_ne (by omega)]
    · rw [if_neg q] at h
      exact absurd h (by simp)
theorem sT_split {c f : Int → Int} {m ni N : Int} (h0 : 0 ≤ ni) (hm : 0 ≤ m ∧ m ≤ 10) (hN : N ≤ 10) (hf : RN f m N) {i j : Int} (e : sT c m ni f i = sT c m ni f j) : (ni + i) % 2 = (ni + j) % 2 ∧ rnF (fSq c m ni f i.toNat) m.toNat = rnF (fSq c m ni f j.toNat) m.toNat := by
  have ri : RO (fSq c m ni f i.toNat) m := ⟨hm, fun x x0 x1 => by have := fSq_RN (c := c) h0 hf i.toNat x x0 x1; omega⟩
  have rj : RO (fSq c m ni f j.toNat) m := ⟨hm, fun x x0 x1 => by have := fSq_RN (c := c) h0 hf j.toNat x x0 x1; omega⟩
  have bi := rnF_bd ri m.toNat (by omega)
  have bj := rnF_bd rj m.toNat (by omega)
  unfold sT at e
  generalize rnF (fSq c m ni f i.toNat) m.toNat = a at *
  generalize rnF (fSq c m ni f j.toNat) m.toNat = b at *
  generalize (10 : Int) ^ m.toNat = B at *
  have pi : (ni + i) % 2 = 0 ∨ (ni + i) % 2 = 1 := by omega
  have pj : (ni + j) % 2 = 0 ∨ (ni + j) % 2 = 1 := by omega
  rcases pi with pi | pi <;> rcases pj with pj | pj
  · rw [pi, pj] at e ⊢; omega
  · rw [pi, pj] at e; omega
  · rw [pi, pj] at e; omega
  · rw [pi, pj] at e ⊢; omega
theorem sT_step {c f : Int → Int} {m ni N : Int} (h0 : 0 ≤ ni) (hm : 0 ≤ m ∧ m ≤ 10) (hN : N ≤ 10) (hf : RN f m N) (i j : Int) (i0 : 0 ≤ i) (j0 : 0 ≤ j) (e : sT c m ni f i = sT c m ni f j) : sT c m ni f (i + 1) = sT c m ni f (j + 1) := by
  have q := sT_split h0 hm hN hf e
  have ri : RO (fSq c m ni f i.toNat) m := ⟨hm, fun x x0 x1 => by have := fSq_RN (c := c) h0 hf i.toNat x x0 x1; omega⟩
  have rj : RO (fSq c m ni f j.toNat) m := ⟨hm, fun x x0 x1 => by have := fSq_RN (c := c) h0 hf j.toNat x x0 x1; omega⟩
  have w := rnF_inj ri rj m.toNat (by omega) q.2
  have hq : EQm m (fSq c m ni f i.toNat) (fSq c m ni f j.toNat) := fun x x0 x1 => w x x0 (by omega)
  have ci : fSq c m ni f (i + 1).toNat = nitR c m ((ni + i) % 2) (fSq c m ni f i.toNat) := by
    rw [show (i + 1).toNat = i.toNat + 1 by omega]
    show nitR c m ((ni + (i.toNat : Int)) % 2) _ = _
    rw [show ((i.toNat : Nat) : Int) = i by omega]
  have cj : fSq c m ni f (j + 1).toNat = nitR c m ((ni + j) % 2) (fSq c m ni f j.toNat) := by
    rw [show (j + 1).toNat = j.toNat + 1 by omega]
    show nitR c m ((ni + (j.toNat : Int)) % 2) _ = _
    rw [show ((j.toNat : Nat) : Int) = j by omega]
  have st := (nitR_cg (kind := (ni + i) % 2) (by omega) (TAG.rf (c := c)) hq (fSq_RN (c := c) h0 hf i.toNat)).1
  unfold sT
  rw [ci, cj, ← q.1, rnF_cg m.toNat (fun x x0 x1 => st x x0 (by omega)), show (ni + (i + 1)) % 2 = (ni + (j + 1)) % 2 by omega]
/-- round, as the class has it -/
def rouC (c : Int → Int) (m ni : Int) (f : Int → Int) (len : Int) : Int := if (rstR c m ni f).2 = -1 then roC (sT c m ni f) len 501 0 else -1
theorem rouC_eq {c f : Int → Int} {m ni N len : Int} (h0 : 0 ≤ ni) (hm : 0 ≤ m ∧ m ≤ 10) (hN : N ≤ 10) (hf : RN f m N) : (match roL c m ni 501 0 f (fun _ => 0) with | none => -1 | some st => ouF st len 501 0) = rouC c m ni f len := by
  unfold rouC
  have t := roL_rst (c := c) (m := m) (ni := ni) 501 0 f (fun _ => 0) (by omega)
  by_cases q : (rstR c m ni f).2 = -1
  · rw [if_pos q]
    obtain ⟨s, hs⟩ := t.1 q
    rw [hs]
    have w := (roL_st (c := c) (f := f) (m := m) (ni := ni) 501 0 (fun _ => 0) s hs).1
    refine round_law (sT_step h0 hm hN hf) (fun i j i0 ij j5 => ⟨fun e => ?_, fun e => ?_⟩)
    · have p := sT_split h0 hm hN hf e
      rw [w i (by omega) (by omega), w j (by omega) (by omega)]
      exact ⟨by omega, p.2⟩
    · rw [w i (by omega) (by omega), w j (by omega) (by omega)] at e
      unfold sT
      rw [e.2, show (ni + i) % 2 = (ni + j) % 2 by omega]
  · rw [if_neg q, t.2 q]
