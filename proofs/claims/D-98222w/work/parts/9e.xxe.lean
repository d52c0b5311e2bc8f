/-! ===== what stays sound; doings in order ===== -/
-- MODE X
set_option maxRecDepth 100000
theorem TK.kp {A B : Int → Int} (h : TK A) (hI : TI B) (e : ∀ i, 154 ≤ i → i < 1594 → B i = keepA A i) (e7 : B 7 = keepA A 7) (e9 : A 9 ≤ B 9 ∧ B 9 ≤ A 9 + 10) : TK B := by
  have h7 := h.1.1.2.2.1
  exact ⟨hI, h.2.1.kp h.1.1.1 h7 e e7, h.2.2.kp h7 h.1.1.2.2.2.1 e e7 e9⟩
theorem TK.nudge {A : Int → Int} {f s p : Int} (h : TK A) : TK (opNudge A f s p).1 := by
  have hI := (opNudge_TI (f := f) (s := s) (p := p) h.1).1
  have h7 := h.1.1.2.2.1
  unfold opNudge at hI ⊢
  by_cases q : (0 ≤ s ∧ s ≤ 2) ∧ (0 ≤ p ∧ p ≤ A (13 + s) - 2)
  · rw [if_pos q] at hI ⊢
    have hm := h.1.1.1.2.2.2.2.2.1 (13 + s) (by omega) (by omega)
    have eo := fun i (hi : i < 16 ∨ 46 ≤ i) => excA_o (A := keepA A) (s := s) (p := p) ⟨q.1.1, by omega⟩ (by omega) hi
    exact h.kp hI (fun i i0 i1 => eo i (by omega)) (eo 7 (by omega)) (by dsimp only; rw [eo 9 (by omega), keepA_lo h7 (by omega) (by omega)]; omega)
  · rw [if_neg q]
    exact h
theorem TK.take {A : Int → Int} {f b : Int} (h : TK A) : TK (opTake A f b).1 := by
  have hI := (opTake_TI (f := f) (b := b) h.1).1
  have h7 := h.1.1.2.2.1
  have hB := h.1.1.1
  unfold opTake at hI ⊢
  by_cases q : (0 ≤ b ∧ b ≤ A 0 - 1) ∧ ¬ A (46 + 6 * b + 5) = 3
  · rw [if_pos q] at hI ⊢
    have h0 := hB.1
    have fr : ∀ i, (i < 13 ∨ 106 ≤ i) → tak A b i = keepA A i := by
      intro i hi
      unfold tak
      by_cases w : A (46 + 6 * b + 5) < 3
      · rw [if_pos w]
        have pl := plA_ok hB h.1.2.1 (b := b) (by omega) w
        have km : keepA A (13 + A (46 + 6 * b + 5)) = A (13 + A (46 + 6 * b + 5)) := keepA_p h7 (by omega) (by omega)
        exact FR.pull (keepA_TB hB h7) pl.1 (by rw [km]; exact pl.2.1) i hi
      · rw [if_neg w]
        exact up1_ne (by omega)
    exact h.kp hI (fun i i0 i1 => fr i (by omega)) (fr 7 (by omega)) (by dsimp only; rw [fr 9 (by omega), keepA_lo h7 (by omega) (by omega)]; omega)
  · rw [if_neg q]
    exact h
theorem TK.put {A X : Int → Int} {f b s p : Int} (h : TK A) : TK (opPut A X f b s p).1 := by
  have hI := (opPut_TI (X := X) (f := f) (b := b) (s := s) (p := p) h.1).1
  have h7 := h.1.1.2.2.1
  have hB := h.1.1.1
  have h0 := hB.1
  unfold opPut at hI ⊢
  by_cases q : (0 ≤ b ∧ b ≤ A 0 - 1) ∧ 3 ≤ A (46 + 6 * b + 5) ∧ (0 ≤ s ∧ s ≤ 2) ∧ (0 ≤ p ∧ p ≤ A (13 + s)) ∧ fuA A X s + thA A X b ≤ A (10 + s)
  · rw [if_pos q] at hI ⊢
    have hs : 0 ≤ s ∧ s < 3 := by omega
    have km : keepA A (13 + s) = A (13 + s) := keepA_p h7 (by omega) (by omega)
    have fr := FR.set2 (keepA_TB hB h7) (b := b) hs (p := p) (by rw [km]; omega) (by omega)
    exact h.kp hI (fun i i0 i1 => fr i (by omega)) (fr 7 (by omega)) (by dsimp only; rw [fr 9 (by omega), keepA_lo h7 (by omega) (by omega)]; omega)
  · rw [if_neg q]
    exact h
theorem TK.wet {A X : Int → Int} {f i : Int} (h : TK A) (hi : 0 ≤ i ∧ i ≤ 1) : TK (opWet A X f i).1 := by
  have hI := (opWet_TI (X := X) (f := f) (is := i) h.1).1
  have h7 := h.1.1.2.2.1
  have hB := h.1.1.1
  unfold opWet at hI ⊢
  by_cases q : A 2 = i
  · rw [if_pos q]
    exact h
  · rw [if_neg q] at hI ⊢
    by_cases z : i = 0
    · rw [if_pos z] at hI ⊢
      exact h.kp hI (fun j j0 j1 => by dsimp only; rw [up1_ne (by omega)]) (by dsimp only; rw [up1_ne (by omega)]) (by dsimp only; rw [up1_ne (by omega), keepA_lo h7 (by omega) (by omega)]; omega)
    · rw [if_neg z] at hI ⊢
      have b2 : TB (up1 (keepA A) 2 1) := by
        obtain ⟨b1, b2, b3, b4, b5, b6, b7⟩ := keepA_TB hB h7
        exact ⟨by rw [up1_ne (by omega)]; exact b1, by rw [up1_eq]; omega, by rw [up1_ne (by omega)]; exact b3, by rw [up1_ne (by omega)]; exact b4, by rw [up1_ne (by omega), up1_ne (by omega)]; exact b5, fun j j0 j1 => by rw [up1_ne (by omega)]; exact b6 j j0 j1, fun j j0 j1 => by rw [up1_ne (by omega)]; exact b7 j j0 j1⟩
      have fr := (fallA_ok (X := X) b2).2.1
      exact h.kp hI (fun j j0 j1 => by dsimp only; rw [fr j (by omega), up1_ne (by omega)]) (by dsimp only; rw [fr 7 (by omega), up1_ne (by omega)]) (by dsimp only; rw [fr 9 (by omega), up1_ne (by omega), keepA_lo h7 (by omega) (by omega)]; omega)
/-- doings, one by one -/
def pdD (X : Int → Int) (t : Int) : List Int → (Int → Int) → Int → opR
  | [], A, f => (A, f, -1)
  | k :: ks, A, f => if (opX A X f (705 * t + 1 + 4 * k)).2.2 < 0 then ((opX A X f (705 * t + 1 + 4 * k)).1, (opX A X f (705 * t + 1 + 4 * k)).2.1, k) else pdD X t ks (opX A X f (705 * t + 1 + 4 * k)).1 (opX A X f (705 * t + 1 + 4 * k)).2.1
def dgR (X : Int → Int) (t : Int) : Nat → Int → List Int
  | 0, _ => []
  | n + 1, k => if 4 ≤ X (705 * t + 1 + 4 * k) then k :: dgR X t n (k + 1) else dgR X t n (k + 1)
theorem dg_app {X : Int → Int} {t : Int} : ∀ (n k : Nat), dgL X t k ++ dgR X t n (k : Int) = dgL X t (k + n)
  | 0, k => by unfold dgR; rw [List.append_nil, Nat.add_zero]
  | n + 1, k => by
    have ih := dg_app (X := X) (t := t) n (k + 1)
    rw [show ((k + 1 : Nat) : Int) = (k : Int) + 1 by omega, show k + 1 + n = k + (n + 1) by omega] at ih
    rw [← ih]
    have e1 : dgL X t (k + 1) = dgL X t k ++ (if 4 ≤ X (705 * t + 1 + 4 * k) then [(k : Int)] else []) := rfl
    have e2 : dgR X t (n + 1) (k : Int) = (if 4 ≤ X (705 * t + 1 + 4 * (k : Int)) then (k : Int) :: dgR X t n ((k : Int) + 1) else dgR X t n ((k : Int) + 1)) := rfl
    rw [e1, e2]
    by_cases h : 4 ≤ X (705 * t + 1 + 4 * k)
    · rw [if_pos h, if_pos h, List.append_assoc]
      rfl
    · rw [if_neg h, if_neg h, List.append_nil]
theorem dg_eq {X : Int → Int} {t : Int} (n : Nat) : dgR X t n 0 = dgL X t n := by
  have := dg_app (X := X) (t := t) n 0
  rw [Nat.zero_add] at this
  rw [← this]
  rfl
theorem pdL_D {X : Int → Int} {t : Int} : ∀ (n : Nat) (k : Int) (A : Int → Int) (f : Int), pdL X t n k A f = pdD X t (dgR X t n k) A f
  | 0, _, _, _ => rfl
  | n + 1, k, A, f => by
    unfold pdL dgR
    by_cases h : 4 ≤ X (705 * t + 1 + 4 * k)
    · rw [if_pos h]
      unfold pdD
      rw [pdL_D n (k + 1)]
    · rw [if_neg h]
      have e : opX A X f (705 * t + 1 + 4 * k) = (A, f, 0) := by
        unfold opX
        rw [if_neg (by omega), if_neg (by omega), if_neg (by omega), if_neg (by omega), if_neg (by omega), if_neg (by omega)]
      rw [e]
      dsimp only
      rw [if_neg (by omega)]
      exact pdL_D n (k + 1) A f
