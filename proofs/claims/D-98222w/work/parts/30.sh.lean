/-! ===== shelves and books fit each other ===== -/
set_option maxRecDepth 100000
def outF (A : Int → Int) : Nat → Int
  | 0 => 0
  | n + 1 => outF A n + (if 3 ≤ A (46 + 6 * n + 5) then 1 else 0)
theorem outF_bd {A : Int → Int} : ∀ n : Nat, 0 ≤ outF A n ∧ outF A n ≤ n
  | 0 => by unfold outF; omega
  | n + 1 => by
    have := outF_bd (A := A) n
    unfold outF
    split <;> omega
theorem outF_congr {A A' : Int → Int} : ∀ n : Nat, (∀ b : Int, 0 ≤ b → b < n → A' (46 + 6 * b + 5) = A (46 + 6 * b + 5)) → outF A' n = outF A n
  | 0, _ => rfl
  | n + 1, h => by
    unfold outF
    rw [outF_congr n (fun b h0 h1 => h b h0 (by omega)), h n (by omega) (by omega)]
theorem outF_up {A A' : Int → Int} {b : Int} (h0 : 0 ≤ b) : ∀ n : Nat, b < n → (∀ c : Int, 0 ≤ c → c < n → c ≠ b → A' (46 + 6 * c + 5) = A (46 + 6 * c + 5)) →
    outF A' n = outF A n + (if 3 ≤ A' (46 + 6 * b + 5) then 1 else 0) - (if 3 ≤ A (46 + 6 * b + 5) then 1 else 0)
  | 0, h, _ => by omega
  | n + 1, h, hc => by
    unfold outF
    by_cases e : b = n
    · subst e
      rw [outF_congr n (fun c h1 h2 => hc c h1 (by omega) (by omega))]
      omega
    · rw [outF_up h0 n (by omega) (fun c h1 h2 h3 => hc c h1 (by omega) h3), hc n (by omega) (by omega) (by omega)]
      omega
theorem outF_pos {A : Int → Int} {b : Int} (h0 : 0 ≤ b) (h3 : 3 ≤ A (46 + 6 * b + 5)) : ∀ n : Nat, b < n → 1 ≤ outF A n
  | 0, h => by omega
  | n + 1, h => by
    have := outF_bd (A := A) n
    unfold outF
    by_cases e : b = n
    · subst e; rw [if_pos h3]; omega
    · have := outF_pos h0 h3 n (by omega)
      split <;> omega
def SH (A : Int → Int) : Prop :=
  (∀ s p, 0 ≤ s → s < 3 → 0 ≤ p → p < A (13 + s) → A (16 + 10 * s + p) < A 0 ∧ A (46 + 6 * A (16 + 10 * s + p) + 5) = s) ∧
  (∀ s p q, 0 ≤ s → s < 3 → 0 ≤ p → p < A (13 + s) → 0 ≤ q → q < A (13 + s) → A (16 + 10 * s + p) = A (16 + 10 * s + q) → p = q) ∧
  (∀ b, 0 ≤ b → b < A 0 → A (46 + 6 * b + 5) < 3 → ∃ p, 0 ≤ p ∧ p < A (13 + A (46 + 6 * b + 5)) ∧ A (16 + 10 * A (46 + 6 * b + 5) + p) = b) ∧
  A 13 + A 14 + A 15 + outF A (A 0).toNat = A 0
theorem pullA_0 {A : Int → Int} {s p to : Int} (hs : 0 ≤ s ∧ s < 3) (hp : 0 ≤ p ∧ p < A (13 + s)) (hm : A (13 + s) ≤ 10) (hb : 0 ≤ A (16 + 10 * s + p)) : pullA A s p to 0 = A 0 := by
  unfold pullA shl
  rw [if_neg (by omega), up1_ne (by omega), up1_ne (by omega)]
theorem pullA_n {A : Int → Int} {s p to t : Int} (hs : 0 ≤ s ∧ s < 3) (hp : 0 ≤ p ∧ p < A (13 + s)) (hm : A (13 + s) ≤ 10) (hb : 0 ≤ A (16 + 10 * s + p)) (ht : 0 ≤ t ∧ t < 3) : pullA A s p to (13 + t) = if t = s then A (13 + s) - 1 else A (13 + t) := by
  unfold pullA shl
  rw [if_neg (by omega)]
  by_cases e : t = s
  · subst e; rw [up1_eq, if_pos rfl]
  · rw [up1_ne (by omega), up1_ne (by omega), if_neg e]
theorem pullA_p {A : Int → Int} {s p to t q : Int} (hs : 0 ≤ s ∧ s < 3) (hp : 0 ≤ p ∧ p < A (13 + s)) (hm : A (13 + s) ≤ 10) (hb : 0 ≤ A (16 + 10 * s + p)) (ht : 0 ≤ t ∧ t < 3) (hq : 0 ≤ q ∧ q < 10) : pullA A s p to (16 + 10 * t + q) = if t = s ∧ p ≤ q ∧ q < A (13 + s) - 1 then A (16 + 10 * s + (q + 1)) else A (16 + 10 * t + q) := by
  unfold pullA shl
  by_cases e : t = s ∧ p ≤ q ∧ q < A (13 + s) - 1
  · obtain ⟨e1, e2, e3⟩ := e
    subst e1
    rw [if_pos (by omega), if_pos ⟨rfl, e2, e3⟩, up1_ne (by omega), up1_ne (by omega), show 16 + 10 * t + q + 1 = 16 + 10 * t + (q + 1) by omega]
  · rw [if_neg e, if_neg (by omega), up1_ne (by omega), up1_ne (by omega)]
theorem pullA_w {A : Int → Int} {s p to b : Int} (hs : 0 ≤ s ∧ s < 3) (hp : 0 ≤ p ∧ p < A (13 + s)) (hm : A (13 + s) ≤ 10) (hb : 0 ≤ b) : pullA A s p to (46 + 6 * b + 5) = if b = A (16 + 10 * s + p) then to else A (46 + 6 * b + 5) := by
  unfold pullA shl
  rw [if_neg (by omega), up1_ne (by omega)]
  by_cases e : b = A (16 + 10 * s + p)
  · rw [if_pos e, ← e, up1_eq]
  · rw [if_neg e, up1_ne (by omega)]
/-- other things of books -/
theorem pullA_o {A : Int → Int} {s p to b w : Int} (hs : 0 ≤ s ∧ s < 3) (hp : 0 ≤ p ∧ p < A (13 + s)) (hm : A (13 + s) ≤ 10) (hb : 0 ≤ b) (hw : 0 ≤ w ∧ w < 5) : pullA A s p to (46 + 6 * b + w) = A (46 + 6 * b + w) := by
  unfold pullA shl
  rw [if_neg (by omega), up1_ne (by omega), up1_ne (by omega)]
theorem SH.pull {A : Int → Int} (h : SH A) (hB : TB A) {s p to : Int} (hs : 0 ≤ s ∧ s < 3) (hp : 0 ≤ p ∧ p < A (13 + s)) (ht : 3 ≤ to) : SH (pullA A s p to) := by
  obtain ⟨ha, hb, hc, hd⟩ := h
  have hm : ∀ t, 0 ≤ t → t < 3 → 0 ≤ A (13 + t) ∧ A (13 + t) ≤ 10 := fun t h1 h2 => hB.2.2.2.2.2.1 (13 + t) (by omega) (by omega)
  have he := hB.2.2.2.2.2.2
  have h0 := hB.1
  have ms := hm s hs.1 hs.2
  have b0 : 0 ≤ A (16 + 10 * s + p) := (he _ (by omega) (by omega)).1
  have e0 := pullA_0 (to := to) hs hp ms.2 b0
  have eN : ∀ t, 0 ≤ t ∧ t < 3 → pullA A s p to (13 + t) = if t = s then A (13 + s) - 1 else A (13 + t) := fun t ht => pullA_n hs hp ms.2 b0 ht
  have eP : ∀ t q, 0 ≤ t ∧ t < 3 → 0 ≤ q ∧ q < 10 → pullA A s p to (16 + 10 * t + q) = if t = s ∧ p ≤ q ∧ q < A (13 + s) - 1 then A (16 + 10 * s + (q + 1)) else A (16 + 10 * t + q) := fun t q ht hq => pullA_p hs hp ms.2 b0 ht hq
  have eW : ∀ b, 0 ≤ b → pullA A s p to (46 + 6 * b + 5) = if b = A (16 + 10 * s + p) then to else A (46 + 6 * b + 5) := fun b hb => pullA_w hs hp ms.2 hb
  have hsp := ha s p hs.1 hs.2 hp.1 hp.2
  -- where a place comes from
  have src : ∀ t q, 0 ≤ t → t < 3 → 0 ≤ q → q < pullA A s p to (13 + t) → ∃ q', 0 ≤ q' ∧ q' < A (13 + t) ∧ pullA A s p to (16 + 10 * t + q) = A (16 + 10 * t + q') ∧ ¬ (t = s ∧ q' = p) ∧ (t = s → q' = if q < p then q else q + 1) ∧ (¬ t = s → q' = q) := by
    intro t q t0 t1 q0 q1
    rw [eN t ⟨t0, t1⟩] at q1
    have mt := hm t t0 t1
    by_cases e : t = s
    · subst e
      rw [if_pos rfl] at q1
      rw [eP t q ⟨t0, t1⟩ ⟨q0, by omega⟩]
      by_cases l : q < p
      · rw [if_neg (by omega)]
        exact ⟨q, by omega, by omega, rfl, by omega, fun _ => by rw [if_pos l], fun h => absurd rfl h⟩
      · rw [if_pos ⟨rfl, by omega, by omega⟩]
        exact ⟨q + 1, by omega, by omega, rfl, by omega, fun _ => by rw [if_neg l], fun h => absurd rfl h⟩
    · rw [if_neg e] at q1
      rw [eP t q ⟨t0, t1⟩ ⟨q0, by omega⟩, if_neg (by omega)]
      exact ⟨q, q0, q1, rfl, fun h => e h.1, fun h => absurd h e, fun _ => rfl⟩
  refine ⟨?_, ?_, ?_, ?_⟩
  · intro t q t0 t1 q0 q1
    obtain ⟨q', k0, k1, k2, k3, -, -⟩ := src t q t0 t1 q0 q1
    have hA := ha t q' t0 t1 k0 k1
    have mt := hm t t0 t1
    have hge := (he (16 + 10 * t + q') (by omega) (by omega)).1
    rw [k2, e0, eW _ hge]
    have ne : ¬ A (16 + 10 * t + q') = A (16 + 10 * s + p) := by
      intro e
      have : t = s := by rw [← hA.2, e, hsp.2]
      subst this
      exact k3 ⟨rfl, hb t q' p t0 t1 k0 k1 hp.1 hp.2 e⟩
    rw [if_neg ne]
    exact hA
  · intro t q1 q2 t0 t1 a0 a1 c0 c1 e
    obtain ⟨q1', k0, k1, k2, k3, k4, k5⟩ := src t q1 t0 t1 a0 a1
    obtain ⟨q2', l0, l1, l2, l3, l4, l5⟩ := src t q2 t0 t1 c0 c1
    rw [k2, l2] at e
    have := hb t q1' q2' t0 t1 k0 k1 l0 l1 e
    by_cases ts : t = s
    · have x1 := k4 ts
      have x2 := l4 ts
      split at x1 <;> split at x2 <;> omega
    · have x1 := k5 ts
      have x2 := l5 ts
      omega
  · intro b b0 b1 b2
    rw [e0] at b1
    rw [eW b b0] at b2 ⊢
    by_cases e : b = A (16 + 10 * s + p)
    · rw [if_pos e] at b2; omega
    · rw [if_neg e] at b2 ⊢
      obtain ⟨q, q0, q1, q2⟩ := hc b b0 b1 b2
      have w0 := (he (46 + 6 * b + 5) (by omega) (by omega)).1
      generalize A (46 + 6 * b + 5) = t at *
      have mt := hm t w0 b2
      rw [eN t ⟨w0, b2⟩]
      by_cases ts : t = s
      · subst ts
        rw [if_pos rfl]
        have qp : ¬ q = p := fun h => e (by rw [← q2, h])
        by_cases l : q < p
        · refine ⟨q, q0, by omega, ?_⟩
          rw [eP t q ⟨w0, b2⟩ ⟨q0, by omega⟩, if_neg (by omega)]
          exact q2
        · refine ⟨q - 1, by omega, by omega, ?_⟩
          rw [eP t (q - 1) ⟨w0, b2⟩ ⟨by omega, by omega⟩, if_pos ⟨rfl, by omega, by omega⟩, show q - 1 + 1 = q by omega]
          exact q2
      · rw [if_neg ts]
        refine ⟨q, q0, q1, ?_⟩
        rw [eP t q ⟨w0, b2⟩ ⟨q0, by omega⟩, if_neg (by omega)]
        exact q2
  · rw [e0]
    have o := outF_up (A := A) (A' := pullA A s p to) b0 (A 0).toNat (by omega) (fun c c0 c1 cn => by rw [eW c c0, if_neg cn])
    rw [eW _ b0, if_pos rfl, hsp.2, if_pos ht, if_neg (by omega)] at o
    have n0 := eN 0 (by omega)
    have n1 := eN 1 (by omega)
    have n2 := eN 2 (by omega)
    simp only [Int.reduceAdd, Int.add_zero] at n0 n1 n2
    have : s = 0 ∨ s = 1 ∨ s = 2 := by omega
    rcases this with rfl | rfl | rfl
    · simp at n0 n1 n2; omega
    · simp at n0 n1 n2; omega
    · simp at n0 n1 n2; omega
