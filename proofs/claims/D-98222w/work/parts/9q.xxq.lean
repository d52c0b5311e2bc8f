/-! ===== plain law: tail and round against the first that comes again ===== -/
-- MODE X
set_option maxRecDepth 100000
theorem inF_spec {st : Int → Int} {n : Int} : ∀ (r : Nat) (e : Int), 2 ≤ e → e % 2 = 0 → 500 < n + e + 2 * r →
    (∃ z, inF st n r e = some z ∧ e ≤ z ∧ z % 2 = 0 ∧ n + z ≤ 500 ∧ st n = st (n + z) ∧ ∀ y, e ≤ y → y < z → y % 2 = 0 → ¬ st n = st (n + y)) ∨ (inF st n r e = none ∧ ∀ y, e ≤ y → y % 2 = 0 → n + y ≤ 500 → ¬ st n = st (n + y))
  | 0, e, _, _, h => Or.inr ⟨rfl, fun y y0 _ y2 => by omega⟩
  | r + 1, e, h2, h3, h => by
    unfold inF
    by_cases c : 500 < n + e
    · rw [if_pos c]
      exact Or.inr ⟨rfl, fun y y0 _ y2 => by omega⟩
    · rw [if_neg c]
      by_cases q : st n = st (n + e)
      · rw [if_pos q]
        exact Or.inl ⟨e, rfl, by omega, h3, by omega, q, fun y y0 y1 => by omega⟩
      · rw [if_neg q]
        have key : ∀ y, e ≤ y → y % 2 = 0 → y = e ∨ e + 2 ≤ y := fun y y0 y1 => by omega
        rcases inF_spec (st := st) (n := n) r (e + 2) (by omega) (by omega) (by omega) with ⟨z, z1, z2, z3, z4, z5, z6⟩ | ⟨z1, z2⟩
        · refine Or.inl ⟨z, z1, by omega, z3, z4, z5, fun y y0 y1 y2 => ?_⟩
          rcases key y y0 y2 with k | k
          · rw [k]; exact q
          · exact z6 y k y1 y2
        · refine Or.inr ⟨z1, fun y y0 y1 y2 => ?_⟩
          rcases key y y0 y1 with k | k
          · rw [k]; exact q
          · exact z2 y k y1 y2
theorem ouF_spec {st : Int → Int} {len : Int} : ∀ (r : Nat) (n : Int), 0 ≤ n → n + r = 501 →
    (∃ i z, ouF st len r n = (if len = 0 then i else z) ∧ n ≤ i ∧ 2 ≤ z ∧ z % 2 = 0 ∧ i + z ≤ 500 ∧ st i = st (i + z) ∧ (∀ y, 2 ≤ y → y < z → y % 2 = 0 → ¬ st i = st (i + y)) ∧ ∀ j, n ≤ j → j < i → ∀ y, 2 ≤ y → y % 2 = 0 → j + y ≤ 500 → ¬ st j = st (j + y)) ∨
    (ouF st len r n = -1 ∧ ∀ j, n ≤ j → ∀ y, 2 ≤ y → y % 2 = 0 → j + y ≤ 500 → ¬ st j = st (j + y))
  | 0, n, _, h => Or.inr ⟨rfl, fun j j0 y y0 _ y2 => by omega⟩
  | r + 1, n, h0, h => by
    unfold ouF
    rcases inF_spec (st := st) (n := n) 260 2 (by omega) (by omega) (by omega) with ⟨z, z1, z2, z3, z4, z5, z6⟩ | ⟨z1, z2⟩
    · rw [z1]
      exact Or.inl ⟨n, z, rfl, by omega, z2, z3, z4, z5, z6, fun j j0 j1 => by omega⟩
    · rw [z1]
      have key : ∀ j, n ≤ j → j = n ∨ n + 1 ≤ j := fun j j0 => by omega
      rcases ouF_spec (st := st) (len := len) r (n + 1) (by omega) (by omega) with ⟨i, z, w1, w2, w3, w4, w5, w6, w7, w8⟩ | ⟨w1, w2⟩
      · refine Or.inl ⟨i, z, w1, by omega, w3, w4, w5, w6, w7, fun j j0 j1 y y0 y1 y2 => ?_⟩
        rcases key j j0 with k | k
        · rw [k] at y2 ⊢; exact z2 y y0 y1 y2
        · exact w8 j k j1 y y0 y1 y2
      · refine Or.inr ⟨w1, fun j j0 y y0 y1 y2 => ?_⟩
        rcases key j j0 with k | k
        · rw [k] at y2 ⊢; exact z2 y y0 y1 y2
        · exact w2 j k y y0 y1 y2
/-- the first that stood alike -/
def seA (S : Int → Int) (n : Int) : Nat → Int → Option Int
  | 0, _ => none
  | r + 1, k => if S k = S n then some k else seA S n r (k + 1)
def roC (S : Int → Int) (len : Int) : Nat → Int → Int
  | 0, _ => -1
  | r + 1, n => match seA S n n.toNat 0 with
    | some k => if len = 0 then k else n - k
    | none => roC S len r (n + 1)
theorem seA_spec {S : Int → Int} {n : Int} : ∀ (r : Nat) (k : Int), k + r = n → (∃ z, seA S n r k = some z ∧ k ≤ z ∧ z < n ∧ S z = S n) ∨ (seA S n r k = none ∧ ∀ j, k ≤ j → j < n → ¬ S j = S n)
  | 0, k, h => Or.inr ⟨rfl, fun j j0 j1 => by omega⟩
  | r + 1, k, h => by
    unfold seA
    by_cases q : S k = S n
    · rw [if_pos q]
      exact Or.inl ⟨k, rfl, by omega, by omega, q⟩
    · rw [if_neg q]
      have key : ∀ j, k ≤ j → j = k ∨ k + 1 ≤ j := fun j j0 => by omega
      rcases seA_spec (S := S) (n := n) r (k + 1) (by omega) with ⟨z, z1, z2, z3, z4⟩ | ⟨z1, z2⟩
      · exact Or.inl ⟨z, z1, by omega, z3, z4⟩
      · refine Or.inr ⟨z1, fun j j0 j1 => ?_⟩
        rcases key j j0 with w | w
        · rw [w]; exact q
        · exact z2 j w j1
theorem roC_spec {S : Int → Int} {len : Int} : ∀ (r : Nat) (n : Int), 0 ≤ n → n + r = 501 →
    (∃ i k, roC S len r n = (if len = 0 then k else i - k) ∧ n ≤ i ∧ i ≤ 500 ∧ 0 ≤ k ∧ k < i ∧ S k = S i ∧ ∀ j, n ≤ j → j < i → ∀ y, 0 ≤ y → y < j → ¬ S y = S j) ∨
    (roC S len r n = -1 ∧ ∀ j, n ≤ j → j ≤ 500 → ∀ y, 0 ≤ y → y < j → ¬ S y = S j)
  | 0, n, _, h => Or.inr ⟨rfl, fun j j0 y y0 => by omega⟩
  | r + 1, n, h0, h => by
    unfold roC
    rcases seA_spec (S := S) (n := n) n.toNat 0 (by omega) with ⟨z, z1, z2, z3, z4⟩ | ⟨z1, z2⟩
    · rw [z1]
      exact Or.inl ⟨n, z, rfl, by omega, by omega, z2, z3, z4, fun j j0 j1 => by omega⟩
    · rw [z1]
      have key : ∀ j, n ≤ j → j = n ∨ n + 1 ≤ j := fun j j0 => by omega
      rcases roC_spec (S := S) (len := len) r (n + 1) (by omega) (by omega) with ⟨i, k, w1, w2, w3, w4, w5, w6, w7⟩ | ⟨w1, w2⟩
      · refine Or.inl ⟨i, k, w1, by omega, w3, w4, w5, w6, fun j j0 j1 y y0 y1 => ?_⟩
        rcases key j j0 with w | w
        · rw [w] at y1 ⊢; exact z2 y y0 y1
        · exact w7 j w j1 y y0 y1
      · refine Or.inr ⟨w1, fun j j0 j1 y y0 y1 => ?_⟩
        rcases key j j0 with w | w
        · rw [w] at y1 ⊢; exact z2 y y0 y1
        · exact w2 j w j1 y y0 y1
theorem per_1 {S : Int → Int} (hd : ∀ i j, 0 ≤ i → 0 ≤ j → S i = S j → S (i + 1) = S (j + 1)) {k n : Int} (k0 : 0 ≤ k) (kn : k < n) (e : S k = S n) : ∀ t : Nat, S (k + t) = S (n + t)
  | 0 => by simpa using e
  | t + 1 => by
    have := hd (k + t) (n + t) (by omega) (by omega) (per_1 hd k0 kn e t)
    rwa [show k + t + 1 = k + (t + 1 : Nat) by omega, show n + t + 1 = n + (t + 1 : Nat) by omega] at this
theorem per_2 {S : Int → Int} (hd : ∀ i j, 0 ≤ i → 0 ≤ j → S i = S j → S (i + 1) = S (j + 1)) {k n : Int} (k0 : 0 ≤ k) (kn : k < n) (e : S k = S n) : ∀ (t : Nat) (x : Int), k ≤ x → x ≤ k + t → ∃ j, k ≤ j ∧ j < n ∧ S j = S x := by
  intro t
  induction t with
  | zero => intro x x0 x1; exact ⟨x, x0, by omega, rfl⟩
  | succ t ih =>
    intro x x0 x1
    by_cases h : x < n
    · exact ⟨x, x0, h, rfl⟩
    · obtain ⟨j, j0, j1, j2⟩ := ih (x - (n - k)) (by omega) (by omega)
      have p := per_1 hd k0 kn e (x - n).toNat
      rw [show k + ((x - n).toNat : Int) = x - (n - k) by omega, show n + ((x - n).toNat : Int) = x by omega] at p
      exact ⟨j, j0, j1, j2.trans p⟩
/-- tail and round -/
theorem round_law {S st : Int → Int} {len : Int} (hd : ∀ i j, 0 ≤ i → 0 ≤ j → S i = S j → S (i + 1) = S (j + 1)) (he : ∀ i j, 0 ≤ i → i < j → j ≤ 500 → (S i = S j ↔ (j - i) % 2 = 0 ∧ st i = st j)) : ouF st len 501 0 = roC S len 501 0 := by
  rcases roC_spec (S := S) (len := len) 501 0 (by omega) (by omega) with ⟨n, k, r1, r2, r3, r4, r5, r6, r7⟩ | ⟨r1, r2⟩
  · have q := (he k n r4 r5 r3).1 r6
    rcases ouF_spec (st := st) (len := len) 501 0 (by omega) (by omega) with ⟨i, z, w1, w2, w3, w4, w5, w6, w7, w8⟩ | ⟨w1, w2⟩
    · have s1 : S i = S (i + z) := (he i (i + z) w2 (by omega) w5).2 ⟨by omega, w6⟩
      have i1 : i ≤ k := by
        by_cases c : i ≤ k
        · exact c
        · exact (w8 k r4 (by omega) (n - k) (by omega) q.1 (by omega) (by rw [show k + (n - k) = n by omega]; exact q.2)).elim
      have i2 : ¬ i < k := by
        intro c
        by_cases c2 : i + z < n
        · exact r7 (i + z) (by omega) c2 i w2 (by omega) s1
        · obtain ⟨j, j0, j1, j2⟩ := per_2 hd r4 r5 r6 (i + z - k).toNat (i + z) (by omega) (by omega)
          exact r7 j (by omega) j1 i w2 (by omega) (s1.trans j2.symm)
      have ik : i = k := by omega
      subst ik
      have z1 : ¬ i + z < n := fun c => r7 (i + z) (by omega) c i w2 (by omega) s1
      have z2 : ¬ n < i + z := fun c => w7 (n - i) (by omega) (by omega) q.1 (by rw [show i + (n - i) = n by omega]; exact q.2)
      rw [w1, r1, show z = n - i by omega]
    · exact (w2 k r4 (n - k) (by omega) q.1 (by omega) (by rw [show k + (n - k) = n by omega]; exact q.2)).elim
  · rcases ouF_spec (st := st) (len := len) 501 0 (by omega) (by omega) with ⟨i, z, w1, w2, w3, w4, w5, w6, w7, w8⟩ | ⟨w1, w2⟩
    · have s1 : S i = S (i + z) := (he i (i + z) w2 (by omega) w5).2 ⟨by omega, w6⟩
      exact (r2 (i + z) (by omega) w5 i w2 (by omega) s1).elim
    · rw [w1, r1]
