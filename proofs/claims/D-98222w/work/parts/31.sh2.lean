/-! ===== shelves: set, exchanged, kept ===== -/
set_option maxRecDepth 100000
theorem SH.ext {A A' : Int → Int} (h : SH A) (e0 : A' 0 = A 0) (e : ∀ i, 13 ≤ i → i < 106 → A' i = A i) (hB : TB A) : SH A' := by
  obtain ⟨ha, hb, hc, hd⟩ := h
  have he := hB.2.2.2.2.2.2
  have hm := hB.2.2.2.2.2.1
  have h0 := hB.1
  have eN : ∀ t, 0 ≤ t → t < 3 → A' (13 + t) = A (13 + t) := fun t h1 h2 => e _ (by omega) (by omega)
  refine ⟨?_, ?_, ?_, ?_⟩
  · intro s p s0 s1 p0 p1
    rw [eN s s0 s1] at p1
    have m := hm (13 + s) (by omega) (by omega)
    have b := he (16 + 10 * s + p) (by omega) (by omega)
    rw [e (16 + 10 * s + p) (by omega) (by omega), e0, e _ (by omega) (by omega)]
    exact ha s p s0 s1 p0 p1
  · intro s p q s0 s1 p0 p1 q0 q1
    rw [eN s s0 s1] at p1 q1
    have m := hm (13 + s) (by omega) (by omega)
    rw [e (16 + 10 * s + p) (by omega) (by omega), e (16 + 10 * s + q) (by omega) (by omega)]
    exact hb s p q s0 s1 p0 p1 q0 q1
  · intro b b0 b1 b2
    rw [e0] at b1
    rw [e (46 + 6 * b + 5) (by omega) (by omega)] at b2 ⊢
    have w0 := (he (46 + 6 * b + 5) (by omega) (by omega)).1
    obtain ⟨p, p0, p1, p2⟩ := hc b b0 b1 b2
    have m := hm (13 + A (46 + 6 * b + 5)) (by omega) (by omega)
    refine ⟨p, p0, by rw [eN _ w0 b2]; exact p1, ?_⟩
    rw [e _ (by omega) (by omega)]
    exact p2
  · rw [e0, outF_congr (A := A) _ (fun b b0 b1 => e _ (by omega) (by omega)), e 13 (by omega) (by omega), e 14 (by omega) (by omega), e 15 (by omega) (by omega)]
    exact hd
theorem setA_0 {A : Int → Int} {s p b : Int} (hs : 0 ≤ s ∧ s < 3) (hp : 0 ≤ p) (hb : 0 ≤ b) : setA A b s p 0 = A 0 := by
  unfold setA shr
  rw [up1_ne (by omega), up1_ne (by omega), up1_ne (by omega), if_neg (by omega)]
theorem setA_n {A : Int → Int} {s p b t : Int} (hs : 0 ≤ s ∧ s < 3) (hp : 0 ≤ p ∧ p ≤ A (13 + s)) (hb : 0 ≤ b) (ht : 0 ≤ t ∧ t < 3) : setA A b s p (13 + t) = if t = s then A (13 + s) + 1 else A (13 + t) := by
  unfold setA shr
  rw [up1_ne (by omega)]
  by_cases e : t = s
  · subst e; rw [up1_eq, if_pos rfl]
  · rw [up1_ne (by omega), up1_ne (by omega), if_neg (by omega), if_neg e]
theorem setA_p {A : Int → Int} {s p b t q : Int} (hs : 0 ≤ s ∧ s < 3) (hp : 0 ≤ p ∧ p ≤ A (13 + s)) (hm : A (13 + s) < 10) (hb : 0 ≤ b) (ht : 0 ≤ t ∧ t < 3) (hq : 0 ≤ q ∧ q < 10) : setA A b s p (16 + 10 * t + q) = if t = s ∧ q = p then b else if t = s ∧ p < q ∧ q ≤ A (13 + s) then A (16 + 10 * s + (q - 1)) else A (16 + 10 * t + q) := by
  unfold setA shr
  rw [up1_ne (by omega), up1_ne (by omega)]
  by_cases e : t = s ∧ q = p
  · obtain ⟨e1, e2⟩ := e
    subst e1 e2
    rw [up1_eq, if_pos ⟨rfl, rfl⟩]
  · rw [if_neg e, up1_ne (by omega)]
    by_cases e2 : t = s ∧ p < q ∧ q ≤ A (13 + s)
    · obtain ⟨e1, e2, e3⟩ := e2
      subst e1
      rw [if_pos (by omega), if_pos ⟨rfl, e2, e3⟩, show 16 + 10 * t + q - 1 = 16 + 10 * t + (q - 1) by omega]
    · rw [if_neg e2, if_neg (by omega)]
theorem setA_w {A : Int → Int} {s p b c : Int} (hs : 0 ≤ s ∧ s < 3) (hp : 0 ≤ p ∧ p ≤ A (13 + s)) (hm : A (13 + s) < 10) (hb : 0 ≤ b) (hc : 0 ≤ c) : setA A b s p (46 + 6 * c + 5) = if c = b then s else A (46 + 6 * c + 5) := by
  unfold setA shr
  by_cases e : c = b
  · subst e; rw [up1_eq, if_pos rfl]
  · rw [up1_ne (by omega), up1_ne (by omega), up1_ne (by omega), if_neg (by omega), if_neg e]
theorem setA_o {A : Int → Int} {s p b c w : Int} (hs : 0 ≤ s ∧ s < 3) (hp : 0 ≤ p ∧ p ≤ A (13 + s)) (hm : A (13 + s) < 10) (hb : 0 ≤ b) (hc : 0 ≤ c) (hw : 0 ≤ w ∧ w < 5) : setA A b s p (46 + 6 * c + w) = A (46 + 6 * c + w) := by
  unfold setA shr
  rw [up1_ne (by omega), up1_ne (by omega), up1_ne (by omega), if_neg (by omega)]
/-- a book that is on no shelf leaves room -/
theorem SH.room {A : Int → Int} (h : SH A) (hB : TB A) {b s : Int} (hb : 0 ≤ b ∧ b < A 0) (hw : 3 ≤ A (46 + 6 * b + 5)) (hs : 0 ≤ s ∧ s < 3) : A (13 + s) < 10 := by
  have hm := hB.2.2.2.2.2.1
  have h0 := hB.1
  have o := outF_pos hb.1 hw (A 0).toNat (by omega)
  have d := h.2.2.2
  have m0 := hm 13 (by omega) (by omega)
  have m1 := hm 14 (by omega) (by omega)
  have m2 := hm 15 (by omega) (by omega)
  have : s = 0 ∨ s = 1 ∨ s = 2 := by omega
  rcases this with rfl | rfl | rfl <;> simp only [Int.reduceAdd, Int.add_zero] <;> omega
theorem SH.set {A : Int → Int} (h : SH A) (hB : TB A) {b s p : Int} (hs : 0 ≤ s ∧ s < 3) (hp : 0 ≤ p ∧ p ≤ A (13 + s)) (hbk : 0 ≤ b ∧ b < A 0) (hw : 3 ≤ A (46 + 6 * b + 5)) : SH (setA A b s p) := by
  have room := h.room hB hbk hw hs
  obtain ⟨ha, hb, hc, hd⟩ := h
  have hm : ∀ t, 0 ≤ t → t < 3 → 0 ≤ A (13 + t) ∧ A (13 + t) ≤ 10 := fun t h1 h2 => hB.2.2.2.2.2.1 (13 + t) (by omega) (by omega)
  have he := hB.2.2.2.2.2.2
  have h0 := hB.1
  have ms := hm s hs.1 hs.2
  have e0 := setA_0 (A := A) hs hp.1 hbk.1
  have eN : ∀ t, 0 ≤ t ∧ t < 3 → setA A b s p (13 + t) = if t = s then A (13 + s) + 1 else A (13 + t) := fun t ht => setA_n hs hp hbk.1 ht
  have eP : ∀ t q, 0 ≤ t ∧ t < 3 → 0 ≤ q ∧ q < 10 → setA A b s p (16 + 10 * t + q) = if t = s ∧ q = p then b else if t = s ∧ p < q ∧ q ≤ A (13 + s) then A (16 + 10 * s + (q - 1)) else A (16 + 10 * t + q) := fun t q ht hq => setA_p hs hp room hbk.1 ht hq
  have eW : ∀ c, 0 ≤ c → setA A b s p (46 + 6 * c + 5) = if c = b then s else A (46 + 6 * c + 5) := fun c hc => setA_w hs hp room hbk.1 hc
  have nb : ∀ t q, 0 ≤ t → t < 3 → 0 ≤ q → q < A (13 + t) → ¬ A (16 + 10 * t + q) = b := by
    intro t q t0 t1 q0 q1 e
    have := (ha t q t0 t1 q0 q1).2
    rw [e] at this
    omega
  have src : ∀ t q, 0 ≤ t → t < 3 → 0 ≤ q → q < setA A b s p (13 + t) → (t = s ∧ q = p ∧ setA A b s p (16 + 10 * t + q) = b) ∨ (∃ q', 0 ≤ q' ∧ q' < A (13 + t) ∧ setA A b s p (16 + 10 * t + q) = A (16 + 10 * t + q') ∧ (t = s → ¬ q = p ∧ q' = if q < p then q else q - 1) ∧ (¬ t = s → q' = q)) := by
    intro t q t0 t1 q0 q1
    rw [eN t ⟨t0, t1⟩] at q1
    have mt := hm t t0 t1
    by_cases e : t = s
    · subst e
      rw [if_pos rfl] at q1
      rw [eP t q ⟨t0, t1⟩ ⟨q0, by omega⟩]
      by_cases l : q = p
      · rw [if_pos ⟨rfl, l⟩]
        exact Or.inl ⟨rfl, l, rfl⟩
      · rw [if_neg (by omega)]
        refine Or.inr ?_
        by_cases l2 : q < p
        · rw [if_neg (by omega)]
          exact ⟨q, by omega, by omega, rfl, fun _ => ⟨l, by rw [if_pos l2]⟩, fun h => absurd rfl h⟩
        · rw [if_pos ⟨rfl, by omega, by omega⟩]
          exact ⟨q - 1, by omega, by omega, rfl, fun _ => ⟨l, by rw [if_neg l2]⟩, fun h => absurd rfl h⟩
    · rw [if_neg e] at q1
      rw [eP t q ⟨t0, t1⟩ ⟨q0, by omega⟩, if_neg (by omega), if_neg (by omega)]
      exact Or.inr ⟨q, q0, q1, rfl, fun h => absurd h e, fun _ => rfl⟩
  refine ⟨?_, ?_, ?_, ?_⟩
  · intro t q t0 t1 q0 q1
    rcases src t q t0 t1 q0 q1 with ⟨k0, k1, k2⟩ | ⟨q', k0, k1, k2, -, -⟩
    · rw [k2, e0, eW b hbk.1, if_pos rfl]
      exact ⟨hbk.2, k0.symm⟩
    · have mt := hm t t0 t1
      have hge := (he (16 + 10 * t + q') (by omega) (by omega)).1
      rw [k2, e0, eW _ hge, if_neg (nb t q' t0 t1 k0 k1)]
      exact ha t q' t0 t1 k0 k1
  · intro t q1 q2 t0 t1 a0 a1 c0 c1 e
    rcases src t q1 t0 t1 a0 a1 with ⟨k0, k1, k2⟩ | ⟨q1', k0, k1, k2, k3, k4⟩
    · rcases src t q2 t0 t1 c0 c1 with ⟨l0, l1, l2⟩ | ⟨q2', l0, l1, l2, l3, l4⟩
      · omega
      · rw [k2, l2] at e
        exact absurd e.symm (nb t q2' t0 t1 l0 l1)
    · rcases src t q2 t0 t1 c0 c1 with ⟨l0, l1, l2⟩ | ⟨q2', l0, l1, l2, l3, l4⟩
      · rw [k2, l2] at e
        exact absurd e (nb t q1' t0 t1 k0 k1)
      · rw [k2, l2] at e
        have := hb t q1' q2' t0 t1 k0 k1 l0 l1 e
        by_cases ts : t = s
        · have x1 := k3 ts
          have x2 := l3 ts
          have y1 := x1.2
          have y2 := x2.2
          split at y1 <;> split at y2 <;> omega
        · have x1 := k4 ts
          have x2 := l4 ts
          omega
  · intro c c0 c1 c2
    rw [e0] at c1
    rw [eW c c0] at c2 ⊢
    by_cases e : c = b
    · rw [if_pos e] at c2 ⊢
      refine ⟨p, hp.1, ?_, ?_⟩
      · rw [eN s hs, if_pos rfl]; omega
      · rw [eP s p hs ⟨hp.1, by omega⟩, if_pos ⟨rfl, rfl⟩]; exact e.symm
    · rw [if_neg e] at c2 ⊢
      obtain ⟨q, q0, q1, q2⟩ := hc c c0 c1 c2
      have w0 := (he (46 + 6 * c + 5) (by omega) (by omega)).1
      generalize A (46 + 6 * c + 5) = t at *
      have mt := hm t w0 c2
      rw [eN t ⟨w0, c2⟩]
      by_cases ts : t = s
      · subst ts
        rw [if_pos rfl]
        by_cases l : q < p
        · refine ⟨q, q0, by omega, ?_⟩
          rw [eP t q ⟨w0, c2⟩ ⟨q0, by omega⟩, if_neg (by omega), if_neg (by omega)]
          exact q2
        · refine ⟨q + 1, by omega, by omega, ?_⟩
          rw [eP t (q + 1) ⟨w0, c2⟩ ⟨by omega, by omega⟩, if_neg (by omega), if_pos ⟨rfl, by omega, by omega⟩, show q + 1 - 1 = q by omega]
          exact q2
      · rw [if_neg ts]
        refine ⟨q, q0, q1, ?_⟩
        rw [eP t q ⟨w0, c2⟩ ⟨q0, by omega⟩, if_neg (by omega), if_neg (by omega)]
        exact q2
  · rw [e0]
    have o := outF_up (A := A) (A' := setA A b s p) hbk.1 (A 0).toNat (by omega) (fun c c0 c1 cn => by rw [eW c c0, if_neg cn])
    rw [eW _ hbk.1, if_pos rfl, if_neg (by omega), if_pos hw] at o
    have n0 := eN 0 (by omega)
    have n1 := eN 1 (by omega)
    have n2 := eN 2 (by omega)
    simp only [Int.reduceAdd, Int.add_zero] at n0 n1 n2
    have : s = 0 ∨ s = 1 ∨ s = 2 := by omega
    rcases this with rfl | rfl | rfl
    · simp at n0 n1 n2; omega
    · simp at n0 n1 n2; omega
    · simp at n0 n1 n2; omega
theorem excA_p {A : Int → Int} {s p t q : Int} (hs : 0 ≤ s ∧ s < 3) (hp : 0 ≤ p ∧ p < 9) (ht : 0 ≤ t ∧ t < 3) (hq : 0 ≤ q ∧ q < 10) : excA A s p (16 + 10 * t + q) = if t = s ∧ q = p then A (16 + 10 * s + (p + 1)) else if t = s ∧ q = p + 1 then A (16 + 10 * s + p) else A (16 + 10 * t + q) := by
  unfold excA
  by_cases e2 : t = s ∧ q = p + 1
  · obtain ⟨e1, e2⟩ := e2
    subst e1 e2
    rw [up1_eq, if_neg (by omega), if_pos ⟨rfl, rfl⟩]
  · rw [up1_ne (by omega)]
    by_cases e : t = s ∧ q = p
    · obtain ⟨e1, e3⟩ := e
      subst e1 e3
      rw [up1_eq, if_pos ⟨rfl, rfl⟩]
    · rw [up1_ne (by omega), if_neg e, if_neg e2]
theorem excA_o {A : Int → Int} {s p i : Int} (hs : 0 ≤ s ∧ s < 3) (hp : 0 ≤ p ∧ p < 9) (hi : i < 16 ∨ 46 ≤ i) : excA A s p i = A i := by
  unfold excA
  rw [up1_ne (by omega), up1_ne (by omega)]
theorem SH.exc {A : Int → Int} (h : SH A) (hB : TB A) {s p : Int} (hs : 0 ≤ s ∧ s < 3) (hp : 0 ≤ p ∧ p + 1 < A (13 + s)) : SH (excA A s p) := by
  obtain ⟨ha, hb, hc, hd⟩ := h
  have hm : ∀ t, 0 ≤ t → t < 3 → 0 ≤ A (13 + t) ∧ A (13 + t) ≤ 10 := fun t h1 h2 => hB.2.2.2.2.2.1 (13 + t) (by omega) (by omega)
  have he := hB.2.2.2.2.2.2
  have h0 := hB.1
  have ms := hm s hs.1 hs.2
  have eO : ∀ i, (i < 16 ∨ 46 ≤ i) → excA A s p i = A i := fun i hi => excA_o hs (by omega) hi
  have eP : ∀ t q, 0 ≤ t ∧ t < 3 → 0 ≤ q ∧ q < 10 → excA A s p (16 + 10 * t + q) = if t = s ∧ q = p then A (16 + 10 * s + (p + 1)) else if t = s ∧ q = p + 1 then A (16 + 10 * s + p) else A (16 + 10 * t + q) := fun t q ht hq => excA_p hs (by omega) ht hq
  -- the same places, two of them changed
  have src : ∀ t q, 0 ≤ t → t < 3 → 0 ≤ q → q < A (13 + t) → ∃ q', 0 ≤ q' ∧ q' < A (13 + t) ∧ excA A s p (16 + 10 * t + q) = A (16 + 10 * t + q') ∧ (t = s → q' = if q = p then p + 1 else if q = p + 1 then p else q) ∧ (¬ t = s → q' = q) := by
    intro t q t0 t1 q0 q1
    have mt := hm t t0 t1
    rw [eP t q ⟨t0, t1⟩ ⟨q0, by omega⟩]
    by_cases e : t = s
    · subst e
      by_cases l : q = p
      · rw [if_pos ⟨rfl, l⟩]
        exact ⟨p + 1, by omega, by omega, rfl, fun _ => by rw [if_pos l], fun h => absurd rfl h⟩
      · rw [if_neg (by omega)]
        by_cases l2 : q = p + 1
        · rw [if_pos ⟨rfl, l2⟩]
          exact ⟨p, by omega, by omega, rfl, fun _ => by rw [if_neg l, if_pos l2], fun h => absurd rfl h⟩
        · rw [if_neg (by omega)]
          exact ⟨q, by omega, by omega, rfl, fun _ => by rw [if_neg l, if_neg l2], fun h => absurd rfl h⟩
    · rw [if_neg (by omega), if_neg (by omega)]
      exact ⟨q, q0, q1, rfl, fun h => absurd h e, fun _ => rfl⟩
  refine ⟨?_, ?_, ?_, ?_⟩
  · intro t q t0 t1 q0 q1
    rw [eO _ (by omega)] at q1
    obtain ⟨q', k0, k1, k2, -, -⟩ := src t q t0 t1 q0 q1
    have mt := hm t t0 t1
    have hge := (he (16 + 10 * t + q') (by omega) (by omega)).1
    rw [k2, eO 0 (by omega), eO _ (by omega)]
    exact ha t q' t0 t1 k0 k1
  · intro t q1 q2 t0 t1 a0 a1 c0 c1 e
    rw [eO _ (by omega)] at a1 c1
    obtain ⟨q1', k0, k1, k2, k3, k4⟩ := src t q1 t0 t1 a0 a1
    obtain ⟨q2', l0, l1, l2, l3, l4⟩ := src t q2 t0 t1 c0 c1
    rw [k2, l2] at e
    have := hb t q1' q2' t0 t1 k0 k1 l0 l1 e
    by_cases ts : t = s
    · have x1 := k3 ts
      have x2 := l3 ts
      by_cases a : q1 = p
      · rw [if_pos a] at x1
        by_cases c : q2 = p
        · omega
        · rw [if_neg c] at x2
          split at x2 <;> omega
      · rw [if_neg a] at x1
        by_cases c : q2 = p
        · rw [if_pos c] at x2
          split at x1 <;> omega
        · rw [if_neg c] at x2
          split at x1 <;> split at x2 <;> omega
    · have x1 := k4 ts
      have x2 := l4 ts
      omega
  · intro b b0 b1 b2
    rw [eO 0 (by omega)] at b1
    rw [eO (46 + 6 * b + 5) (by omega)] at b2 ⊢
    obtain ⟨q, q0, q1, q2⟩ := hc b b0 b1 b2
    have w0 := (he (46 + 6 * b + 5) (by omega) (by omega)).1
    generalize A (46 + 6 * b + 5) = t at *
    have mt := hm t w0 b2
    rw [eO (13 + t) (by omega)]
    by_cases ts : t = s
    · subst ts
      by_cases l : q = p
      · refine ⟨p + 1, by omega, by omega, ?_⟩
        rw [eP t (p + 1) ⟨w0, b2⟩ ⟨by omega, by omega⟩, if_neg (by omega), if_pos ⟨rfl, rfl⟩, ← l]
        exact q2
      · by_cases l2 : q = p + 1
        · refine ⟨p, by omega, by omega, ?_⟩
          rw [eP t p ⟨w0, b2⟩ ⟨by omega, by omega⟩, if_pos ⟨rfl, rfl⟩, ← l2]
          exact q2
        · refine ⟨q, by omega, by omega, ?_⟩
          rw [eP t q ⟨w0, b2⟩ ⟨by omega, by omega⟩, if_neg (by omega), if_neg (by omega)]
          exact q2
    · refine ⟨q, q0, q1, ?_⟩
      rw [eP t q ⟨w0, b2⟩ ⟨q0, by omega⟩, if_neg (by omega), if_neg (by omega)]
      exact q2
  · rw [eO 0 (by omega), outF_congr (A := A) _ (fun b b0 b1 => eO _ (by omega)), eO 13 (by omega), eO 14 (by omega), eO 15 (by omega)]
    exact hd
