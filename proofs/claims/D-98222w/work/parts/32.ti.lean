/-! ===== what stays sound: the shelves, the count of pushes ===== -/
set_option maxRecDepth 100000
theorem SH.FC {A A' : Int → Int} (h : SH A) (hB : TB A) (e0 : A' 0 = A 0) (hf : ∀ i, 13 ≤ i → i < 106 → A' i = A i) : SH A' := h.ext e0 hf hB
theorem chA_SH {A X : Int → Int} {s p : Int} (h : SH A) (hB : TB A) (h9 : 0 ≤ A 9) (hs : 0 ≤ s ∧ s < 3) (hp : 0 ≤ p ∧ p + 1 < A (13 + s)) : SH (chA A X s p) := by
  have hm := hB.2.2.2.2.2.1 (13 + s) (by omega) (by omega)
  unfold chA
  split
  · exact h
  · have hw : SH (chW A X s (A (16 + 10 * s + p)) (A (16 + 10 * s + (p + 1)))) := h.ext (chW_lo h9 (by omega) (by omega)) (fun i h1 h2 => chW_lo h9 (by omega) (by omega)) hB
    refine hw.exc (chW_TB hB h9) hs ⟨hp.1, ?_⟩
    rw [chW_lo h9 (by omega) (by omega)]
    exact hp.2
theorem chL_SH {X : Int → Int} {s : Int} (hs : 0 ≤ s ∧ s < 3) : ∀ (k : Nat) (p n : Int) (A : Int → Int), SH A → TB A → 0 ≤ A 9 → 0 ≤ p → SH (chL X s k p n A).1 ∧ (chL X s k p n A).1 9 ≤ A 9 + (if p < A (13 + s) then A (13 + s) - p else 0)
  | 0, p, n, A, h, hB, h9, hp => by
    unfold chL
    exact ⟨h, by dsimp only; split <;> omega⟩
  | k + 1, p, n, A, h, hB, h9, hp => by
    have hm := hB.2.2.2.2.2.1 (13 + s) (by omega) (by omega)
    unfold chL
    split
    · exact ⟨h, by dsimp only; split <;> omega⟩
    · rename_i q
      have q9 := chA_9 (A := A) (X := X) (s := s) (p := p) hs (by omega)
      have b := chL_SH hs k (p + 2) (n + chN A X s p) (chA A X s p) (chA_SH h hB h9 hs (by omega)) (chA_TB hB h9 hs (by omega)) (by omega) (by omega) (X := X)
      refine ⟨b.1, ?_⟩
      have b2 := b.2
      rw [chA_lo (i := 13 + s) h9 hs (by omega) (by omega) (by omega)] at b2
      split at b2 <;> split <;> omega
theorem ffL_SH {X : Int → Int} {k s m : Int} (hs : 0 ≤ s ∧ s < 3) : ∀ (n : Nat) (p gn : Int) (A : Int → Int), SH A → TB A → 0 ≤ gn → gn ≤ p → p + n = m → A (13 + s) = m - gn → SH (ffL X k s m n p gn A).1
  | 0, p, gn, A, h, hB, h0, h1, h2, h3 => by unfold ffL; exact h
  | n + 1, p, gn, A, h, hB, h0, h1, h2, h3 => by
    unfold ffL
    split
    · exact ffL_SH hs n (p + 1) gn A h hB h0 (by omega) (by omega) h3
    · have q : 0 ≤ p - gn ∧ p - gn < A (13 + s) := by omega
      exact ffL_SH hs n (p + 1) (gn + 1) (pullA A s (p - gn) 4) (h.pull hB hs q (by omega)) (hB.pull hs q (by omega)) (by omega) (by omega) (by omega) (by rw [pullA_m hB hs q]; omega)
theorem ffW_SH {X : Int → Int} {s : Int} (hs : 0 ≤ s ∧ s < 3) : ∀ (n : Nat) (gn : Int) (A : Int → Int), SH A → TB A → A (13 + s) = n → SH (ffW X s n gn A).1
  | 0, gn, A, h, hB, h3 => by unfold ffW; exact h
  | n + 1, gn, A, h, hB, h3 => by
    unfold ffW
    split
    · exact h
    · have q : 0 ≤ A (13 + s) - 1 ∧ A (13 + s) - 1 < A (13 + s) := by omega
      exact ffW_SH hs n (gn + 1) (pullA A s (A (13 + s) - 1) 4) (h.pull hB hs q (by omega)) (hB.pull hs q (by omega)) (by rw [pullA_m hB hs q]; omega)
theorem ffA_SH {A X : Int → Int} {s : Int} (h : SH A) (hB : TB A) (hs : 0 ≤ s ∧ s < 3) : SH (ffA A X s).1 := by
  have hm := hB.2.2.2.2.2.1 (13 + s) (by omega) (by omega)
  have h1 := ff1_ok (X := X) hB hs
  have h2 : SH (ff1 A X s).1 := by
    unfold ff1
    split
    · exact h
    · exact ffL_SH hs _ 0 0 A h hB (by omega) (by omega) (by omega) (by omega)
  unfold ffA
  exact ffW_SH hs _ _ _ h2 h1.1 (by omega)
theorem fallA_SH {A X : Int → Int} (h : SH A) (hB : TB A) : SH (fallA A X).1 := by
  have h0 := ffA_ok (X := X) (s := 0) hB (by omega)
  have h1 := ffA_ok (X := X) (s := 1) h0.1 (by omega)
  have a0 := ffA_SH (X := X) (s := 0) h hB (by omega)
  have a1 := ffA_SH (X := X) (s := 1) a0 h0.1 (by omega)
  exact ffA_SH (X := X) (s := 2) a1 h1.1 (by omega)
theorem keepA_SH {A : Int → Int} (h : SH A) (hB : TB A) (h7 : 0 ≤ A 7 ∧ A 7 ≤ 30) : SH (keepA A) := h.ext (keepA_lo h7 (by omega) (by omega)) (fun i h1 h2 => keepA_lo h7 (by omega) (by omega)) hB
/-- the reference is sound -/
def TI (A : Int → Int) : Prop := TN A ∧ SH A ∧ A 1 ≤ 9999 ∧ A 9 ≤ 10 * A 1 ∧ (0 ≤ A 4 ∧ A 4 < 50000)
theorem keepA_TI {A : Int → Int} (h : TI A) : TI (keepA A) := by
  obtain ⟨⟨hB, hW, h7, h9, h1⟩, hS, hn, hp, h4⟩ := h
  refine ⟨⟨keepA_TB hB h7, keepA_TW hW h7, ?_, ?_, ?_⟩, keepA_SH hS hB h7, ?_, ?_, ?_⟩
  · have := keepA_7 h7; omega
  · rw [keepA_lo h7 (by omega) (by omega)]; exact h9
  · rw [keepA_lo h7 (by omega) (by omega)]; exact h1
  · rw [keepA_lo h7 (by omega) (by omega)]; exact hn
  · rw [keepA_lo h7 (by omega) (by omega), keepA_lo h7 (by omega) (by omega)]; exact hp
  · rw [keepA_lo h7 (by omega) (by omega)]; exact h4
/-- books moved, the rest as it was -/
theorem TI.fr {A A' : Int → Int} (h : TI A) (hf : FR A A') (hB : TB A') (hS : SH A') : TI A' := by
  obtain ⟨⟨_, hW, h7, h9, h1⟩, _, hn, hp, h4⟩ := h
  refine ⟨⟨hB, hf.tw hW, ?_, ?_, ?_⟩, hS, ?_, ?_, ?_⟩
  · rw [hf 7 (by omega)]; exact h7
  · rw [hf 9 (by omega)]; exact h9
  · rw [hf 1 (by omega)]; exact h1
  · rw [hf 1 (by omega)]; exact hn
  · rw [hf 1 (by omega), hf 9 (by omega)]; exact hp
  · rw [hf 4 (by omega)]; exact h4
theorem fallA_TI {A X : Int → Int} (h : TI A) : TI (fallA A X).1 := by
  have := fallA_ok (X := X) h.1.1
  exact h.fr this.2.1 this.1 (fallA_SH h.2.1 h.1.1)
theorem nit2_SH {A X : Int → Int} (h : TI A) : SH (nit2 A X).1 ∧ (nit2 A X).1 9 ≤ A 9 + 10 := by
  have n2 := nit2_ok (X := X) h.1
  have hN := h.1
  obtain ⟨⟨hB, hW, h7, h9, h1⟩, hS, hn, hp, h4⟩ := h
  have hm := hB.2.2.2.2.2.1
  have hkB := keepA_TB hB h7
  have e9 : keepA A 9 = A 9 := keepA_lo h7 (by omega) (by omega)
  have kN : ∀ i, 13 ≤ i → i < 16 → keepA A i = A i := fun i _ _ => keepA_lo h7 (by omega) (by omega)
  have s0 := chL_SH (X := X) (s := 0) (by omega) 6 (A 1 % 2) 0 (keepA A) (keepA_SH hS hB h7) hkB (by omega) (by omega)
  have s1 := chL_SH (X := X) (s := 1) (by omega) 6 (A 1 % 2) (nit0 A X).2 (nit0 A X).1 s0.1 n2.1.1 (by have := n2.1.2.1.2; omega) (by omega)
  have s2 := chL_SH (X := X) (s := 2) (by omega) 6 (A 1 % 2) (nit1 A X).2 (nit1 A X).1 s1.1 n2.2.1.1 (by have := n2.2.1.2.1.2; omega) (by omega)
  refine ⟨s2.1, ?_⟩
  have c0 := s0.2
  have c1 := s1.2
  have c2 := s2.2
  simp only [Int.reduceAdd, Int.add_zero] at c0 c1 c2
  rw [kN 13 (by omega) (by omega)] at c0
  rw [n2.1.2.1.1 14 (by omega) (by omega), kN 14 (by omega) (by omega)] at c1
  rw [n2.2.1.2.1.1 15 (by omega) (by omega), kN 15 (by omega) (by omega)] at c2
  have d := hS.2.2.2
  have o := outF_bd (A := A) (A 0).toNat
  have m0 := hm 13 (by omega) (by omega)
  have m1 := hm 14 (by omega) (by omega)
  have m2 := hm 15 (by omega) (by omega)
  have h0 := hB.1
  have q0 : (nit0 A X).1 9 ≤ A 9 + A 13 := by
    unfold nit0
    split at c0 <;> omega
  have q1 : (nit1 A X).1 9 ≤ (nit0 A X).1 9 + A 14 := by
    unfold nit1
    split at c1 <;> omega
  have q2 : (nit2 A X).1 9 ≤ (nit1 A X).1 9 + A 15 := by
    unfold nit2
    split at c2 <;> omega
  omega
theorem nitA_TI {A X : Int → Int} (h : TI A) (hn : A 1 + 1 ≤ 9999) : TI (nitA A X) := by
  have a := nitA_ok (X := X) h.1
  have s := nit2_SH (X := X) h
  have n2 := (nit2_ok (X := X) h.1).2.2
  have b3 : TB (nit3 A X) := n2.1.n1
  have s3 : SH (nit3 A X) := s.1.ext (up1_ne (by omega)) (fun i h1 h2 => up1_ne (by omega)) n2.1
  have hf := fallA_ok (X := X) b3
  have g9 : nitA A X 9 = (nit2 A X).1 9 := by
    show (fallA (nit3 A X) X).1 9 = _
    rw [hf.2.1 9 (by omega)]
    unfold nit3
    rw [up1_ne (by omega)]
  have g4 : nitA A X 4 = A 4 := by
    show (fallA (nit3 A X) X).1 4 = _
    rw [hf.2.1 4 (by omega)]
    unfold nit3
    rw [up1_ne (by omega), n2.2.1.1 4 (by omega) (by omega), keepA_lo h.1.2.2.1 (by omega) (by omega)]
  obtain ⟨hN, hS, h1, hp, h4⟩ := h
  refine ⟨a.1, fallA_SH s3 b3, by omega, ?_, by rw [g4]; exact h4⟩
  rw [g9, a.2.2.2.1]
  omega
theorem ntL_TI {X : Int → Int} : ∀ (k : Nat) (A : Int → Int) (f n : Int), TI A → A 1 + k ≤ 9999 → TI (ntL X k A f n).1
  | 0, A, f, n, h, _ => by unfold ntL; exact h
  | k + 1, A, f, n, h, h1 => by
    unfold ntL
    have a := nitA_ok (X := X) h.1
    exact ntL_TI k _ _ _ (nitA_TI h (by omega)) (by omega)
