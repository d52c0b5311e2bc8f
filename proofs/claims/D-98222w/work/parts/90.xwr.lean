/-! ===== the class: steps kept ===== -/
-- MODE X
set_option maxRecDepth 100000
def shK (A : Int → Int) : Int := if A 7 = 30 then 1 else 0
theorem keepA_7v {A : Int → Int} : keepA A 7 = A 7 + 1 - shK A := by
  unfold keepA keep3 keep1 shK
  rw [up1_eq]
  by_cases h : A 7 = 30
  · rw [if_pos h, if_pos h, up1_eq]; omega
  · rw [if_neg h, if_neg h]; omega
theorem keep1_7v {A : Int → Int} : keep1 A 7 = A 7 - shK A := by
  unfold keep1 shK
  by_cases h : A 7 = 30
  · rw [if_pos h, if_pos h, up1_eq]; omega
  · rw [if_neg h, if_neg h]; omega
theorem keepA_old {A : Int → Int} {k j : Int} (h7 : 0 ≤ A 7 ∧ A 7 ≤ 30) (hk : 0 ≤ k ∧ k < A 7 - shK A) (hj : 0 ≤ j ∧ j < 48) : keepA A (154 + 48 * k + j) = A (154 + 48 * (k + shK A) + j) := by
  unfold keepA keep3 whrS cpA keep2
  rw [keep1_7v]
  rw [up1_ne (by omega), if_neg (by omega), if_neg (by omega), up1_ne (by omega), up1_ne (by omega), up1_ne (by omega), up1_ne (by omega), up1_ne (by omega)]
  unfold keep1 shK
  unfold shK at hk
  by_cases h : A 7 = 30
  · rw [if_pos h] at hk
    rw [if_pos h, if_pos h, up1_ne (by omega)]
    unfold cpA
    rw [if_pos (by omega)]
    congr 1
    omega
  · rw [if_neg h, if_neg h]
    congr 1
    omega
theorem keepA_new {A : Int → Int} (h7 : 0 ≤ A 7 ∧ A 7 ≤ 30) : (keepA A (154 + 48 * (A 7 - shK A)) = A 0 ∧ keepA A (154 + 48 * (A 7 - shK A) + 1) = A 1 ∧ keepA A (154 + 48 * (A 7 - shK A) + 2) = A 2 ∧ keepA A (154 + 48 * (A 7 - shK A) + 3) = A 4 ∧ keepA A (154 + 48 * (A 7 - shK A) + 4) = A 9) ∧ (∀ j, 0 ≤ j → j < 33 → keepA A (154 + 48 * (A 7 - shK A) + 5 + j) = A (13 + j)) ∧ ∀ b, 0 ≤ b → b < 10 → keepA A (154 + 48 * (A 7 - shK A) + 38 + b) = A (46 + 6 * b + 5) := by
  have sh : 0 ≤ A 7 - shK A ∧ A 7 - shK A ≤ 29 := by unfold shK; split <;> omega
  have k1 : ∀ j, j < 154 → ¬ j = 7 → keep1 A j = A j := by
    intro j hj hn
    unfold keep1
    split
    · rw [up1_ne hn]; unfold cpA; rw [if_neg (by omega)]
    · rfl
  unfold keepA keep3 whrS cpA keep2
  rw [keep1_7v]
  generalize A 7 - shK A = m at *
  refine ⟨⟨?_, ?_, ?_, ?_, ?_⟩, fun j j0 j1 => ?_, fun b b0 b1 => ?_⟩
  · rw [up1_ne (by omega), if_neg (by omega), if_neg (by omega), up1_ne (by omega), up1_ne (by omega), up1_ne (by omega), up1_ne (by omega), up1_eq, k1 0 (by omega) (by omega)]
  · rw [up1_ne (by omega), if_neg (by omega), if_neg (by omega), up1_ne (by omega), up1_ne (by omega), up1_ne (by omega), up1_eq, k1 1 (by omega) (by omega)]
  · rw [up1_ne (by omega), if_neg (by omega), if_neg (by omega), up1_ne (by omega), up1_ne (by omega), up1_eq, k1 2 (by omega) (by omega)]
  · rw [up1_ne (by omega), if_neg (by omega), if_neg (by omega), up1_ne (by omega), up1_eq, k1 4 (by omega) (by omega)]
  · rw [up1_ne (by omega), if_neg (by omega), if_neg (by omega), up1_eq, k1 9 (by omega) (by omega)]
  · rw [up1_ne (by omega), if_neg (by omega), if_pos (by omega), show 13 + (154 + 48 * m + 5 + j - (154 + 48 * m + 5)) = 13 + j by omega, up1_ne (by omega), up1_ne (by omega), up1_ne (by omega), up1_ne (by omega), up1_ne (by omega), k1 (13 + j) (by omega) (by omega)]
  · rw [up1_ne (by omega), if_pos (by omega), show 46 + 6 * (154 + 48 * m + 38 + b - (154 + 48 * m + 38)) + 5 = 46 + 6 * b + 5 by omega, if_neg (by omega), up1_ne (by omega), up1_ne (by omega), up1_ne (by omega), up1_ne (by omega), up1_ne (by omega), k1 (46 + 6 * b + 5) (by omega) (by omega)]
theorem mn6_bd {x : Int} (h : 0 ≤ x) : 0 ≤ mn6 x ∧ mn6 x ≤ 60 ∧ mn6 x ≤ x := by
  unfold mn6
  split <;> omega
theorem RWx.f {f f' : Int → Int} {N wt ni dr pu : Int} {M W G : Int → Int} {P : Int → Int → Int} (h : RWx f N M P W wt ni dr pu G) (hM : ∀ s, 0 ≤ s → s < 3 → M s ≤ 10) (e : EQm 287 f' f) : RWx f' N M P W wt ni dr pu G := by
  obtain ⟨q1, q2, q3, q4, q5, q6, q7, q8⟩ := h
  refine ⟨fun s s0 s1 => by rw [e _ (by omega) (by omega)]; exact q1 s s0 s1, fun s p s0 s1 p0 p1 => ?_, fun b b0 b1 => by rw [e _ (by omega) (by omega)]; exact q3 b b0 b1, by rw [e _ (by omega) (by omega)]; exact q4, by rw [e _ (by omega) (by omega)]; exact q5, by rw [e _ (by omega) (by omega)]; exact q6, by rw [e _ (by omega) (by omega)]; exact q7, fun i w i0 i1 w0 w1 => ?_⟩
  · have := hM s s0 s1
    rw [e _ (by omega) (by omega)]
    exact q2 s p s0 s1 p0 p1
  · have : mn6 pu ≤ 60 := by unfold mn6; split <;> omega
    rw [e _ (by omega) (by omega)]
    exact q8 i w i0 i1 w0 w1
/-- the steps' numbers are sound -/
def SI (A : Int → Int) : Prop := ∀ k, 0 ≤ k → k < A 7 → ∀ s, 0 ≤ s → s < 3 → A (154 + 48 * k + 5 + s) ≤ 10
theorem CI.keep {T : jjT} {A X : Int → Int} {v w : Int → Int → Int} (h : CI (v, T) A X) (hS : SI A) (e1 : ∀ k, 0 ≤ k → k < A 7 - shK A → EQm 287 (w (430 + k)) (v (430 + k + shK A))) (e2 : EQm 287 (w (430 + (A 7 - shK A))) (v 404)) (e3 : w 402 = up1 (v 402) 4 (A 7 + 1 - shK A)) (e4 : ∀ a, a ≠ 402 → (a < 430 ∨ 459 < a) → w a = v a) : CI (w, T) (keepA A) X := by
  have g : jGR (v, T) (w, T) := jGR_of (fun a ha => e4 a (by unfold jfz at ha; omega) (by unfold jfz at ha; omega))
  have hB := h.tb
  have h7 := h.2.2.2.2.2.1
  have h8 := h.2.2.2.2.2.2.1
  have sh : 0 ≤ A 7 - shK A ∧ A 7 - shK A ≤ 29 ∧ 0 ≤ shK A := by unfold shK; split <;> omega
  have lo := fun i (hi : i < 154 ∨ 1594 ≤ i) (hn : ¬ i = 7) => keepA_lo (A := A) h7 hi hn
  have nw := keepA_new h7
  obtain ⟨⟨q1, q2, q3, q4, q5, q6, q7⟩, hn, ht, _, hx, _, _, hl⟩ := h
  dsimp only at q1 q2 q3 q4 q5 q6 q7 hn
  refine ⟨⟨?_, fun s s0 s1 => ?_, ?_, fun b w b0 b1 w0 w1 => ?_, fun k w k0 k1 w0 w1 => ?_, fun k k0 k1 => ?_, fun t t0 t1 => ?_⟩, ?_, ht.gr g, keepA_TB hB h7, ?_, ?_, ?_, ?_⟩
  · show cN (w 402) (keepA A)
    have q1 : cN (v 402) A := q1
    rw [e3]
    unfold cN at q1 ⊢
    rw [lo 0 (by omega) (by omega), lo 3 (by omega) (by omega), lo 5 (by omega) (by omega), lo 6 (by omega) (by omega), lo 8 (by omega) (by omega), keepA_7v, up1_eq, up1_ne (by omega), up1_ne (by omega), up1_ne (by omega), up1_ne (by omega), up1_ne (by omega)]
    exact ⟨q1.1, q1.2.1, q1.2.2.1, q1.2.2.2.1, rfl, q1.2.2.2.2.2⟩
  · dsimp only; rw [e4 _ (by omega) (by omega), lo _ (by omega) (by omega)]; exact q2 s s0 s1
  · dsimp only
    rw [e4 _ (by omega) (by omega)]
    have q3 : RW (v (401 + 3)) A := q3
    unfold RW at q3 ⊢
    rw [lo 0 (by omega) (by omega), lo 2 (by omega) (by omega), lo 1 (by omega) (by omega), lo 4 (by omega) (by omega), lo 9 (by omega) (by omega)]
    exact q3.cg (fun s s0 s1 => lo _ (by omega) (by omega)) (fun s p s0 s1 p0 p1 => lo _ (by have := hB.2.2.2.2.2.1 (13 + s) (by omega) (by omega); omega) (by omega)) (fun b b0 b1 => lo _ (by omega) (by omega)) (fun i i0 i1 => lo _ (by omega) (by omega))
  · dsimp only
    rw [lo 0 (by omega) (by omega)] at b1
    have h0 := hB.1
    rw [e4 _ (by omega) (by omega), lo _ (by omega) (by omega)]
    exact q4 b w b0 b1 w0 w1
  · dsimp only
    rw [lo 8 (by omega) (by omega)] at k1
    rw [e4 _ (by omega) (by omega), lo _ (by omega) (by omega)]
    exact q5 k w k0 k1 w0 w1
  · show RS (w (430 + k)) (keepA A) k
    rw [keepA_7v] at k1
    unfold RS
    by_cases ek : k = A 7 - shK A
    · rw [ek, nw.1.1, nw.1.2.2.1, nw.1.2.1, nw.1.2.2.2.1, nw.1.2.2.2.2]
      refine RWx.f ?_ (fun s s0 s1 => ?_) e2
      · have q3 : RW (v 404) A := q3
        unfold RW at q3
        refine q3.cg (fun s s0 s1 => ?_) (fun s p s0 s1 p0 p1 => ?_) (fun b b0 b1 => nw.2.2 b b0 b1) (fun i i0 i1 => lo _ (by omega) (by omega))
        · exact nw.2.1 s s0 (by omega)
        · have := hB.2.2.2.2.2.1 (13 + s) (by omega) (by omega)
          have e := nw.2.1 (3 + 10 * s + p) (by omega) (by omega)
          rw [show 154 + 48 * (A 7 - shK A) + 5 + (3 + 10 * s + p) = 154 + 48 * (A 7 - shK A) + 8 + 10 * s + p by omega, show 13 + (3 + 10 * s + p) = 16 + 10 * s + p by omega] at e
          exact e
      · rw [nw.2.1 s s0 (by omega)]
        exact (hB.2.2.2.2.2.1 (13 + s) (by omega) (by omega)).2
    · have od := fun j (hj : 0 ≤ j ∧ j < 48) => keepA_old (A := A) h7 (k := k) ⟨k0, by omega⟩ hj
      have o0 := od 0 (by omega)
      rw [Int.add_zero, Int.add_zero] at o0
      rw [o0, od 1 (by omega), od 2 (by omega), od 3 (by omega), od 4 (by omega)]
      have q6 : RS (v (430 + (k + shK A))) A (k + shK A) := q6 (k + shK A) (by omega) (by omega)
      unfold RS at q6
      have si := hS (k + shK A) (by omega) (by omega)
      refine RWx.f ?_ (fun s s0 s1 => ?_) (fun i i0 i1 => by rw [e1 k k0 (by omega) i i0 i1, show 430 + k + shK A = 430 + (k + shK A) by omega])
      · refine q6.cg (fun s s0 s1 => ?_) (fun s p s0 s1 p0 p1 => ?_) (fun b b0 b1 => ?_) (fun i i0 i1 => lo _ (by omega) (by omega))
        · have := od (5 + s) (by omega)
          rw [show 154 + 48 * k + (5 + s) = 154 + 48 * k + 5 + s by omega, show 154 + 48 * (k + shK A) + (5 + s) = 154 + 48 * (k + shK A) + 5 + s by omega] at this
          exact this
        · have := si s s0 s1
          have := od (8 + 10 * s + p) (by omega)
          rw [show 154 + 48 * k + (8 + 10 * s + p) = 154 + 48 * k + 8 + 10 * s + p by omega, show 154 + 48 * (k + shK A) + (8 + 10 * s + p) = 154 + 48 * (k + shK A) + 8 + 10 * s + p by omega] at this
          exact this
        · have := od (38 + b) (by omega)
          rw [show 154 + 48 * k + (38 + b) = 154 + 48 * k + 38 + b by omega, show 154 + 48 * (k + shK A) + (38 + b) = 154 + 48 * (k + shK A) + 38 + b by omega] at this
          exact this
      · have := od (5 + s) (by omega)
        rw [show 154 + 48 * k + (5 + s) = 154 + 48 * k + 5 + s by omega, show 154 + 48 * (k + shK A) + (5 + s) = 154 + 48 * (k + shK A) + 5 + s by omega] at this
        rw [this]
        exact si s s0 s1
  · dsimp only
    rw [lo 5 (by omega) (by omega)] at t1
    rw [e4 _ (by omega) (by omega)]
    exact (q7 t t0 t1).gr g
  · dsimp only; rw [e4 _ (by omega) (by omega)]; exact hn
  · rw [lo 5 (by omega) (by omega)]; exact hx
  · have := keepA_7 h7; omega
  · rw [lo 8 (by omega) (by omega)]; exact h8
  · intro b b0 b1
    have h0 := hB.1
    rw [lo 0 (by omega) (by omega)] at b1
    rw [lo _ (by omega) (by omega)]
    exact hl b b0 b1
