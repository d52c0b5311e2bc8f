/-! ===== what waits within a sum: how it is ordered, how long it is ===== -/
-- MODE N
set_option maxRecDepth 100000
/-- how many ops lie on top -/
def hdP : List Int → Int
  | [] => 0
  | x :: _ => x
def vP : List Int → Prop
  | [] => True
  | x :: P => (x = 2 ∨ x = 40 ∨ ((x = 3 ∨ x = 4) ∧ ¬ (3 ≤ hdP P ∧ hdP P ≤ 6)) ∨ ((x = 5 ∨ x = 6) ∧ ¬ (5 ≤ hdP P ∧ hdP P ≤ 6))) ∧ vP P
/-- how many are open -/
def opP : List Int → Nat
  | [] => 0
  | x :: P => opP P + (if x = 2 ∨ x = 40 then 1 else 0)
theorem vP_len : ∀ (P : List Int), vP P → P.length ≤ 3 * opP P + (if 5 ≤ hdP P ∧ hdP P ≤ 6 then 2 else if 3 ≤ hdP P ∧ hdP P ≤ 4 then 1 else 0)
  | [], _ => by simp
  | x :: P, h => by
    have ih := vP_len P h.2
    have h1 := h.1
    show P.length + 1 ≤ 3 * (opP P + (if x = 2 ∨ x = 40 then 1 else 0)) + (if 5 ≤ x ∧ x ≤ 6 then 2 else if 3 ≤ x ∧ x ≤ 4 then 1 else 0)
    by_cases a : 5 ≤ hdP P ∧ hdP P ≤ 6
    · rw [if_pos a] at ih
      by_cases b : x = 2 ∨ x = 40
      · rw [if_pos b]; omega
      · omega
    · rw [if_neg a] at ih
      by_cases c : 3 ≤ hdP P ∧ hdP P ≤ 4
      · rw [if_pos c] at ih
        by_cases b : x = 2 ∨ x = 40
        · rw [if_pos b]; omega
        · rw [if_neg b, if_pos (by omega)]; omega
      · rw [if_neg c] at ih
        by_cases b : x = 2 ∨ x = 40
        · rw [if_pos b]; omega
        · rw [if_neg b]
          by_cases e : 5 ≤ x ∧ x ≤ 6
          · rw [if_pos e]; omega
          · rw [if_neg e, if_pos (by omega)]; omega
theorem seM_v {l : Int} (hl : l = 3 ∨ l = 5) : ∀ (P : List Int) (acc : List (Int × Int)), vP P → vP (seM l P acc).1 ∧ opP (seM l P acc).1 = opP P ∧ (hdP (seM l P acc).1 = 0 ∨ hdP (seM l P acc).1 = 40 ∨ hdP (seM l P acc).1 < l) ∧ ((seM l P acc).1 = [] ∨ (hdP (seM l P acc).1 = 40 ∨ (2 ≤ hdP (seM l P acc).1 ∧ hdP (seM l P acc).1 < l)))
  | [], acc, h => ⟨h, rfl, Or.inl rfl, Or.inl rfl⟩
  | x :: P, acc, h => by
    have h1 := h.1
    unfold seM
    by_cases c : x < 40 ∧ l ≤ x
    · rw [if_pos c]
      have ih := seM_v hl P (acc ++ [(x, 0)]) h.2
      refine ⟨ih.1, ?_, ih.2.2⟩
      show _ = opP P + (if x = 2 ∨ x = 40 then 1 else 0)
      rw [if_neg (by omega), ih.2.1]
      rfl
    · rw [if_neg c]
      refine ⟨h, rfl, Or.inr ?_, Or.inr ?_⟩
      · show x = 40 ∨ x < l
        omega
      · show x = 40 ∨ (2 ≤ x ∧ x < l)
        omega
theorem whM_v : ∀ (P : List Int) (acc : List (Int × Int)) (o : Int), vP P → vP (whM P acc o).1 ∧ ((whM P acc o).2.2 - opP (whM P acc o).1 = o - opP P) ∧ (whM P acc o).1.length + (whM P acc o).2.1.length = P.length + acc.length ∧ (whM P acc o).2.2 ≤ o
  | [], acc, o, h => ⟨h, rfl, rfl, Int.le_refl _⟩
  | x :: P, acc, o, h => by
    unfold whM
    by_cases c : x = 2
    · rw [if_pos c]
      have ih := whM_v P (acc ++ [(2, 0)]) (o - 1) h.2
      rw [List.length_append] at ih
      simp only [List.length_cons, List.length_nil] at ih ⊢
      refine ⟨ih.1, ?_, by omega, by omega⟩
      have e : opP (x :: P) = opP P + 1 := by show opP P + (if x = 2 ∨ x = 40 then 1 else 0) = _; rw [if_pos (Or.inl c)]
      rw [e]
      omega
    · rw [if_neg c]
      exact ⟨h, rfl, rfl, Int.le_refl _⟩
/-- what holds within a sum -/
def IV (n k : Nat) (P : List Int) (acc : List (Int × Int)) (o : Int) : Prop := k ≤ n ∧ acc.length + P.length ≤ k ∧ vP P ∧ (opP P : Int) ≤ o ∧ o ≤ 8
theorem IV.len {n k : Nat} {P : List Int} {acc : List (Int × Int)} {o : Int} (h : IV n k P acc o) : P.length ≤ 26 := by
  have := vP_len P h.2.2.1
  have h4 := h.2.2.2.1
  have h5 := h.2.2.2.2
  split at this
  · omega
  · split at this <;> omega
section LV
variable {B : Int → Int} {n k : Nat} {P : List Int} {acc : List (Int × Int)} {o kd : Int}
theorem IV.beg (h : IV n k P acc o) {s : sM} (hs : begM B n kd k P acc o = .inr s) : k < s.2.1 ∧ IV n s.2.1 s.2.2.1 s.2.2.2.1 s.2.2.2.2 := by
  obtain ⟨h1, h2, h3, h4, h5⟩ := h
  have one : ∀ c : Int × Int, stT B n k ≠ 301 → k < nxT B n k ∧ IV n (nxT B n k) (whM P (acc ++ [c]) o).1 (whM P (acc ++ [c]) o).2.1 (whM P (acc ++ [c]) o).2.2 := fun c hc => by
    have q := nx_lt (B := B) h1 hc
    have w := whM_v P (acc ++ [c]) o h3
    rw [List.length_append] at w
    simp only [List.length_cons, List.length_nil] at w
    exact ⟨q.1, q.2, by omega, w.1, by omega, by omega⟩
  unfold begM at hs
  by_cases c : stT B n k = 300
  · rw [if_pos c] at hs
    by_cases c2 : 9999 < nuT B n k
    · rw [if_pos c2] at hs; cases hs
    · rw [if_neg c2] at hs
      cases hs
      exact one _ (by omega)
  · rw [if_neg c] at hs
    by_cases c2 : nmT (stT B n k) = -1
    · rw [if_pos c2] at hs
      by_cases c3 : stT B n k = 40 ∨ stT B n k = 45
      · rw [if_pos c3] at hs
        by_cases c4 : o = 8
        · rw [if_pos c4] at hs; cases hs
        · rw [if_neg c4] at hs
          cases hs
          have q := nx_lt (B := B) h1 (by omega)
          have hx : (if stT B n k = 40 then (40 : Int) else 2) = 2 ∨ (if stT B n k = 40 then (40 : Int) else 2) = 40 := by split <;> omega
          refine ⟨q.1, q.2, ?_, ⟨?_, h3⟩, ?_, by show o + 1 ≤ 8; omega⟩
          · show acc.length + (P.length + 1) ≤ nxT B n k
            omega
          · rcases hx with e | e
            · exact Or.inl e
            · exact Or.inr (Or.inl e)
          · show ((opP P + (if (if stT B n k = 40 then (40 : Int) else 2) = 2 ∨ (if stT B n k = 40 then (40 : Int) else 2) = 40 then 1 else 0) : Nat) : Int) ≤ o + 1
            rw [if_pos hx]
            omega
      · rw [if_neg c3] at hs; cases hs
    · rw [if_neg c2] at hs
      by_cases c3 : myN kd (nmT (stT B n k))
      · rw [if_pos c3] at hs
        cases hs
        exact one _ (nmT_ne c2)
      · rw [if_neg c3] at hs; cases hs
theorem IV.beh (h : IV n k P acc o) (hg : goM (stT B n k) P) : k < (behM B n k P acc o).2.1 ∧ IV n (behM B n k P acc o).2.1 (behM B n k P acc o).2.2.1 (behM B n k P acc o).2.2.2.1 (behM B n k P acc o).2.2.2.2 := by
  obtain ⟨h1, h2, h3, h4, h5⟩ := h
  have q := nx_lt (B := B) h1 (by unfold goM at hg; omega)
  unfold behM
  by_cases c : stT B n k = 43 ∨ stT B n k = 45
  · rw [if_pos c]
    have s := seM_v (l := 3) (Or.inl rfl) P acc h3
    have sl := seM_len (l := 3) P acc
    have hx : (if stT B n k = 43 then (3 : Int) else 4) = 3 ∨ (if stT B n k = 43 then (3 : Int) else 4) = 4 := by split <;> omega
    refine ⟨q.1, q.2, ?_, ⟨Or.inr (Or.inr (Or.inl ⟨hx, by omega⟩)), s.1⟩, ?_, h5⟩
    · show (seM 3 P acc).2.length + ((seM 3 P acc).1.length + 1) ≤ nxT B n k
      omega
    · show ((opP (seM 3 P acc).1 + (if (if stT B n k = 43 then (3 : Int) else 4) = 2 ∨ (if stT B n k = 43 then (3 : Int) else 4) = 40 then 1 else 0) : Nat) : Int) ≤ o
      rw [if_neg (by omega), s.2.1]
      omega
  · rw [if_neg c]
    by_cases c2 : stT B n k = 42 ∨ stT B n k = 47
    · rw [if_pos c2]
      have s := seM_v (l := 5) (Or.inr rfl) P acc h3
      have sl := seM_len (l := 5) P acc
      have hx : (if stT B n k = 42 then (5 : Int) else 6) = 5 ∨ (if stT B n k = 42 then (5 : Int) else 6) = 6 := by split <;> omega
      refine ⟨q.1, q.2, ?_, ⟨Or.inr (Or.inr (Or.inr ⟨hx, by omega⟩)), s.1⟩, ?_, h5⟩
      · show (seM 5 P acc).2.length + ((seM 5 P acc).1.length + 1) ≤ nxT B n k
        omega
      · show ((opP (seM 5 P acc).1 + (if (if stT B n k = 42 then (5 : Int) else 6) = 2 ∨ (if stT B n k = 42 then (5 : Int) else 6) = 40 then 1 else 0) : Nat) : Int) ≤ o
        rw [if_neg (by omega), s.2.1]
        omega
    · rw [if_neg c2]
      have h40 : 40 ∈ P := by
        unfold goM at hg
        rcases hg with q | q | q | q | q
        · omega
        · omega
        · omega
        · omega
        · exact q.2
      have s := seM_v (l := 3) (Or.inl rfl) P acc h3
      have sl := seM_len (l := 3) P acc
      have s40 := sl.2.2 h40
      generalize (seM 3 P acc).1 = P1 at *
      generalize (seM 3 P acc).2 = acc1 at *
      cases P1 with
      | nil => cases s40
      | cons x P1 =>
        have hx : x = 2 ∨ x = 40 := by
          have h9 := s.2.2.2
          rcases h9 with h9 | h9
          · cases h9
          · have h9 : x = 40 ∨ (2 ≤ x ∧ x < 3) := h9
            omega
        have e : opP (x :: P1) = opP P1 + 1 := by show opP P1 + (if x = 2 ∨ x = 40 then 1 else 0) = _; rw [if_pos hx]
        rw [e] at s
        rw [List.length_cons] at sl
        have w := whM_v P1 acc1 (o - 1) s.1.2
        show k < nxT B n k ∧ IV n (nxT B n k) (whM P1 acc1 (o - 1)).1 (whM P1 acc1 (o - 1)).2.1 (whM P1 acc1 (o - 1)).2.2
        exact ⟨q.1, q.2, by omega, w.1, by omega, by omega⟩
end LV
