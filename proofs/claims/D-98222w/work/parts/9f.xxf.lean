/-! ===== the class: played ===== -/
-- MODE X
set_option maxRecDepth 100000
theorem ntL_r {X : Int → Int} : ∀ (n : Nat) (A : Int → Int) (f c : Int), TN A → 0 ≤ c → 0 ≤ (ntL X n A f c).2.2
  | 0, A, f, c, h, hc => hc
  | n + 1, A, f, c, h, hc => by
    have a := nitA_ok (X := X) h
    unfold ntL
    exact ntL_r n (nitA A X) _ _ a.1 (by omega)
theorem TKntL {X : Int → Int} : ∀ (n : Nat) (A : Int → Int) (f c : Int), TK A → A 1 + n ≤ 9999 → TK (ntL X n A f c).1
  | 0, A, f, c, h, _ => h
  | n + 1, A, f, c, h, hn => by
    have a := nitA_ok (X := X) h.1.1
    unfold ntL
    exact TKntL n (nitA A X) _ _ (h.nit (by omega)) (by rw [a.2.2.2.1]; omega)
theorem TK.night {A X : Int → Int} {f n : Int} (h : TK A) : TK (opNight A X f n).1 := by
  unfold opNight
  by_cases q : (1 ≤ n ∧ n ≤ 99) ∧ A 1 + n ≤ 9999
  · rw [if_pos q]
    exact TKntL n.toNat A f 0 h (by omega)
  · rw [if_neg q]
    exact h
/-- an answer of a doing is none or at least 0 -/
theorem opX_r {A X : Int → Int} {f x : Int} (h : TK A) (hx : 4 ≤ X x ∧ X x ≤ 9) : TK (opX A X f x).1 ∧ -1 ≤ (opX A X f x).2.2 := by
  have hB := h.1.1.1
  have h7 := h.1.1.2.2.1
  have h0 := hB.1
  unfold opX
  by_cases c4 : X x = 4
  · rw [if_pos c4]
    refine ⟨h.night, ?_⟩
    unfold opNight
    split
    · have := ntL_r (X := X) (X (x + 1)).toNat A f 0 h.1.1 (by omega)
      omega
    · dsimp only; omega
  rw [if_neg c4]
  by_cases c5 : X x = 5
  · rw [if_pos c5]
    refine ⟨h.nudge, ?_⟩
    unfold opNudge
    split
    · have := hB.2.2.2.2.2.1 (13 + X (x + 1)) (by omega) (by omega)
      have := (hB.2.2.2.2.2.2 (16 + 10 * X (x + 1) + (X (x + 2) + 1)) (by omega) (by omega)).1
      dsimp only; omega
    · dsimp only; omega
  rw [if_neg c5]
  by_cases c6 : X x = 6
  · rw [if_pos c6]
    refine ⟨h.take, ?_⟩
    unfold opTake
    split
    · have := (hB.2.2.2.2.2.2 (46 + 6 * X (x + 1) + 5) (by omega) (by omega)).1
      dsimp only; omega
    · dsimp only; omega
  rw [if_neg c6]
  by_cases c7 : X x = 7
  · rw [if_pos c7]
    refine ⟨h.put, ?_⟩
    unfold opPut
    split
    · have := (hB.2.2.2.2.2.1 (13 + X (x + 2)) (by omega) (by omega)).1
      dsimp only; omega
    · dsimp only; omega
  rw [if_neg c7]
  have wr : ∀ i, 0 ≤ i ∧ i ≤ 1 → -1 ≤ (opWet A X f i).2.2 := by
    intro i hi
    unfold opWet
    split
    · dsimp only; omega
    · split
      · dsimp only; omega
      · have b2 : TB (up1 (keepA A) 2 1) := by
          obtain ⟨b1, b2, b3, b4, b5, b6, b7⟩ := keepA_TB hB h7
          exact ⟨by rw [up1_ne (by omega)]; exact b1, by rw [up1_eq]; omega, by rw [up1_ne (by omega)]; exact b3, by rw [up1_ne (by omega)]; exact b4, by rw [up1_ne (by omega), up1_ne (by omega)]; exact b5, fun j j0 j1 => by rw [up1_ne (by omega)]; exact b6 j j0 j1, fun j j0 j1 => by rw [up1_ne (by omega)]; exact b7 j j0 j1⟩
        have := (fallA_ok (X := X) b2).2.2.1
        dsimp only; omega
  by_cases c8 : X x = 8
  · rw [if_pos c8]
    exact ⟨h.wet (by omega), wr 1 (by omega)⟩
  rw [if_neg c8, if_pos (by omega)]
  exact ⟨h.wet (by omega), wr 0 (by omega)⟩
section XG
variable {g : jjG} {d : Nat} {T : jjT} {Q : jjQ} {X : Int → Int}
theorem xw_df {a : Int} {v : Int → Int → Int} (h : jok T a 13) (hQ : Q (.inl (some (vI (v a 0)))) (v, T)) : jmet g (d + 1) 0 0 MX13_sort [vR a] (v, T) Q := by
  refine jmet_of (ls := [some (vR a)]) sX13_sort rfl (by decide +kernel) (by decide) rfl (by simp [jent]) ?_
  refine jW_step ?_
  simp (disch := (first | decide | omega)) only [bX13_sort, jxs, h, true_and]
  (repeat (refine And.intro (by (first | omega | assumption | trivial | (simp only [inI]; omega) | (simp only [inL]; omega) | (refine jb_01) | (exact jb_in))) ?_))
  exact hQ
theorem xw_da {a : Int} {v : Int → Int → Int} (h : jok T a 13) (hQ : Q (.inl (some (vI (v a 1)))) (v, T)) : jmet g (d + 1) 0 0 MX13_a [vR a] (v, T) Q := by
  refine jmet_of (ls := [some (vR a)]) sX13_a rfl (by decide +kernel) (by decide) rfl (by simp [jent]) ?_
  refine jW_step ?_
  simp (disch := (first | decide | omega)) only [bX13_a, jxs, h, true_and]
  (repeat (refine And.intro (by (first | omega | assumption | trivial | (simp only [inI]; omega) | (simp only [inL]; omega) | (refine jb_01) | (exact jb_in))) ?_))
  exact hQ
theorem xw_db {a : Int} {v : Int → Int → Int} (h : jok T a 13) (hQ : Q (.inl (some (vI (v a 2)))) (v, T)) : jmet g (d + 1) 0 0 MX13_b [vR a] (v, T) Q := by
  refine jmet_of (ls := [some (vR a)]) sX13_b rfl (by decide +kernel) (by decide) rfl (by simp [jent]) ?_
  refine jW_step ?_
  simp (disch := (first | decide | omega)) only [bX13_b, jxs, h, true_and]
  (repeat (refine And.intro (by (first | omega | assumption | trivial | (simp only [inI]; omega) | (simp only [inL]; omega) | (refine jb_01) | (exact jb_in))) ?_))
  exact hQ
theorem xw_dc {a : Int} {v : Int → Int → Int} (h : jok T a 13) (hQ : Q (.inl (some (vI (v a 3)))) (v, T)) : jmet g (d + 1) 0 0 MX13_c [vR a] (v, T) Q := by
  refine jmet_of (ls := [some (vR a)]) sX13_c rfl (by decide +kernel) (by decide) rfl (by simp [jent]) ?_
  refine jW_step ?_
  simp (disch := (first | decide | omega)) only [bX13_c, jxs, h, true_and]
  (repeat (refine And.intro (by (first | omega | assumption | trivial | (simp only [inI]; omega) | (simp only [inL]; omega) | (refine jb_01) | (exact jb_in))) ?_))
  exact hQ
theorem xw_dn {a : Int} {v : Int → Int → Int} (h : jok T a 13) (hQ : Q (.inl (some (vI (v a 4)))) (v, T)) : jmet g (d + 1) 0 0 MX13_number [vR a] (v, T) Q := by
  refine jmet_of (ls := [some (vR a)]) sX13_number rfl (by decide +kernel) (by decide) rfl (by simp [jent]) ?_
  refine jW_step ?_
  simp (disch := (first | decide | omega)) only [bX13_number, jxs, h, true_and]
  (repeat (refine And.intro (by (first | omega | assumption | trivial | (simp only [inI]; omega) | (simp only [inL]; omega) | (refine jb_01) | (exact jb_in))) ?_))
  exact hQ
end XG
