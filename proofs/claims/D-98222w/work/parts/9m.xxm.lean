/-! ===== the class: a new array; books, dust ===== -/
-- MODE X
set_option maxRecDepth 100000
def nt (T : jjT) (c n : Int) : jjT := (fun a => if a = T.2 then (c, n) else T.1 a, T.2 + 1)
theorem jnew_eq {v : Int → Int → Int} {T : jjT} {c n : Int} : jnew (v, T) c n = (upA v T.2 (fun _ => 0), nt T c n) := by
  unfold jnew nt
  refine Prod.ext ?_ rfl
  funext a k
  unfold upA
  by_cases h : a = T.2
  · dsimp only
    rw [if_pos h, if_pos h]
  · dsimp only
    rw [if_neg h, if_neg h]
theorem PT.nt {T : jjT} (h : PT T) (c n : Int) : PT (nt T c n) := by
  refine ⟨by show 562 ≤ T.2 + 1; have := h.1; omega, fun q hq => ?_⟩
  have h2 := ptL_in _ hq
  have h1 := h.1
  show (if q.1 = T.2 then (c, n) else T.1 q.1) = _
  rw [if_neg (by omega)]
  exact h.2 q hq
theorem nt_ok {T : jjT} (h : 0 < T.2) {c n : Int} : jok (nt T c n) T.2 c := ⟨h, by show T.2 < T.2 + 1; omega, by show (if T.2 = T.2 then (c, n) else T.1 T.2).1 = c; rw [if_pos rfl]⟩
theorem nt_ln {T : jjT} {c n : Int} : jln (nt T c n) T.2 = n := by
  show (if T.2 = T.2 then (c, n) else T.1 T.2).2 = n
  rw [if_pos rfl]
theorem nt_gr {v w : Int → Int → Int} {T : jjT} {c n : Int} (e : ∀ a, a < T.2 → jfz a → w a = v a) : jGR (v, T) (w, nt T c n) :=
  ⟨by show T.2 ≤ T.2 + 1; omega, fun a _ a1 => (by show (if a = T.2 then (c, n) else T.1 a) = T.1 a; rw [if_neg (by have : a < T.2 := a1; omega)]), fun a _ a1 hz => e a a1 hz⟩
theorem mn6_bd' (x : Int) : mn6 x ≤ 60 := by unfold mn6; split <;> omega
theorem RS.fr2 {f A A' : Int → Int} {k : Int} (hk : 0 ≤ k) (e : ∀ i, 154 ≤ i → A' i = A i) (h : RS f A k) : RS f A' k := by
  unfold RS at h ⊢
  rw [e _ (by omega), e _ (by omega), e _ (by omega), e _ (by omega), e _ (by omega)]
  exact h.cg (fun s s0 s1 => e _ (by omega)) (fun s p s0 s1 p0 p1 => e _ (by omega)) (fun b b0 b1 => e _ (by omega)) (fun i i0 i1 => e _ (by omega))
theorem CI.mem {T T' : jjT} {A A' X : Int → Int} {v w : Int → Int → Int} (h : CI (v, T) A X) (g : jGR (v, T) (w, T')) (hn : cN (w 402) A') (e : ∀ i, 0 < i → i ≠ 8 → (i < 46 ∨ 154 ≤ i) → A' i = A i) (hN : A 0 ≤ A' 0)
    (hb : ∀ b, 0 ≤ b → b < A 0 → A' (46 + 6 * b + 5) = A (46 + 6 * b + 5)) (hb3 : ∀ b, A 0 ≤ b → b < A' 0 → A' (46 + 6 * b + 5) = 3)
    (cb : ∀ b k, 0 ≤ b → b < A' 0 → 0 ≤ k → k < 5 → w (406 + b) k = A' (46 + 6 * b + k)) (cd : ∀ k z, 0 ≤ k → k < A' 8 → 0 ≤ z → z < 4 → w (417 + k) z = A' (106 + 4 * k + z))
    (f1 : ∀ a, a = 403 ∨ a = 404 ∨ (430 ≤ a ∧ a ≤ 460) ∨ a = 522 → w a = v a) (hB : TB A') (h8 : 0 ≤ A' 8 ∧ A' 8 ≤ 12) (hl : LW A') : CI (w, T') A' X := by
  have h0 := h.tb.1
  have h0' := hB.1
  have h7 := h.2.2.2.2.2.1
  have hA5 := h.tb.2.2.2.1
  obtain ⟨⟨q1, q2, q3, q4, q5, q6, q7⟩, hnm, ht, _, hx, _, _, _⟩ := h
  dsimp only at q1 q2 q3 q4 q5 q6 q7 hnm
  have e7 := e 7 (by omega) (by omega) (by omega)
  have e5 := e 5 (by omega) (by omega) (by omega)
  refine ⟨⟨hn, fun s s0 s1 => ?_, ?_, fun b k b0 b1 w0 w1 => cb b k b0 b1 w0 w1, fun k z k0 k1 w0 w1 => cd k z k0 k1 w0 w1, fun k k0 k1 => ?_, fun t t0 t1 => ?_⟩, ?_, ht.gr g, hB, ?_, ?_, h8, hl⟩
  · show w 403 s = A' (10 + s)
    rw [f1 403 (by omega), e _ (by omega) (by omega) (by omega)]
    exact q2 s s0 s1
  · show RW (w 404) A'
    have q3 : RW (v 404) A := q3
    rw [f1 404 (by omega)]
    unfold RW at q3 ⊢
    rw [e 2 (by omega) (by omega) (by omega), e 1 (by omega) (by omega) (by omega), e 4 (by omega) (by omega) (by omega), e 9 (by omega) (by omega) (by omega)]
    obtain ⟨r1, r2, r3, r4, r5, r6, r7, r8⟩ := q3
    refine ⟨fun s s0 s1 => ?_, fun s p s0 s1 p0 p1 => ?_, fun b b0 b1 => ?_, r4, r5, r6, r7, fun i z i0 i1 z0 z1 => ?_⟩
    · dsimp only
      rw [e _ (by omega) (by omega) (by omega)]
      exact r1 s s0 s1
    · dsimp only at p1 ⊢
      rw [e (13 + s) (by omega) (by omega) (by omega)] at p1
      have hm := hB.2.2.2.2.2.1 (13 + s) (by omega) (by omega)
      rw [e (13 + s) (by omega) (by omega) (by omega)] at hm
      rw [e (16 + 10 * s + p) (by omega) (by omega) (by omega)]
      exact r2 s p s0 s1 p0 p1
    · rw [r3 b b0 b1]
      dsimp only
      by_cases h1 : b < A 0
      · rw [if_pos h1, if_pos (by omega)]
        exact (hb b b0 h1).symm
      · rw [if_neg h1]
        by_cases h2 : b < A' 0
        · rw [if_pos h2]
          exact (hb3 b (by omega) h2).symm
        · rw [if_neg h2]
    · rw [r8 i z i0 i1 z0 z1]
      dsimp only
      have := mn6_bd' (A 9)
      exact (e _ (by omega) (by omega) (by omega)).symm
  · dsimp only
    rw [e7] at k1
    rw [f1 _ (by omega)]
    exact (q6 k k0 k1).fr2 k0 (fun i hi => e i (by omega) (by omega) (by omega))
  · dsimp only
    rw [e5] at t1
    rw [f1 _ (by omega)]
    exact (q7 t t0 t1).gr g
  · show okN (w 522)
    rw [f1 522 (by omega)]
    exact hnm
  · rw [e5]; exact hx
  · rw [e7]; exact h7
theorem bokA_at {A : Int → Int} {h c t a l : Int} : ∀ i, bokA A h c t a l i = if i = 0 then A 0 + 1 else if i = 46 + 6 * A 0 + 5 then 3 else if i = 46 + 6 * A 0 + 4 then l else if i = 46 + 6 * A 0 + 3 then a else if i = 46 + 6 * A 0 + 2 then t else if i = 46 + 6 * A 0 + 1 then c else if i = 46 + 6 * A 0 + 0 then h else A i := fun _ => rfl
theorem duA_at {A : Int → Int} {b o r p : Int} : ∀ i, duA A b o r p i = if i = 8 then A 8 + 1 else if i = 106 + 4 * A 8 + 3 then p else if i = 106 + 4 * A 8 + 2 then r else if i = 106 + 4 * A 8 + 1 then o else if i = 106 + 4 * A 8 then b else A i := fun _ => rfl
theorem bokA_TB {A : Int → Int} {h c t a l : Int} (hB : TB A) (hC : bokC A h c t a l) : TB (bokA A h c t a l) := by
  obtain ⟨b1, b2, b3, b4, b5, b6, b7⟩ := hB
  unfold bokC at hC
  refine ⟨?_, ?_, ?_, ?_, ?_, fun i i0 i1 => ?_, fun i i0 i1 => ?_⟩
  · rw [bokA_at, if_pos rfl]; omega
  · rw [bokA_at]; repeat rw [if_neg (by omega)]
    exact b2
  · rw [bokA_at]; repeat rw [if_neg (by omega)]
    exact b3
  · rw [bokA_at]; repeat rw [if_neg (by omega)]
    exact b4
  · rw [bokA_at, bokA_at]; repeat rw [if_neg (by omega)]
    exact b5
  · rw [bokA_at]; repeat rw [if_neg (by omega)]
    exact b6 i i0 i1
  · have := b7 i i0 i1
    rw [bokA_at]
    repeat' split
    all_goals omega
theorem bokA_LW {A : Int → Int} {h c t a l : Int} (h0 : 0 ≤ A 0) (hl : LW A) (hC : bokC A h c t a l) : LW (bokA A h c t a l) := by
  intro b b0 b1
  unfold bokC at hC
  rw [bokA_at 0, if_pos rfl] at b1
  rw [bokA_at]
  by_cases e : b = A 0
  · rw [if_neg (by omega), if_neg (by omega), if_pos (by omega)]; omega
  · repeat rw [if_neg (by omega)]
    exact hl b b0 (by omega)
theorem duA_TB {A : Int → Int} {b o r p : Int} (hB : TB A) (h8 : 0 ≤ A 8) : TB (duA A b o r p) := by
  obtain ⟨b1, b2, b3, b4, b5, b6, b7⟩ := hB
  refine ⟨?_, ?_, ?_, ?_, ?_, fun i i0 i1 => ?_, fun i i0 i1 => ?_⟩
  · rw [duA_at]; repeat rw [if_neg (by omega)]
    exact b1
  · rw [duA_at]; repeat rw [if_neg (by omega)]
    exact b2
  · rw [duA_at]; repeat rw [if_neg (by omega)]
    exact b3
  · rw [duA_at]; repeat rw [if_neg (by omega)]
    exact b4
  · rw [duA_at, duA_at]; repeat rw [if_neg (by omega)]
    exact b5
  · rw [duA_at]; repeat rw [if_neg (by omega)]
    exact b6 i i0 i1
  · rw [duA_at]; repeat rw [if_neg (by omega)]
    exact b7 i i0 i1
theorem CI.bok {T T' : jjT} {A X : Int → Int} {v w : Int → Int → Int} {h c t a l : Int} (hI : CI (v, T) A X) (g : jGR (v, T) (w, T')) (hC : bokC A h c t a l) (e1 : w 402 = up1 (v 402) 0 (A 0 + 1))
    (e2 : w (406 + A 0) 0 = h ∧ w (406 + A 0) 1 = c ∧ w (406 + A 0) 2 = t ∧ w (406 + A 0) 3 = a ∧ w (406 + A 0) 4 = l) (e3 : ∀ x, 400 < x → x < 562 → x ≠ 402 → x ≠ 406 + A 0 → w x = v x) : CI (w, T') (bokA A h c t a l) X := by
  have h0 := hI.tb.1
  have h8 := hI.2.2.2.2.2.2.1
  have hc := hC
  unfold bokC at hc
  have n0 := hI.1.1
  refine hI.mem g ?_ ?_ ?_ ?_ ?_ ?_ ?_ ?_ (bokA_TB hI.tb hC) ?_ (bokA_LW h0.1 hI.lw hC)
  · rw [e1]
    obtain ⟨n0, n1, n2, n3, n4, n5⟩ := n0
    refine ⟨?_, ?_, ?_, ?_, ?_, ?_⟩
    · rw [up1_eq, bokA_at, if_pos rfl]
    all_goals rw [up1_ne (by omega), bokA_at]; repeat rw [if_neg (by omega)]
    · exact n1
    · exact n2
    · exact n3
    · exact n4
    · exact n5
  · intro i i0 i1 i2
    rw [bokA_at]; repeat rw [if_neg (by omega)]
  · rw [bokA_at, if_pos rfl]; omega
  · intro b b0 b1
    rw [bokA_at]; repeat rw [if_neg (by omega)]
  · intro b b0 b1
    rw [bokA_at 0, if_pos rfl] at b1
    rw [bokA_at, if_neg (by omega), if_pos (by omega)]
  · intro b k b0 b1 k0 k1
    rw [bokA_at 0, if_pos rfl] at b1
    by_cases e : b = A 0
    · rw [e, bokA_at]
      obtain ⟨y0, y1, y2, y3, y4⟩ := e2
      have : k = 0 ∨ k = 1 ∨ k = 2 ∨ k = 3 ∨ k = 4 := by omega
      rcases this with k | k | k | k | k
      · rw [k, y0]; repeat rw [if_neg (by omega)]
        rw [if_pos rfl]
      · rw [k, y1]; repeat rw [if_neg (by omega)]
        rw [if_pos rfl]
      · rw [k, y2]; repeat rw [if_neg (by omega)]
        rw [if_pos rfl]
      · rw [k, y3]; repeat rw [if_neg (by omega)]
        rw [if_pos rfl]
      · rw [k, y4]; repeat rw [if_neg (by omega)]
        rw [if_pos rfl]
    · rw [bokA_at, e3 _ (by omega) (by omega) (by omega) (by omega)]; repeat rw [if_neg (by omega)]
      exact hI.b ⟨b0, by omega⟩ ⟨k0, k1⟩
  · intro k z k0 k1 z0 z1
    have e8 : bokA A h c t a l 8 = A 8 := by rw [bokA_at]; repeat rw [if_neg (by omega)]
    rw [e8] at k1
    rw [bokA_at, e3 _ (by omega) (by omega) (by omega) (by omega)]; repeat rw [if_neg (by omega)]
    exact hI.d ⟨k0, k1⟩ ⟨z0, z1⟩
  · intro x hx
    exact e3 x (by omega) (by omega) (by omega) (by omega)
  · rw [bokA_at]; repeat rw [if_neg (by omega)]
    exact h8
theorem CI.dus {T T' : jjT} {A X : Int → Int} {v w : Int → Int → Int} {b o r p : Int} (hI : CI (v, T) A X) (g : jGR (v, T) (w, T')) (hC : ¬ A 8 = 12) (e1 : w 402 = up1 (v 402) 5 (A 8 + 1))
    (e2 : w (417 + A 8) 0 = b ∧ w (417 + A 8) 1 = o ∧ w (417 + A 8) 2 = r ∧ w (417 + A 8) 3 = p) (e3 : ∀ x, 400 < x → x < 562 → x ≠ 402 → x ≠ 417 + A 8 → w x = v x) : CI (w, T') (duA A b o r p) X := by
  have h0 := hI.tb.1
  have h8 := hI.2.2.2.2.2.2.1
  have n0 := hI.1.1
  have d0 : duA A b o r p 0 = A 0 := by rw [duA_at]; repeat rw [if_neg (by omega)]
  refine hI.mem g ?_ ?_ ?_ ?_ ?_ ?_ ?_ ?_ (duA_TB hI.tb h8.1) ?_ ?_
  · rw [e1]
    obtain ⟨n0, n1, n2, n3, n4, n5⟩ := n0
    refine ⟨?_, ?_, ?_, ?_, ?_, ?_⟩
    case refine_6 => rw [up1_eq, duA_at, if_pos rfl]
    all_goals rw [up1_ne (by omega), duA_at]; repeat rw [if_neg (by omega)]
    · exact n0
    · exact n1
    · exact n2
    · exact n3
    · exact n4
  · intro i i0 i1 i2
    rw [duA_at]; repeat rw [if_neg (by omega)]
  · omega
  · intro x b0 b1
    rw [duA_at]; repeat rw [if_neg (by omega)]
  · intro x b0 b1
    omega
  · intro x k b0 b1 k0 k1
    rw [d0] at b1
    rw [duA_at, e3 _ (by omega) (by omega) (by omega) (by omega)]; repeat rw [if_neg (by omega)]
    exact hI.b ⟨b0, by omega⟩ ⟨k0, k1⟩
  · intro k z k0 k1 z0 z1
    rw [duA_at 8, if_pos rfl] at k1
    by_cases e : k = A 8
    · rw [e, duA_at]
      obtain ⟨y0, y1, y2, y3⟩ := e2
      have : z = 0 ∨ z = 1 ∨ z = 2 ∨ z = 3 := by omega
      rcases this with k | k | k | k
      · rw [k, y0]; repeat rw [if_neg (by omega)]
        rw [if_pos (by omega)]
      · rw [k, y1]; repeat rw [if_neg (by omega)]
        rw [if_pos rfl]
      · rw [k, y2]; repeat rw [if_neg (by omega)]
        rw [if_pos rfl]
      · rw [k, y3]; repeat rw [if_neg (by omega)]
        rw [if_pos rfl]
    · rw [duA_at, e3 _ (by omega) (by omega) (by omega) (by omega)]; repeat rw [if_neg (by omega)]
      exact hI.d ⟨k0, by omega⟩ ⟨z0, z1⟩
  · intro x hx
    exact e3 x (by omega) (by omega) (by omega) (by omega)
  · rw [duA_at, if_pos rfl]; omega
  · intro x b0 b1
    rw [d0] at b1
    rw [duA_at]; repeat rw [if_neg (by omega)]
    exact hI.lw x b0 b1
