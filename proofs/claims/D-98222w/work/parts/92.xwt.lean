/-! ===== the class: two nudged, a row's numbers ===== -/
-- MODE X
set_option maxRecDepth 100000
/-- the row changes; what steps say stays -/
theorem CI.rowG {T : jjT} {A A' X : Int → Int} {v : Int → Int → Int} {f' : Int → Int} (h : CI (v, T) A X) (hf : RW f' A') (hF : ∀ i, (i < 13 ∨ (106 ≤ i ∧ i < 154)) → i ≠ 1 → i ≠ 2 → i ≠ 4 → i ≠ 9 → A' i = A i) (hR : ∀ k f, 0 ≤ k → k < A 7 → RS f A k → RS f A' k) (hb : ∀ b w, 0 ≤ b → b < 10 → 0 ≤ w → w < 5 → A' (46 + 6 * b + w) = A (46 + 6 * b + w)) (hB : TB A') : CI (upA v 404 f', T) A' X := by
  have g : jGR (v, T) (upA v 404 f', T) := jGR_of (fun a ha => upA_ne (by unfold jfz at ha; omega))
  have h0 := h.tb.1
  have h7 := h.2.2.2.2.2.1
  have h8 := h.2.2.2.2.2.2.1
  have e := hF
  obtain ⟨⟨q1, q2, q3, q4, q5, q6, q7⟩, hn, ht, _, hx, _, _, hl⟩ := h
  dsimp only at q1 q2 q3 q4 q5 q6 q7
  refine ⟨⟨?_, fun s s0 s1 => ?_, ?_, fun b w b0 b1 w0 w1 => ?_, fun k w k0 k1 w0 w1 => ?_, fun k k0 k1 => ?_, fun t t0 t1 => ?_⟩, ?_, ht.gr g, hB, ?_, ?_, ?_, ?_⟩
  · dsimp only
    rw [upA_ne (by omega)]
    unfold cN at q1 ⊢
    rw [e 0 (by omega) (by omega) (by omega) (by omega) (by omega), e 3 (by omega) (by omega) (by omega) (by omega) (by omega), e 5 (by omega) (by omega) (by omega) (by omega) (by omega), e 6 (by omega) (by omega) (by omega) (by omega) (by omega), e 7 (by omega) (by omega) (by omega) (by omega) (by omega), e 8 (by omega) (by omega) (by omega) (by omega) (by omega)]
    exact q1
  · dsimp only; rw [upA_ne (by omega), e _ (by omega) (by omega) (by omega) (by omega) (by omega)]; exact q2 s s0 s1
  · exact hf
  · dsimp only
    rw [e 0 (by omega) (by omega) (by omega) (by omega) (by omega)] at b1
    rw [upA_ne (by omega), hb b w b0 (by omega) w0 w1]
    exact q4 b w b0 b1 w0 w1
  · dsimp only
    rw [e 8 (by omega) (by omega) (by omega) (by omega) (by omega)] at k1
    rw [upA_ne (by omega), e _ (by omega) (by omega) (by omega) (by omega) (by omega)]
    exact q5 k w k0 k1 w0 w1
  · dsimp only
    rw [e 7 (by omega) (by omega) (by omega) (by omega) (by omega)] at k1
    rw [upA_ne (by omega)]
    exact hR k _ k0 k1 (q6 k k0 k1)
  · dsimp only
    rw [e 5 (by omega) (by omega) (by omega) (by omega) (by omega)] at t1
    rw [upA_ne (by omega)]
    exact (q7 t t0 t1).gr g
  · dsimp only; rw [upA_ne (by omega)]; exact hn
  · rw [e 5 (by omega) (by omega) (by omega) (by omega) (by omega)]; exact hx
  · rw [e 7 (by omega) (by omega) (by omega) (by omega) (by omega)]; exact h7
  · rw [e 8 (by omega) (by omega) (by omega) (by omega) (by omega)]; exact h8
  · intro b b0 b1
    rw [e 0 (by omega) (by omega) (by omega) (by omega) (by omega)] at b1
    rw [hb b 4 b0 (by omega) (by omega) (by omega)]
    exact hl b b0 b1
theorem RW_exc {f A : Int → Int} {s p : Int} (hB : TB A) (h : RW f A) (hs : 0 ≤ s ∧ s < 3) (hp : 0 ≤ p ∧ p + 1 < A (13 + s)) : RW (up1 (up1 f (11 * s + 1 + p) (f (11 * s + 1 + p + 1))) (11 * s + 1 + p + 1) (f (11 * s + 1 + p))) (excA A s p) := by
  have hm := hB.2.2.2.2.2.1 (13 + s) (by omega) (by omega)
  have h0 := hB.1
  have lo := fun i (hi : i < 16 ∨ 46 ≤ i) => excA_o (A := A) (s := s) (p := p) hs (by omega) hi
  rw [RW_d] at h ⊢
  obtain ⟨q1, q2, q3, q4, q5, q6, q7, q8⟩ := h
  rw [lo 0 (by omega), lo 2 (by omega), lo 1 (by omega), lo 4 (by omega), lo 9 (by omega)]
  refine ⟨fun t t0 t1 => ?_, fun t q t0 t1 r0 r1 => ?_, fun b c0 c1 => ?_, ?_, ?_, ?_, ?_, fun i w i0 i1 w0 w1 => ?_⟩
  · have mt := hB.2.2.2.2.2.1 (13 + t) (by omega) (by omega)
    rw [lo _ (by omega), up1_ne (by omega), up1_ne (by omega)]
    exact q1 t t0 t1
  · have mt := hB.2.2.2.2.2.1 (13 + t) (by omega) (by omega)
    rw [lo _ (by omega)] at r1
    rw [excA_p hs (by omega) ⟨t0, t1⟩ (by omega)]
    by_cases e : t = s
    · subst e
      by_cases e2 : q = p
      · rw [e2, if_pos ⟨rfl, rfl⟩, up1_ne (by omega), up1_eq, ← q2 t (p + 1) t0 t1 (by omega) (by omega)]
        congr 1
        omega
      · by_cases e3 : q = p + 1
        · rw [e3, if_neg (show ¬ (t = t ∧ p + 1 = p) by omega), if_pos ⟨rfl, rfl⟩, show 11 * t + 1 + (p + 1) = 11 * t + 1 + p + 1 by omega, up1_eq]
          exact q2 t p t0 t1 (by omega) (by omega)
        · rw [if_neg (show ¬ (t = t ∧ q = p) from fun x => e2 x.2), if_neg (show ¬ (t = t ∧ q = p + 1) from fun x => e3 x.2), up1_ne (by omega), up1_ne (by omega)]
          exact q2 t q t0 t1 r0 r1
    · rw [if_neg (show ¬ (t = s ∧ q = p) from fun x => e x.1), if_neg (show ¬ (t = s ∧ q = p + 1) from fun x => e x.1), up1_ne (by omega), up1_ne (by omega)]
      exact q2 t q t0 t1 r0 r1
  · rw [lo _ (by omega), up1_ne (by omega), up1_ne (by omega)]
    exact q3 b c0 c1
  · rw [up1_ne (by omega), up1_ne (by omega)]; exact q4
  · rw [up1_ne (by omega), up1_ne (by omega)]; exact q5
  · rw [up1_ne (by omega), up1_ne (by omega)]; exact q6
  · rw [up1_ne (by omega), up1_ne (by omega)]; exact q7
  · rw [lo _ (by omega), up1_ne (by omega), up1_ne (by omega)]
    exact q8 i w i0 i1 w0 w1
theorem CI.exc {T : jjT} {A X : Int → Int} {v : Int → Int → Int} {s p : Int} (h : CI (v, T) A X) (hs : 0 ≤ s ∧ s < 3) (hp : 0 ≤ p ∧ p + 1 < A (13 + s)) : CI (upA v 404 (up1 (up1 (v 404) (11 * s + 1 + p) (v 404 (11 * s + 1 + p + 1))) (11 * s + 1 + p + 1) (v 404 (11 * s + 1 + p))), T) (excA A s p) X := by
  have hB := h.tb
  have hm := hB.2.2.2.2.2.1 (13 + s) (by omega) (by omega)
  exact h.row (RW_exc hB h.r hs hp) (fun i hi => excA_o hs (by omega) (by omega)) (fun b w b0 b1 w0 w1 => excA_o hs (by omega) (by omega)) (hB.exc hs (by omega))
theorem RW_wh {f A : Int → Int} {b z : Int} (h : RW f A) (h0 : 0 ≤ A 0 ∧ A 0 ≤ 10) (hm : ∀ t, 0 ≤ t → t < 3 → A (13 + t) ≤ 10) (hb : 0 ≤ b ∧ b < A 0) : RW (up1 f (33 + b) z) (up1 A (46 + 6 * b + 5) z) := by
  rw [RW_d] at h ⊢
  obtain ⟨q1, q2, q3, q4, q5, q6, q7, q8⟩ := h
  rw [up1_ne (show ¬ (0 : Int) = 46 + 6 * b + 5 by omega), up1_ne (show ¬ (2 : Int) = 46 + 6 * b + 5 by omega), up1_ne (show ¬ (1 : Int) = 46 + 6 * b + 5 by omega), up1_ne (show ¬ (4 : Int) = 46 + 6 * b + 5 by omega), up1_ne (show ¬ (9 : Int) = 46 + 6 * b + 5 by omega)]
  refine ⟨fun t t0 t1 => ?_, fun t q t0 t1 r0 r1 => ?_, fun c c0 c1 => ?_, ?_, ?_, ?_, ?_, fun i w i0 i1 w0 w1 => ?_⟩
  · rw [up1_ne (by omega), up1_ne (by omega)]
    exact q1 t t0 t1
  · rw [up1_ne (by omega)] at r1
    have := hm t t0 t1
    rw [up1_ne (by omega), up1_ne (by omega)]
    exact q2 t q t0 t1 r0 r1
  · by_cases e : c = b
    · rw [e, up1_eq, up1_eq, if_pos hb.2]
    · rw [up1_ne (by omega), up1_ne (by omega)]
      exact q3 c c0 c1
  · rw [up1_ne (by omega)]; exact q4
  · rw [up1_ne (by omega)]; exact q5
  · rw [up1_ne (by omega)]; exact q6
  · rw [up1_ne (by omega)]; exact q7
  · rw [up1_ne (by omega), up1_ne (by omega)]
    exact q8 i w i0 i1 w0 w1
theorem TB.wh {A : Int → Int} {b z : Int} (h : TB A) (hb : 0 ≤ b ∧ b < 10) (hz : 0 ≤ z ∧ z ≤ 9) : TB (up1 A (46 + 6 * b + 5) z) := by
  refine h.of (up1_ne (by omega)) (up1_ne (by omega)) (up1_ne (by omega)) (up1_ne (by omega)) (up1_ne (by omega)) ?_ ?_
  · intro i h1 h2
    rw [up1_ne (by omega)]
    exact h.2.2.2.2.2.1 i h1 h2
  · intro i h1 h2
    by_cases e : i = 46 + 6 * b + 5
    · rw [e, up1_eq]; exact hz
    · rw [up1_ne e]; exact h.2.2.2.2.2.2 i h1 h2
theorem CI.wh {T : jjT} {A X : Int → Int} {v : Int → Int → Int} {b z : Int} (h : CI (v, T) A X) (hb : 0 ≤ b ∧ b < A 0) (hz : 0 ≤ z ∧ z ≤ 9) : CI (upA v 404 (up1 (v 404) (33 + b) z), T) (up1 A (46 + 6 * b + 5) z) X := by
  have hB := h.tb
  have h0 := hB.1
  exact h.row (RW_wh h.r h0 (fun t t0 t1 => (hB.2.2.2.2.2.1 (13 + t) (by omega) (by omega)).2) hb) (fun i hi => up1_ne (by omega)) (fun c w c0 c1 w0 w1 => up1_ne (by omega)) (hB.wh (by omega) hz)
/-- wet, x, nights -/
theorem RW_num {f A : Int → Int} {i k z : Int} (h : RW f A) (hm : ∀ t, 0 ≤ t → t < 3 → 0 ≤ A (13 + t) ∧ A (13 + t) ≤ 10) (hi : (i = 2 ∧ k = 43) ∨ (i = 1 ∧ k = 44) ∨ (i = 4 ∧ k = 45)) : RW (up1 f k z) (up1 A i z) := by
  rw [RW_d] at h ⊢
  obtain ⟨q1, q2, q3, q4, q5, q6, q7, q8⟩ := h
  rw [up1_ne (show ¬ (0 : Int) = i by omega), up1_ne (show ¬ (9 : Int) = i by omega)]
  refine ⟨fun t t0 t1 => ?_, fun t q t0 t1 r0 r1 => ?_, fun c c0 c1 => ?_, ?_, ?_, ?_, ?_, fun j w i0 i1 w0 w1 => ?_⟩
  · rw [up1_ne (by omega), up1_ne (by omega)]
    exact q1 t t0 t1
  · rw [up1_ne (by omega)] at r1
    have := hm t t0 t1
    rw [up1_ne (by omega), up1_ne (by omega)]
    exact q2 t q t0 t1 r0 r1
  · rw [up1_ne (by omega), up1_ne (by omega)]
    exact q3 c c0 c1
  · rcases hi with ⟨rfl, rfl⟩ | ⟨rfl, rfl⟩ | ⟨rfl, rfl⟩
    · rw [up1_eq, up1_eq]
    · rw [up1_ne (by omega), up1_ne (by omega)]; exact q4
    · rw [up1_ne (by omega), up1_ne (by omega)]; exact q4
  · rcases hi with ⟨rfl, rfl⟩ | ⟨rfl, rfl⟩ | ⟨rfl, rfl⟩
    · rw [up1_ne (by omega), up1_ne (by omega)]; exact q5
    · rw [up1_eq, up1_eq]
    · rw [up1_ne (by omega), up1_ne (by omega)]; exact q5
  · rcases hi with ⟨rfl, rfl⟩ | ⟨rfl, rfl⟩ | ⟨rfl, rfl⟩
    · rw [up1_ne (by omega), up1_ne (by omega)]; exact q6
    · rw [up1_ne (by omega), up1_ne (by omega)]; exact q6
    · rw [up1_eq, up1_eq]
  · rw [up1_ne (by omega)]; exact q7
  · rw [up1_ne (by omega), up1_ne (by omega)]
    exact q8 j w i0 i1 w0 w1
theorem CI.num {T : jjT} {A X : Int → Int} {v : Int → Int → Int} {i k z : Int} (h : CI (v, T) A X) (hi : (i = 2 ∧ k = 43) ∨ (i = 1 ∧ k = 44) ∨ (i = 4 ∧ k = 45)) (hz : i = 2 → 0 ≤ z ∧ z ≤ 1) : CI (upA v 404 (up1 (v 404) k z), T) (up1 A i z) X := by
  have hB := h.tb
  refine h.rowG (RW_num h.r (fun t t0 t1 => hB.2.2.2.2.2.1 (13 + t) (by omega) (by omega)) hi) (fun j hj j1 j2 j4 j9 => up1_ne (by omega)) (fun k f k0 k1 q => q.fr k0 (fun j hj => up1_ne (by omega))) (fun c w c0 c1 w0 w1 => up1_ne (by omega)) ?_
  obtain ⟨b1, b2, b3, b4, b5, b6, b7⟩ := hB
  refine ⟨by rw [up1_ne (by omega)]; exact b1, ?_, by rw [up1_ne (by omega)]; exact b3, by rw [up1_ne (by omega)]; exact b4, by rw [up1_ne (by omega), up1_ne (by omega)]; exact b5, fun j j0 j1 => by rw [up1_ne (by omega)]; exact b6 j j0 j1, fun j j0 j1 => by rw [up1_ne (by omega)]; exact b7 j j0 j1⟩
  by_cases e : i = 2
  · rw [e, up1_eq]; exact hz e
  · rw [up1_ne (by omega)]; exact b2
