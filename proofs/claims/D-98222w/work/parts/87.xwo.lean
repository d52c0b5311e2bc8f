/-! ===== the class: books leave and join shelves ===== -/
-- MODE X
set_option maxRecDepth 100000
theorem RWx.cg {f : Int → Int} {N wt ni dr pu : Int} {M M' W W' G G' : Int → Int} {P P' : Int → Int → Int} (h : RWx f N M P W wt ni dr pu G) (hM : ∀ s, 0 ≤ s → s < 3 → M' s = M s) (hP : ∀ s p, 0 ≤ s → s < 3 → 0 ≤ p → p < M s → P' s p = P s p) (hW : ∀ b, 0 ≤ b → b < 10 → W' b = W b) (hG : ∀ i, 0 ≤ i → i < 2048 → G' i = G i) : RWx f N M' P' W' wt ni dr pu G' := by
  obtain ⟨q1, q2, q3, q4, q5, q6, q7, q8⟩ := h
  refine ⟨fun s s0 s1 => by rw [hM s s0 s1]; exact q1 s s0 s1, fun s p s0 s1 p0 p1 => ?_, fun b b0 b1 => by rw [hW b b0 b1]; exact q3 b b0 b1, q4, q5, q6, q7, fun i w i0 i1 w0 w1 => ?_⟩
  · rw [hM s s0 s1] at p1
    rw [hP s p s0 s1 p0 p1]
    exact q2 s p s0 s1 p0 p1
  · rw [hG _ (by omega) (by omega)]
    exact q8 i w i0 i1 w0 w1
theorem RW_d {f A : Int → Int} : RW f A = ((∀ s, 0 ≤ s → s < 3 → f (11 * s) = A (13 + s)) ∧ (∀ s p, 0 ≤ s → s < 3 → 0 ≤ p → p < A (13 + s) → f (11 * s + 1 + p) = A (16 + 10 * s + p)) ∧
  (∀ b, 0 ≤ b → b < 10 → f (33 + b) = if b < A 0 then A (46 + 6 * b + 5) else 3) ∧ f 43 = A 2 ∧ f 44 = A 1 ∧ f 45 = A 4 ∧ f 46 = mn6 (A 9) ∧
  (∀ i w, 0 ≤ i → i < mn6 (A 9) → 0 ≤ w → w < 4 → f (47 + 4 * i + w) = A (1594 + (4 * ((A 9 - mn6 (A 9) + i) % 512) + w)))) := rfl
theorem RS.fr {f A A' : Int → Int} {k : Int} (hk : 0 ≤ k) (e : ∀ i, 106 ≤ i → A' i = A i) (h : RS f A k) : RS f A' k := by
  unfold RS at h ⊢
  rw [e _ (by omega), e (154 + 48 * k + 2) (by omega), e (154 + 48 * k + 1) (by omega), e (154 + 48 * k + 3) (by omega), e (154 + 48 * k + 4) (by omega)]
  exact h.cg (fun s s0 s1 => e _ (by omega)) (fun s p s0 s1 p0 p1 => e _ (by omega)) (fun b b0 b1 => e _ (by omega)) (fun i i0 i1 => e _ (by omega))
/-- the row changes and nothing else -/
theorem CI.row {T : jjT} {A A' X : Int → Int} {v : Int → Int → Int} {f' : Int → Int} (h : CI (v, T) A X) (hf : RW f' A') (hF : FR A A') (hb : ∀ b w, 0 ≤ b → b < 10 → 0 ≤ w → w < 5 → A' (46 + 6 * b + w) = A (46 + 6 * b + w)) (hB : TB A') : CI (upA v 404 f', T) A' X := by
  have g : jGR (v, T) (upA v 404 f', T) := jGR_of (fun a ha => upA_ne (by unfold jfz at ha; omega))
  have h0 := h.tb.1
  have h7 := h.2.2.2.2.2.1
  have h8 := h.2.2.2.2.2.2.1
  have e := fun i (hi : i < 13 ∨ 106 ≤ i) => hF i hi
  obtain ⟨⟨q1, q2, q3, q4, q5, q6, q7⟩, hn, ht, _, hx, _, _, hl⟩ := h
  dsimp only at q1 q2 q3 q4 q5 q6 q7
  refine ⟨⟨?_, fun s s0 s1 => ?_, ?_, fun b w b0 b1 w0 w1 => ?_, fun k w k0 k1 w0 w1 => ?_, fun k k0 k1 => ?_, fun t t0 t1 => ?_⟩, ?_, ht.gr g, hB, ?_, ?_, ?_, ?_⟩
  · dsimp only
    rw [upA_ne (by omega)]
    unfold cN at q1 ⊢
    rw [e 0 (by omega), e 3 (by omega), e 5 (by omega), e 6 (by omega), e 7 (by omega), e 8 (by omega)]
    exact q1
  · dsimp only; rw [upA_ne (by omega), e _ (by omega)]; exact q2 s s0 s1
  · exact hf
  · dsimp only
    rw [e 0 (by omega)] at b1
    rw [upA_ne (by omega), hb b w b0 (by omega) w0 w1]
    exact q4 b w b0 b1 w0 w1
  · dsimp only
    rw [e 8 (by omega)] at k1
    rw [upA_ne (by omega), e _ (by omega)]
    exact q5 k w k0 k1 w0 w1
  · dsimp only
    rw [e 7 (by omega)] at k1
    rw [upA_ne (by omega)]
    exact (q6 k k0 k1).fr k0 (fun i hi => e i (by omega))
  · dsimp only
    rw [e 5 (by omega)] at t1
    rw [upA_ne (by omega)]
    exact (q7 t t0 t1).gr g
  · dsimp only; rw [upA_ne (by omega)]; exact hn
  · rw [e 5 (by omega)]; exact hx
  · rw [e 7 (by omega)]; exact h7
  · rw [e 8 (by omega)]; exact h8
  · intro b b0 b1
    rw [e 0 (by omega)] at b1
    rw [hb b 4 b0 (by omega) (by omega) (by omega)]
    exact hl b b0 b1
/-- a book's place closes -/
def rmF (f : Int → Int) (s p m : Int) : Int → Int := up1 (fun k => if 11 * s + 1 + p ≤ k ∧ k < 11 * s + 1 + p + (m - p - 1) then f (11 * s + 1 + p + 1 + (k - (11 * s + 1 + p))) else f k) (11 * s) (m - 1)
theorem rmF_hi {f : Int → Int} {s p m k : Int} (hs : 0 ≤ s ∧ s < 3) (hp : 0 ≤ p) (hm : m ≤ 10) (hk : 33 ≤ k) : rmF f s p m k = f k := by
  unfold rmF
  rw [up1_ne (by omega), if_neg (by omega)]
theorem RW_rm {f A : Int → Int} {s p to : Int} (hB : TB A) (h : RW f A) (hs : 0 ≤ s ∧ s < 3) (hp : 0 ≤ p ∧ p < A (13 + s)) (hb : A (16 + 10 * s + p) < A 0) : RW (up1 (rmF f s p (A (13 + s))) (33 + A (16 + 10 * s + p)) to) (pullA A s p to) := by
  have hm := hB.2.2.2.2.2.1 (13 + s) (by omega) (by omega)
  have h0 := hB.1
  have b0 := (hB.2.2.2.2.2.2 (16 + 10 * s + p) (by omega) (by omega))
  have lo := fun i (hi : i < 13 ∨ 106 ≤ i) => pullA_hi (A := A) (s := s) (p := p) (to := to) hi hs hp.1 hm.2 (by omega)
  rw [RW_d] at h ⊢
  obtain ⟨q1, q2, q3, q4, q5, q6, q7, q8⟩ := h
  rw [lo 0 (by omega), lo 2 (by omega), lo 1 (by omega), lo 4 (by omega), lo 9 (by omega)]
  refine ⟨fun t t0 t1 => ?_, fun t q t0 t1 r0 r1 => ?_, fun b c0 c1 => ?_, ?_, ?_, ?_, ?_, fun i w i0 i1 w0 w1 => ?_⟩
  · have a := q1 t t0 t1
    have mt := hB.2.2.2.2.2.1 (13 + t) (by omega) (by omega)
    rw [pullA_n hs hp hm.2 b0.1 ⟨t0, t1⟩, up1_ne (by omega)]
    unfold rmF
    by_cases e : t = s
    · rw [e, up1_eq, if_pos rfl]
    · rw [up1_ne (by omega), if_neg e, if_neg (by omega)]
      exact a
  · have mt := hB.2.2.2.2.2.1 (13 + t) (by omega) (by omega)
    have r1' : q < if t = s then A (13 + s) - 1 else A (13 + t) := by
      have := pullA_n (to := to) hs hp hm.2 b0.1 ⟨t0, t1⟩
      rw [this] at r1
      exact r1
    rw [pullA_p hs hp hm.2 b0.1 ⟨t0, t1⟩ (by split at r1' <;> omega)]
    rw [up1_ne (by split at r1' <;> omega)]
    unfold rmF
    by_cases e : t = s
    · rw [if_pos e] at r1'
      subst e
      rw [up1_ne (by omega)]
      by_cases e2 : p ≤ q
      · rw [if_pos (by omega), if_pos ⟨rfl, e2, r1'⟩, ← q2 t (q + 1) t0 t1 (by omega) (by omega)]
        congr 1
        omega
      · rw [if_neg (by omega), if_neg (by omega)]
        exact q2 t q t0 t1 r0 (by omega)
    · rw [if_neg e] at r1'
      rw [up1_ne (by omega), if_neg (by omega), if_neg (by omega)]
      exact q2 t q t0 t1 r0 r1'
  · have a := q3 b c0 c1
    rw [pullA_w hs hp hm.2 c0]
    by_cases e : b = A (16 + 10 * s + p)
    · rw [e, up1_eq, if_pos hb, if_pos rfl]
    · rw [up1_ne (by omega), rmF_hi hs hp.1 hm.2 (by omega), a, if_neg e]
  · rw [up1_ne (by omega), rmF_hi hs hp.1 hm.2 (by omega)]; exact q4
  · rw [up1_ne (by omega), rmF_hi hs hp.1 hm.2 (by omega)]; exact q5
  · rw [up1_ne (by omega), rmF_hi hs hp.1 hm.2 (by omega)]; exact q6
  · rw [up1_ne (by omega), rmF_hi hs hp.1 hm.2 (by omega)]; exact q7
  · have a := q8 i w i0 i1 w0 w1
    rw [up1_ne (by omega), rmF_hi hs hp.1 hm.2 (by omega), a, lo _ (by omega)]
theorem rmF_up {f : Int → Int} {s p m b z : Int} (hs : 0 ≤ s ∧ s < 3) (hp : 0 ≤ p) (hm : m ≤ 10) (hb : 0 ≤ b) : rmF (up1 f (33 + b) z) s p m = up1 (rmF f s p m) (33 + b) z := by
  funext k
  by_cases e : k = 33 + b
  · rw [e, up1_eq, rmF_hi hs hp hm (by omega), up1_eq]
  · rw [up1_ne e]
    unfold rmF
    by_cases e2 : k = 11 * s
    · rw [e2, up1_eq, up1_eq]
    · rw [up1_ne e2, up1_ne e2]
      by_cases e3 : 11 * s + 1 + p ≤ k ∧ k < 11 * s + 1 + p + (m - p - 1)
      · rw [if_pos e3, if_pos e3, up1_ne (by omega)]
      · rw [if_neg e3, if_neg e3, up1_ne e]
/-- a place opens for a book -/
def inF2 (f : Int → Int) (s p b m : Int) : Int → Int := up1 (up1 (up1 (fun k => if 11 * s + 1 + p + 1 ≤ k ∧ k < 11 * s + 1 + p + 1 + (m - p) then f (11 * s + 1 + p + (k - (11 * s + 1 + p + 1))) else f k) (11 * s + 1 + p) b) (11 * s) (m + 1)) (33 + b) s
theorem RW_in {f A : Int → Int} {s p b : Int} (hB : TB A) (h : RW f A) (hs : 0 ≤ s ∧ s < 3) (hp : 0 ≤ p ∧ p ≤ A (13 + s)) (hm : A (13 + s) < 10) (hb : 0 ≤ b ∧ b < A 0) : RW (inF2 f s p b (A (13 + s))) (setA A b s p) := by
  have hM := hB.2.2.2.2.2.1 (13 + s) (by omega) (by omega)
  have h0 := hB.1
  have lo : ∀ i, (i < 13 ∨ 106 ≤ i) → setA A b s p i = A i := by
    intro i hi
    unfold setA shr
    rw [up1_ne (by omega), up1_ne (by omega), up1_ne (by omega), if_neg (by omega)]
  rw [RW_d] at h ⊢
  obtain ⟨q1, q2, q3, q4, q5, q6, q7, q8⟩ := h
  have hi : ∀ k, 33 ≤ k → k ≠ 33 + b → inF2 f s p b (A (13 + s)) k = f k := by
    intro k k0 k1
    unfold inF2
    rw [up1_ne k1, up1_ne (by omega), up1_ne (by omega), if_neg (by omega)]
  rw [lo 0 (by omega), lo 2 (by omega), lo 1 (by omega), lo 4 (by omega), lo 9 (by omega)]
  refine ⟨fun t t0 t1 => ?_, fun t q t0 t1 r0 r1 => ?_, fun c c0 c1 => ?_, ?_, ?_, ?_, ?_, fun i w i0 i1 w0 w1 => ?_⟩
  · have a := q1 t t0 t1
    rw [setA_n hs hp hb.1 ⟨t0, t1⟩]
    unfold inF2
    rw [up1_ne (by omega)]
    by_cases e : t = s
    · rw [e, up1_eq, if_pos rfl]
    · rw [up1_ne (by omega), up1_ne (by omega), if_neg e, if_neg (by omega)]
      exact a
  · have mt := hB.2.2.2.2.2.1 (13 + t) (by omega) (by omega)
    have r1' : q < if t = s then A (13 + s) + 1 else A (13 + t) := by
      have := setA_n (A := A) hs hp hb.1 ⟨t0, t1⟩
      rw [this] at r1
      exact r1
    rw [setA_p hs hp hm hb.1 ⟨t0, t1⟩ (by split at r1' <;> omega)]
    unfold inF2
    rw [up1_ne (by split at r1' <;> omega), up1_ne (by split at r1' <;> omega)]
    by_cases e : t = s
    · rw [if_pos e] at r1'
      subst e
      by_cases e2 : q = p
      · rw [e2, up1_eq, if_pos ⟨rfl, rfl⟩]
      · rw [up1_ne (by omega), if_neg (show ¬ (t = t ∧ q = p) from fun x => e2 x.2)]
        by_cases e3 : p < q
        · rw [if_pos (show t = t ∧ p < q ∧ q ≤ A (13 + t) from ⟨rfl, e3, by omega⟩), if_pos (by omega), ← q2 t (q - 1) t0 t1 (by omega) (by omega)]
          congr 1
          omega
        · rw [if_neg (show ¬ (t = t ∧ p < q ∧ q ≤ A (13 + t)) from fun x => e3 x.2.1), if_neg (by omega)]
          exact q2 t q t0 t1 r0 (by omega)
    · rw [if_neg e] at r1'
      rw [if_neg (show ¬ (t = s ∧ q = p) from fun x => e x.1), if_neg (show ¬ (t = s ∧ p < q ∧ q ≤ A (13 + s)) from fun x => e x.1), up1_ne (by omega), if_neg (by omega)]
      exact q2 t q t0 t1 r0 r1'
  · have a := q3 c c0 c1
    rw [setA_w hs hp hm hb.1 c0]
    by_cases e : c = b
    · rw [e]
      unfold inF2
      rw [up1_eq, if_pos hb.2, if_pos rfl]
    · rw [hi _ (by omega) (by omega), a, if_neg e]
  · rw [hi _ (by omega) (by omega)]; exact q4
  · rw [hi _ (by omega) (by omega)]; exact q5
  · rw [hi _ (by omega) (by omega)]; exact q6
  · rw [hi _ (by omega) (by omega)]; exact q7
  · have a := q8 i w i0 i1 w0 w1
    rw [hi _ (by omega) (by omega), a, lo _ (by omega)]
section XG
variable {g : jjG} {d : Nat} {T : jjT} {Q : jjQ} {A X : Int → Int} {v : Int → Int → Int}
theorem xw_removes {s p : Int} (hT : PT T) (hV : PV v) (hm : 0 ≤ v 404 (11 * s) ∧ v 404 (11 * s) ≤ 10) (hs : 0 ≤ s ∧ s < 3) (hp : 0 ≤ p ∧ p < v 404 (11 * s)) (hQ : Q (.inl none) (upA v 404 (rmF (v 404) s p (v 404 (11 * s))), T)) : jmet g (d + 2) 0 0 MX1_removes [vR 401, vI s, vI p] (v, T) Q := by
  have many : ∀ Q' : jjQ, Q' (.inl (some (vI (v 404 (11 * s))))) (v, T) → jmet g (d + 1) 0 0 MX1_many [vR 401, vI s] (v, T) Q' := by
    intro Q' q
    refine jmet_of (ls := [some (vR 401), some (vI s)]) sX1_many rfl (by decide +kernel) (by decide) rfl (by simp [jent]) ?_
    refine jW_step ?_
    simp (disch := (first | decide | omega)) only [bX1_many, jxs, hps, jtsw, jlsw, List.length_cons, List.length_nil, true_and, and_true, true_implies, false_implies, implies_true, not_true_eq_false, not_false_eq_true, false_and, and_false, if_true, if_false, or_true, true_or, or_false, false_or, Classical.not_not, and_self, Int.reduceAdd, Int.reduceMul, Int.reduceSub, Int.reduceNeg, Int.reduceLT, Int.reduceLE, Int.reduceEq, Int.reduceNe, Int.reduceToNat, Nat.reduceAdd, Nat.reduceMul, Nat.reduceSub, Nat.reduceLeDiff, Nat.reduceLT, Nat.reduceEqDiff, reduceIte, Nat.zero_le, Nat.le_refl, Nat.add_zero, Nat.zero_add, xwT hT, xwV hV]
    (repeat (refine And.intro (by (first | omega | assumption | trivial | (simp only [inI]; omega) | (simp only [inL]; omega) | (refine jb_01) | (exact jb_in))) ?_))
    exact q
  unfold rmF at hQ
  generalize hM : v 404 (11 * s) = m at *
  refine jmet_of (ls := [some (vR 401), some (vI s), some (vI p), none]) sX1_removes rfl (by decide +kernel) (by decide) rfl (by simp [jent]) ?_
  refine jW_step ?_
  simp (disch := (first | decide | omega)) only [bX1_removes, jxs, hps, jtsw, jlsw, List.length_cons, List.length_nil, true_and, and_true, true_implies, false_implies, implies_true, not_true_eq_false, not_false_eq_true, false_and, and_false, if_true, if_false, or_true, true_or, or_false, false_or, Classical.not_not, and_self, Int.reduceAdd, Int.reduceMul, Int.reduceSub, Int.reduceNeg, Int.reduceLT, Int.reduceLE, Int.reduceEq, Int.reduceNe, Int.reduceToNat, Nat.reduceAdd, Nat.reduceMul, Nat.reduceSub, Nat.reduceLeDiff, Nat.reduceLT, Nat.reduceEqDiff, reduceIte, Nat.zero_le, Nat.le_refl, Nat.add_zero, Nat.zero_add, xwT hT, xwV hV]
  (repeat (refine And.intro (by (first | omega | assumption | trivial | (simp only [inI]; omega) | (simp only [inL]; omega) | (refine jb_01) | (exact jb_in))) ?_))
  refine ⟨0, 0, ⟨by omega, by omega⟩, many _ ?_⟩
  have e9 : ¬ (11 * s + 1 + p ≤ 11 * s) := by omega
  simp (disch := (first | decide | omega)) only [jxs, hps, jtsw, jlsw, List.length_cons, List.length_nil, true_and, and_true, true_implies, false_implies, implies_true, not_true_eq_false, not_false_eq_true, false_and, and_false, if_true, if_false, or_true, true_or, or_false, false_or, Classical.not_not, and_self, Int.reduceAdd, Int.reduceMul, Int.reduceSub, Int.reduceNeg, Int.reduceLT, Int.reduceLE, Int.reduceEq, Int.reduceNe, Int.reduceToNat, Nat.reduceAdd, Nat.reduceMul, Nat.reduceSub, Nat.reduceLeDiff, Nat.reduceLT, Nat.reduceEqDiff, reduceIte, Nat.zero_le, Nat.le_refl, Nat.add_zero, Nat.zero_add, xwT hT, xwV hV, jcpy_eq]
  (repeat (refine And.intro (by (first | omega | assumption | trivial | (simp only [inI]; omega) | (simp only [inL]; omega) | (refine jb_01) | (exact jb_in))) ?_))
  rw [if_neg (by omega), hM]
  (repeat (refine And.intro (by (first | omega | assumption | trivial | (simp only [inI]; omega) | (simp only [inL]; omega) | (refine jb_01) | (exact jb_in))) ?_))
  exact hQ
theorem xw_inserts {s p b : Int} (hT : PT T) (hV : PV v) (hm : 0 ≤ v 404 (11 * s) ∧ v 404 (11 * s) < 10) (hs : 0 ≤ s ∧ s < 3) (hp : 0 ≤ p ∧ p ≤ v 404 (11 * s)) (hb : 0 ≤ b ∧ b < 10) (hQ : Q (.inl none) (upA v 404 (inF2 (v 404) s p b (v 404 (11 * s))), T)) : jmet g (d + 2) 0 0 MX1_inserts [vR 401, vI s, vI p, vI b] (v, T) Q := by
  have many : ∀ Q' : jjQ, Q' (.inl (some (vI (v 404 (11 * s))))) (v, T) → jmet g (d + 1) 0 0 MX1_many [vR 401, vI s] (v, T) Q' := by
    intro Q' q
    refine jmet_of (ls := [some (vR 401), some (vI s)]) sX1_many rfl (by decide +kernel) (by decide) rfl (by simp [jent]) ?_
    refine jW_step ?_
    simp (disch := (first | decide | omega)) only [bX1_many, jxs, hps, jtsw, jlsw, List.length_cons, List.length_nil, true_and, and_true, true_implies, false_implies, implies_true, not_true_eq_false, not_false_eq_true, false_and, and_false, if_true, if_false, or_true, true_or, or_false, false_or, Classical.not_not, and_self, Int.reduceAdd, Int.reduceMul, Int.reduceSub, Int.reduceNeg, Int.reduceLT, Int.reduceLE, Int.reduceEq, Int.reduceNe, Int.reduceToNat, Nat.reduceAdd, Nat.reduceMul, Nat.reduceSub, Nat.reduceLeDiff, Nat.reduceLT, Nat.reduceEqDiff, reduceIte, Nat.zero_le, Nat.le_refl, Nat.add_zero, Nat.zero_add, xwT hT, xwV hV]
    (repeat (refine And.intro (by (first | omega | assumption | trivial | (simp only [inI]; omega) | (simp only [inL]; omega) | (refine jb_01) | (exact jb_in))) ?_))
    exact q
  unfold inF2 at hQ
  generalize hM : v 404 (11 * s) = m at *
  refine jmet_of (ls := [some (vR 401), some (vI s), some (vI p), some (vI b), none]) sX1_inserts rfl (by decide +kernel) (by decide) rfl (by simp [jent]) ?_
  refine jW_step ?_
  simp (disch := (first | decide | omega)) only [bX1_inserts, jxs, hps, jtsw, jlsw, List.length_cons, List.length_nil, true_and, and_true, true_implies, false_implies, implies_true, not_true_eq_false, not_false_eq_true, false_and, and_false, if_true, if_false, or_true, true_or, or_false, false_or, Classical.not_not, and_self, Int.reduceAdd, Int.reduceMul, Int.reduceSub, Int.reduceNeg, Int.reduceLT, Int.reduceLE, Int.reduceEq, Int.reduceNe, Int.reduceToNat, Nat.reduceAdd, Nat.reduceMul, Nat.reduceSub, Nat.reduceLeDiff, Nat.reduceLT, Nat.reduceEqDiff, reduceIte, Nat.zero_le, Nat.le_refl, Nat.add_zero, Nat.zero_add, xwT hT, xwV hV]
  (repeat (refine And.intro (by (first | omega | assumption | trivial | (simp only [inI]; omega) | (simp only [inL]; omega) | (refine jb_01) | (exact jb_in))) ?_))
  refine ⟨0, 0, ⟨by omega, by omega⟩, many _ ?_⟩
  simp (disch := (first | decide | omega)) only [jxs, hps, jtsw, jlsw, List.length_cons, List.length_nil, true_and, and_true, true_implies, false_implies, implies_true, not_true_eq_false, not_false_eq_true, false_and, and_false, if_true, if_false, or_true, true_or, or_false, false_or, Classical.not_not, and_self, Int.reduceAdd, Int.reduceMul, Int.reduceSub, Int.reduceNeg, Int.reduceLT, Int.reduceLE, Int.reduceEq, Int.reduceNe, Int.reduceToNat, Nat.reduceAdd, Nat.reduceMul, Nat.reduceSub, Nat.reduceLeDiff, Nat.reduceLT, Nat.reduceEqDiff, reduceIte, Nat.zero_le, Nat.le_refl, Nat.add_zero, Nat.zero_add, xwT hT, xwV hV, jcpy_eq]
  (repeat (refine And.intro (by (first | omega | assumption | trivial | (simp only [inI]; omega) | (simp only [inL]; omega) | (refine jb_01) | (exact jb_in))) ?_))
  rw [if_neg (by omega), hM]
  (repeat (refine And.intro (by (first | omega | assumption | trivial | (simp only [inI]; omega) | (simp only [inL]; omega) | (refine jb_01) | (exact jb_in))) ?_))
  exact hQ
end XG
