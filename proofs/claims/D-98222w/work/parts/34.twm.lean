/-! ===== the reference: a text played; a year ===== -/
set_option maxRecDepth 100000
theorem SH.wh {A : Int → Int} (h : SH A) (hB : TB A) {b z : Int} (hb : 0 ≤ b ∧ b < A 0) (hw : 3 ≤ A (46 + 6 * b + 5)) (hz : 3 ≤ z) : SH (up1 A (46 + 6 * b + 5) z) := by
  obtain ⟨ha, hb2, hc, hd⟩ := h
  have he := hB.2.2.2.2.2.2
  have hm := hB.2.2.2.2.2.1
  have h0 := hB.1
  have e : ∀ i, ¬ i = 46 + 6 * b + 5 → up1 A (46 + 6 * b + 5) z i = A i := fun i hi => up1_ne hi
  refine ⟨?_, ?_, ?_, ?_⟩
  · intro s p s0 s1 p0 p1
    rw [e (13 + s) (by omega)] at p1
    have m := hm (13 + s) (by omega) (by omega)
    have g := (he (16 + 10 * s + p) (by omega) (by omega)).1
    have a := ha s p s0 s1 p0 p1
    have ne : ¬ A (16 + 10 * s + p) = b := fun q => by rw [q] at a; omega
    rw [e (16 + 10 * s + p) (by omega), e 0 (by omega), e _ (by omega)]
    exact a
  · intro s p q s0 s1 p0 p1 q0 q1
    rw [e (13 + s) (by omega)] at p1 q1
    have m := hm (13 + s) (by omega) (by omega)
    rw [e (16 + 10 * s + p) (by omega), e (16 + 10 * s + q) (by omega)]
    exact hb2 s p q s0 s1 p0 p1 q0 q1
  · intro c c0 c1 c2
    rw [e 0 (by omega)] at c1
    by_cases q : c = b
    · subst q; rw [up1_eq] at c2; omega
    · rw [e (46 + 6 * c + 5) (by omega)] at c2 ⊢
      have w0 := (he (46 + 6 * c + 5) (by omega) (by omega)).1
      obtain ⟨p, p0, p1, p2⟩ := hc c c0 c1 c2
      have m := hm (13 + A (46 + 6 * c + 5)) (by omega) (by omega)
      refine ⟨p, p0, ?_, ?_⟩
      · rw [e (13 + A (46 + 6 * c + 5)) (by omega)]; exact p1
      · rw [e (16 + 10 * A (46 + 6 * c + 5) + p) (by omega)]; exact p2
  · have o := outF_up (A := A) (A' := up1 A (46 + 6 * b + 5) z) hb.1 (A 0).toNat (by omega) (fun c c0 c1 cn => up1_ne (by omega))
    rw [up1_eq, if_pos hz, if_pos hw] at o
    rw [e 0 (by omega), e 13 (by omega), e 14 (by omega), e 15 (by omega)]
    omega
theorem FR.w {A : Int → Int} {b z : Int} (hb : 0 ≤ b ∧ b < 10) : FR A (up1 A (46 + 6 * b + 5) z) := fun i hi => up1_ne (by omega)
theorem TB.w {A : Int → Int} (h : TB A) {b z : Int} (hb : 0 ≤ b ∧ b < 10) (hz : 0 ≤ z ∧ z ≤ 9) : TB (up1 A (46 + 6 * b + 5) z) := by
  refine h.of (up1_ne (by omega)) (up1_ne (by omega)) (up1_ne (by omega)) (up1_ne (by omega)) (up1_ne (by omega)) ?_ ?_
  · intro i h1 h2; rw [up1_ne (by omega)]; exact h.2.2.2.2.2.1 i h1 h2
  · intro i h1 h2
    by_cases e : i = 46 + 6 * b + 5
    · subst e; rw [up1_eq]; exact hz
    · rw [up1_ne e]; exact h.2.2.2.2.2.2 i h1 h2
theorem opNight_TI {A X : Int → Int} {f n : Int} (h : TI A) : TI (opNight A X f n).1 ∧ (opNight A X f n).1 5 = A 5 ∧ f ≤ (opNight A X f n).2.1 ∧ (opNight A X f n).2.1 ≤ f + 3000 := by
  unfold opNight
  split
  · rename_i q
    have a := ntL_ok (X := X) n.toNat A f 0 h.1
    exact ⟨ntL_TI _ _ _ _ h (by omega), a.2.2.2.2.1, by omega, by omega⟩
  · exact ⟨h, rfl, by dsimp only; omega, by dsimp only; omega⟩
theorem opNudge_TI {A : Int → Int} {f s p : Int} (h : TI A) : TI (opNudge A f s p).1 ∧ (opNudge A f s p).1 5 = A 5 ∧ f ≤ (opNudge A f s p).2.1 ∧ (opNudge A f s p).2.1 ≤ f + 3000 := by
  unfold opNudge
  split
  · rename_i q
    have k := keepA_TI h
    have h7 := h.1.2.2.1
    have hm := h.1.1.2.2.2.2.2.1 (13 + s) (by omega) (by omega)
    have em : keepA A (13 + s) = A (13 + s) := keepA_p h7 (by omega) (by omega)
    have fr : FR (keepA A) (excA (keepA A) s p) := fun i hi => excA_o (by omega) (by omega) (by omega)
    refine ⟨k.fr fr (k.1.1.exc (by omega) (by omega)) (k.2.1.exc k.1.1 (by omega) (by rw [em]; omega)), ?_, by dsimp only; omega, by dsimp only; omega⟩
    dsimp only
    rw [fr 5 (by omega), keepA_lo h7 (by omega) (by omega)]
  · exact ⟨h, rfl, by dsimp only; omega, by dsimp only; omega⟩
theorem opTake_TI {A : Int → Int} {f b : Int} (h : TI A) : TI (opTake A f b).1 ∧ (opTake A f b).1 5 = A 5 ∧ f ≤ (opTake A f b).2.1 ∧ (opTake A f b).2.1 ≤ f + 3000 := by
  unfold opTake
  split
  · rename_i q
    have k := keepA_TI h
    have h7 := h.1.2.2.1
    have h0 := h.1.1.1
    have ek : keepA A (46 + 6 * b + 5) = A (46 + 6 * b + 5) := keepA_p h7 (by omega) (by omega)
    have e0 : keepA A 0 = A 0 := keepA_lo h7 (by omega) (by omega)
    unfold tak
    split
    · have pl := plA_ok h.1.1 h.2.1 (b := b) (by omega) (by omega)
      have m := h.1.1.2.2.2.2.2.1 (13 + A (46 + 6 * b + 5)) (by omega) (by omega)
      have em : keepA A (13 + A (46 + 6 * b + 5)) = A (13 + A (46 + 6 * b + 5)) := keepA_p h7 (by omega) (by omega)
      have fr := FR.pull (to := 3) k.1.1 pl.1 (p := plA A b) (by rw [em]; exact pl.2.1)
      refine ⟨k.fr fr (k.1.1.pull pl.1 (by rw [em]; exact pl.2.1) (by omega)) (k.2.1.pull k.1.1 pl.1 (by rw [em]; exact pl.2.1) (by omega)), ?_, by dsimp only; omega, by dsimp only; omega⟩
      dsimp only
      rw [fr 5 (by omega), keepA_lo h7 (by omega) (by omega)]
    · have fr : FR (keepA A) (up1 (keepA A) (46 + 6 * b + 5) 3) := FR.w (by omega)
      refine ⟨k.fr fr (k.1.1.w (by omega) (by omega)) (k.2.1.wh k.1.1 (by rw [e0]; omega) (by rw [ek]; omega) (by omega)), ?_, by dsimp only; omega, by dsimp only; omega⟩
      dsimp only
      rw [fr 5 (by omega), keepA_lo h7 (by omega) (by omega)]
  · exact ⟨h, rfl, by dsimp only; omega, by dsimp only; omega⟩
theorem FR.set {A : Int → Int} {b s p : Int} (hs : 0 ≤ s ∧ s < 3) (hp : 0 ≤ p ∧ p ≤ A (13 + s)) (hm : A (13 + s) < 10) (hb : 0 ≤ b ∧ b < 10) : FR A (setA A b s p) := by
  intro i hi
  unfold setA shr
  rw [up1_ne (by omega), up1_ne (by omega), up1_ne (by omega), if_neg (by omega)]
theorem opPut_TI {A X : Int → Int} {f b s p : Int} (h : TI A) : TI (opPut A X f b s p).1 ∧ (opPut A X f b s p).1 5 = A 5 ∧ f ≤ (opPut A X f b s p).2.1 ∧ (opPut A X f b s p).2.1 ≤ f + 3000 := by
  unfold opPut
  split
  · rename_i q
    have k := keepA_TI h
    have h7 := h.1.2.2.1
    have h0 := h.1.1.1
    have ek : keepA A (46 + 6 * b + 5) = A (46 + 6 * b + 5) := keepA_p h7 (by omega) (by omega)
    have e0 : keepA A 0 = A 0 := keepA_lo h7 (by omega) (by omega)
    have em : keepA A (13 + s) = A (13 + s) := keepA_p h7 (by omega) (by omega)
    have room := h.2.1.room h.1.1 (b := b) (s := s) (by omega) (by omega) (by omega)
    have fr := FR.set (A := keepA A) (b := b) (s := s) (p := p) (by omega) (by rw [em]; omega) (by rw [em]; omega) (by omega)
    refine ⟨k.fr fr (k.1.1.set (by omega) (by rw [em]; omega) (by rw [em]; omega) (by omega)) (k.2.1.set k.1.1 (by omega) (by rw [em]; omega) (by rw [e0]; omega) (by rw [ek]; omega)), ?_, by dsimp only; omega, by dsimp only; omega⟩
    dsimp only
    rw [fr 5 (by omega), keepA_lo h7 (by omega) (by omega)]
  · exact ⟨h, rfl, by dsimp only; omega, by dsimp only; omega⟩
theorem TI.n2 {A : Int → Int} (h : TI A) {z : Int} (hz : 0 ≤ z ∧ z ≤ 1) : TI (up1 A 2 z) := by
  obtain ⟨⟨hB, hW, h7, h9, h1⟩, hS, hn, hp, h4⟩ := h
  refine ⟨⟨hB.n2 hz, fun i h1 h2 => by rw [up1_ne (by omega)]; exact hW i h1 h2, ?_, ?_, ?_⟩, hS.ext (up1_ne (by omega)) (fun i _ _ => up1_ne (by omega)) hB, ?_, ?_, ?_⟩
  · rw [up1_ne (by omega)]; exact h7
  · rw [up1_ne (by omega)]; exact h9
  · rw [up1_ne (by omega)]; exact h1
  · rw [up1_ne (by omega)]; exact hn
  · rw [up1_ne (by omega), up1_ne (by omega)]; exact hp
  · rw [up1_ne (by omega)]; exact h4
theorem opWet_TI {A X : Int → Int} {f is : Int} (h : TI A) : TI (opWet A X f is).1 ∧ (opWet A X f is).1 5 = A 5 ∧ f ≤ (opWet A X f is).2.1 ∧ (opWet A X f is).2.1 ≤ f + 3000 := by
  have k := keepA_TI h
  have h7 := h.1.2.2.1
  unfold opWet
  split
  · exact ⟨h, rfl, by dsimp only; omega, by dsimp only; omega⟩
  · split
    · refine ⟨k.n2 (by omega), ?_, by dsimp only; omega, by dsimp only; omega⟩
      dsimp only
      rw [up1_ne (by omega), keepA_lo h7 (by omega) (by omega)]
    · have k2 := k.n2 (z := 1) (by omega)
      refine ⟨fallA_TI k2, ?_, by dsimp only; omega, by dsimp only; omega⟩
      dsimp only
      rw [(fallA_ok (X := X) k2.1.1).2.1 5 (by omega), up1_ne (by omega), keepA_lo h7 (by omega) (by omega)]
def opX (A X : Int → Int) (f x : Int) : opR := if X x = 4 then opNight A X f (X (x + 1)) else if X x = 5 then opNudge A f (X (x + 1)) (X (x + 2)) else if X x = 6 then opTake A f (X (x + 1)) else if X x = 7 then opPut A X f (X (x + 1)) (X (x + 2)) (X (x + 3)) else if X x = 8 then opWet A X f 1 else if X x = 9 then opWet A X f 0 else (A, f, 0)
theorem opX_TI {A X : Int → Int} {f x : Int} (h : TI A) : TI (opX A X f x).1 ∧ (opX A X f x).1 5 = A 5 ∧ f ≤ (opX A X f x).2.1 ∧ (opX A X f x).2.1 ≤ f + 3000 := by
  unfold opX
  split
  · exact opNight_TI h
  split
  · exact opNudge_TI h
  split
  · exact opTake_TI h
  split
  · exact opPut_TI h
  split
  · exact opWet_TI h
  split
  · exact opWet_TI h
  · exact ⟨h, rfl, by dsimp only; omega, by dsimp only; omega⟩
def pdL (X : Int → Int) (t : Int) : Nat → Int → (Int → Int) → Int → opR
  | 0, _, A, f => (A, f, -1)
  | n + 1, k, A, f => if (opX A X f (705 * t + 1 + 4 * k)).2.2 < 0 then ((opX A X f (705 * t + 1 + 4 * k)).1, (opX A X f (705 * t + 1 + 4 * k)).2.1, k) else pdL X t n (k + 1) (opX A X f (705 * t + 1 + 4 * k)).1 (opX A X f (705 * t + 1 + 4 * k)).2.1
def opPlayed (A X : Int → Int) (f t : Int) : opR := if 0 ≤ t ∧ t ≤ A 5 - 1 then pdL X t (X (705 * t)).toNat 0 A f else (A, f, -2)
theorem pdL_TI {X : Int → Int} {t : Int} : ∀ (n : Nat) (k : Int) (A : Int → Int) (f : Int), TI A → TI (pdL X t n k A f).1 ∧ (pdL X t n k A f).1 5 = A 5 ∧ f ≤ (pdL X t n k A f).2.1 ∧ (pdL X t n k A f).2.1 ≤ f + 3000 * n
  | 0, k, A, f, h => by
    unfold pdL
    exact ⟨h, rfl, by dsimp only; omega, by dsimp only; omega⟩
  | n + 1, k, A, f, h => by
    have o := opX_TI (X := X) (f := f) (x := 705 * t + 1 + 4 * k) h
    unfold pdL
    split
    · exact ⟨o.1, o.2.1, by dsimp only; omega, by dsimp only; omega⟩
    · have r := pdL_TI (X := X) (t := t) n (k + 1) _ (opX A X f (705 * t + 1 + 4 * k)).2.1 o.1
      exact ⟨r.1, r.2.1.trans o.2.1, by omega, by omega⟩
section TG
variable {g : jjG} {d : Nat} {T : jjT} {Q : jjQ}
theorem tw_isPlayed {v : Int → Int → Int} {x : Int} (hT : PT T) (hV : PV v) (hS : TE v ∧ TI (v 540) ∧ (0 ≤ x ∧ x + 3 < 2820) ∧ (∀ i, 1 ≤ i → i ≤ 3 → 4 ≤ v 542 x → v 542 x ≤ 7 → inI (v 542 (x + i)) ∨ True) ∧ (v 542 x = 4 → inI (v 542 (x + 1))) ∧ (0 ≤ v 539 25 ∧ v 539 25 < 900000000)) (hQ : ∀ w, jkn v (opX (v 540) (v 542) (v 539 25) x).1 (opX (v 540) (v 542) (v 539 25) x).2.1 w → Q (.inl (some (vI (jb (0 ≤ (opX (v 540) (v 542) (v 539 25) x).2.2))))) (w, T)) : jmet g (d + 10) 0 0 MX2_isPlayed [vR 539, vI x] (v, T) Q := by
  obtain ⟨hE, hI, hx, -, hn, hf⟩ := hS
  have h9 := hI.1.2.2.2.1
  have hp := hI.2.2.2.1
  refine jmet_of (ls := [some (vR 539), some (vI x)]) sX2_isPlayed rfl (by decide +kernel) (by decide) rfl (by simp [jent]) ?_
  unfold opX at hQ
  refine jW_step ?_
  simp (disch := (first | decide | omega)) only [bX2_isPlayed, jxs, hps, jtsw, jlsw, List.length_cons, List.length_nil, true_and, and_true, true_implies, false_implies, implies_true, not_true_eq_false, not_false_eq_true, false_and, and_false, if_true, if_false, or_true, true_or, or_false, false_or, Classical.not_not, and_self, Int.reduceAdd, Int.reduceMul, Int.reduceSub, Int.reduceNeg, Int.reduceLT, Int.reduceLE, Int.reduceEq, Int.reduceNe, Int.reduceToNat, Nat.reduceAdd, Nat.reduceMul, Nat.reduceSub, Nat.reduceLeDiff, Nat.reduceLT, Nat.reduceEqDiff, reduceIte, Nat.zero_le, Nat.le_refl, Nat.add_zero, Nat.zero_add, twT hT, twV hV]
  (repeat (refine And.intro (by (first | omega | assumption | trivial | (simp only [inI]; omega) | (simp only [inL]; omega) | (refine jb_01) | (exact jb_in))) ?_))
  refine ⟨⟨fun h => ?_, fun h => ?_, fun h => ?_, fun h => ?_, fun h => ?_, fun h => ?_⟩, fun h => ?_⟩
  · rw [if_pos h] at hQ
    (repeat (refine And.intro (by (first | omega | assumption | trivial | (simp only [inI]; omega) | (simp only [inL]; omega) | (refine jb_01) | (exact jb_in))) ?_))
    refine ⟨0, 0, ⟨by omega, by omega⟩, tw_night hT hV ⟨hE, hI.1, by have := hI.2.2.1; omega, by omega, hn h⟩ ?_⟩
    have key : ∀ w z, (opNight (v 540) (v 542) (v 539 25) (v 542 (x + 1))).2.2 = z → jkn v (opNight (v 540) (v 542) (v 539 25) (v 542 (x + 1))).1 (opNight (v 540) (v 542) (v 539 25) (v 542 (x + 1))).2.1 w → (z < 0 → jW bX2_isPlayed (g, d + 9, 0, 0, Q) 1 [some (vR 539), some (vI x)] [vI 0] (w, T) 0 0) ∧ (¬ z < 0 → jW bX2_isPlayed (g, d + 9, 0, 0, Q) 1 [some (vR 539), some (vI x)] [vI 1] (w, T) 0 0) := by
      intro w z hz hw
      have hq := hQ w hw
      rw [hz] at hq
      refine ⟨fun h3 => ?_, fun h3 => ?_⟩
      · refine jW_step ?_
        simp (disch := (first | decide | omega)) only [bX2_isPlayed, jxs, hps, jtsw, jlsw, List.length_cons, List.length_nil, true_and, and_true, true_implies, false_implies, implies_true, not_true_eq_false, not_false_eq_true, false_and, and_false, if_true, if_false, or_true, true_or, or_false, false_or, Classical.not_not, and_self, Int.reduceAdd, Int.reduceMul, Int.reduceSub, Int.reduceNeg, Int.reduceLT, Int.reduceLE, Int.reduceEq, Int.reduceNe, Int.reduceToNat, Nat.reduceAdd, Nat.reduceMul, Nat.reduceSub, Nat.reduceLeDiff, Nat.reduceLT, Nat.reduceEqDiff, reduceIte, Nat.zero_le, Nat.le_refl, Nat.add_zero, Nat.zero_add, twT hT, twV hV]
        (repeat (refine And.intro (by (first | omega | assumption | trivial | (simp only [inI]; omega) | (simp only [inL]; omega) | (refine jb_01) | (exact jb_in))) ?_))
        (first | exact hq | (rw [jb_t (by omega)] at hq; exact hq) | (rw [jb_f (by omega)] at hq; exact hq))
      · refine jW_step ?_
        simp (disch := (first | decide | omega)) only [bX2_isPlayed, jxs, hps, jtsw, jlsw, List.length_cons, List.length_nil, true_and, and_true, true_implies, false_implies, implies_true, not_true_eq_false, not_false_eq_true, false_and, and_false, if_true, if_false, or_true, true_or, or_false, false_or, Classical.not_not, and_self, Int.reduceAdd, Int.reduceMul, Int.reduceSub, Int.reduceNeg, Int.reduceLT, Int.reduceLE, Int.reduceEq, Int.reduceNe, Int.reduceToNat, Nat.reduceAdd, Nat.reduceMul, Nat.reduceSub, Nat.reduceLeDiff, Nat.reduceLT, Nat.reduceEqDiff, reduceIte, Nat.zero_le, Nat.le_refl, Nat.add_zero, Nat.zero_add, twT hT, twV hV]
        (repeat (refine And.intro (by (first | omega | assumption | trivial | (simp only [inI]; omega) | (simp only [inL]; omega) | (refine jb_01) | (exact jb_in))) ?_))
        (first | exact hq | (rw [jb_t (by omega)] at hq; exact hq) | (rw [jb_f (by omega)] at hq; exact hq))
    refine ⟨fun hno => ?_, fun hyes w hw => ?_⟩
    · simp (disch := (first | decide | omega)) only [jxs, hps, jtsw, jlsw, List.length_cons, List.length_nil, true_and, and_true, true_implies, false_implies, implies_true, not_true_eq_false, not_false_eq_true, false_and, and_false, if_true, if_false, or_true, true_or, or_false, false_or, Classical.not_not, and_self, Int.reduceAdd, Int.reduceMul, Int.reduceSub, Int.reduceNeg, Int.reduceLT, Int.reduceLE, Int.reduceEq, Int.reduceNe, Int.reduceToNat, Nat.reduceAdd, Nat.reduceMul, Nat.reduceSub, Nat.reduceLeDiff, Nat.reduceLT, Nat.reduceEqDiff, reduceIte, Nat.zero_le, Nat.le_refl, Nat.add_zero, Nat.zero_add, twT hT, twV hV]
      have e : opNight (v 540) (v 542) (v 539 25) (v 542 (x + 1)) = (v 540, v 539 25, -1) := if_neg hno
      rw [e] at key
      exact (key v (-1) rfl jkn.rf).1 (by omega)
    · simp (disch := (first | decide | omega)) only [jxs, hps, jtsw, jlsw, List.length_cons, List.length_nil, true_and, and_true, true_implies, false_implies, implies_true, not_true_eq_false, not_false_eq_true, false_and, and_false, if_true, if_false, or_true, true_or, or_false, false_or, Classical.not_not, and_self, Int.reduceAdd, Int.reduceMul, Int.reduceSub, Int.reduceNeg, Int.reduceLT, Int.reduceLE, Int.reduceEq, Int.reduceNe, Int.reduceToNat, Nat.reduceAdd, Nat.reduceMul, Nat.reduceSub, Nat.reduceLeDiff, Nat.reduceLT, Nat.reduceEqDiff, reduceIte, Nat.zero_le, Nat.le_refl, Nat.add_zero, Nat.zero_add, twT hT, twV hV]
      have e : opNight (v 540) (v 542) (v 539 25) (v 542 (x + 1)) = ntL (v 542) (v 542 (x + 1)).toNat (v 540) (v 539 25) 0 := if_pos hyes
      rw [e] at key
      exact key w _ rfl hw
  · rw [if_neg (by omega), if_pos h] at hQ
    (repeat (refine And.intro (by (first | omega | assumption | trivial | (simp only [inI]; omega) | (simp only [inL]; omega) | (refine jb_01) | (exact jb_in))) ?_))
    refine ⟨0, 0, ⟨by omega, by omega⟩, tw_nudge hT hV ⟨hE, hI⟩ ?_⟩
    intro w hw
    have hq := hQ w hw
    simp (disch := (first | decide | omega)) only [jxs, hps, jtsw, jlsw, List.length_cons, List.length_nil, true_and, and_true, true_implies, false_implies, implies_true, not_true_eq_false, not_false_eq_true, false_and, and_false, if_true, if_false, or_true, true_or, or_false, false_or, Classical.not_not, and_self, Int.reduceAdd, Int.reduceMul, Int.reduceSub, Int.reduceNeg, Int.reduceLT, Int.reduceLE, Int.reduceEq, Int.reduceNe, Int.reduceToNat, Nat.reduceAdd, Nat.reduceMul, Nat.reduceSub, Nat.reduceLeDiff, Nat.reduceLT, Nat.reduceEqDiff, reduceIte, Nat.zero_le, Nat.le_refl, Nat.add_zero, Nat.zero_add, twT hT, twV hV]
    refine ⟨fun h3 => ?_, fun h3 => ?_⟩
    · refine jW_step ?_
      simp (disch := (first | decide | omega)) only [bX2_isPlayed, jxs, hps, jtsw, jlsw, List.length_cons, List.length_nil, true_and, and_true, true_implies, false_implies, implies_true, not_true_eq_false, not_false_eq_true, false_and, and_false, if_true, if_false, or_true, true_or, or_false, false_or, Classical.not_not, and_self, Int.reduceAdd, Int.reduceMul, Int.reduceSub, Int.reduceNeg, Int.reduceLT, Int.reduceLE, Int.reduceEq, Int.reduceNe, Int.reduceToNat, Nat.reduceAdd, Nat.reduceMul, Nat.reduceSub, Nat.reduceLeDiff, Nat.reduceLT, Nat.reduceEqDiff, reduceIte, Nat.zero_le, Nat.le_refl, Nat.add_zero, Nat.zero_add, twT hT, twV hV]
      (repeat (refine And.intro (by (first | omega | assumption | trivial | (simp only [inI]; omega) | (simp only [inL]; omega) | (refine jb_01) | (exact jb_in))) ?_))
      (first | exact hq | (rw [jb_t (by omega)] at hq; exact hq) | (rw [jb_f (by omega)] at hq; exact hq))
    · refine jW_step ?_
      simp (disch := (first | decide | omega)) only [bX2_isPlayed, jxs, hps, jtsw, jlsw, List.length_cons, List.length_nil, true_and, and_true, true_implies, false_implies, implies_true, not_true_eq_false, not_false_eq_true, false_and, and_false, if_true, if_false, or_true, true_or, or_false, false_or, Classical.not_not, and_self, Int.reduceAdd, Int.reduceMul, Int.reduceSub, Int.reduceNeg, Int.reduceLT, Int.reduceLE, Int.reduceEq, Int.reduceNe, Int.reduceToNat, Nat.reduceAdd, Nat.reduceMul, Nat.reduceSub, Nat.reduceLeDiff, Nat.reduceLT, Nat.reduceEqDiff, reduceIte, Nat.zero_le, Nat.le_refl, Nat.add_zero, Nat.zero_add, twT hT, twV hV]
      (repeat (refine And.intro (by (first | omega | assumption | trivial | (simp only [inI]; omega) | (simp only [inL]; omega) | (refine jb_01) | (exact jb_in))) ?_))
      (first | exact hq | (rw [jb_t (by omega)] at hq; exact hq) | (rw [jb_f (by omega)] at hq; exact hq))
  · rw [if_neg (by omega), if_neg (by omega), if_pos h] at hQ
    (repeat (refine And.intro (by (first | omega | assumption | trivial | (simp only [inI]; omega) | (simp only [inL]; omega) | (refine jb_01) | (exact jb_in))) ?_))
    refine ⟨0, 0, ⟨by omega, by omega⟩, tw_take hT hV ⟨hE, hI⟩ ?_⟩
    intro w hw
    have hq := hQ w hw
    simp (disch := (first | decide | omega)) only [jxs, hps, jtsw, jlsw, List.length_cons, List.length_nil, true_and, and_true, true_implies, false_implies, implies_true, not_true_eq_false, not_false_eq_true, false_and, and_false, if_true, if_false, or_true, true_or, or_false, false_or, Classical.not_not, and_self, Int.reduceAdd, Int.reduceMul, Int.reduceSub, Int.reduceNeg, Int.reduceLT, Int.reduceLE, Int.reduceEq, Int.reduceNe, Int.reduceToNat, Nat.reduceAdd, Nat.reduceMul, Nat.reduceSub, Nat.reduceLeDiff, Nat.reduceLT, Nat.reduceEqDiff, reduceIte, Nat.zero_le, Nat.le_refl, Nat.add_zero, Nat.zero_add, twT hT, twV hV]
    refine ⟨fun h3 => ?_, fun h3 => ?_⟩
    · refine jW_step ?_
      simp (disch := (first | decide | omega)) only [bX2_isPlayed, jxs, hps, jtsw, jlsw, List.length_cons, List.length_nil, true_and, and_true, true_implies, false_implies, implies_true, not_true_eq_false, not_false_eq_true, false_and, and_false, if_true, if_false, or_true, true_or, or_false, false_or, Classical.not_not, and_self, Int.reduceAdd, Int.reduceMul, Int.reduceSub, Int.reduceNeg, Int.reduceLT, Int.reduceLE, Int.reduceEq, Int.reduceNe, Int.reduceToNat, Nat.reduceAdd, Nat.reduceMul, Nat.reduceSub, Nat.reduceLeDiff, Nat.reduceLT, Nat.reduceEqDiff, reduceIte, Nat.zero_le, Nat.le_refl, Nat.add_zero, Nat.zero_add, twT hT, twV hV]
      (repeat (refine And.intro (by (first | omega | assumption | trivial | (simp only [inI]; omega) | (simp only [inL]; omega) | (refine jb_01) | (exact jb_in))) ?_))
      (first | exact hq | (rw [jb_t (by omega)] at hq; exact hq) | (rw [jb_f (by omega)] at hq; exact hq))
    · refine jW_step ?_
      simp (disch := (first | decide | omega)) only [bX2_isPlayed, jxs, hps, jtsw, jlsw, List.length_cons, List.length_nil, true_and, and_true, true_implies, false_implies, implies_true, not_true_eq_false, not_false_eq_true, false_and, and_false, if_true, if_false, or_true, true_or, or_false, false_or, Classical.not_not, and_self, Int.reduceAdd, Int.reduceMul, Int.reduceSub, Int.reduceNeg, Int.reduceLT, Int.reduceLE, Int.reduceEq, Int.reduceNe, Int.reduceToNat, Nat.reduceAdd, Nat.reduceMul, Nat.reduceSub, Nat.reduceLeDiff, Nat.reduceLT, Nat.reduceEqDiff, reduceIte, Nat.zero_le, Nat.le_refl, Nat.add_zero, Nat.zero_add, twT hT, twV hV]
      (repeat (refine And.intro (by (first | omega | assumption | trivial | (simp only [inI]; omega) | (simp only [inL]; omega) | (refine jb_01) | (exact jb_in))) ?_))
      (first | exact hq | (rw [jb_t (by omega)] at hq; exact hq) | (rw [jb_f (by omega)] at hq; exact hq))
  · rw [if_neg (by omega), if_neg (by omega), if_neg (by omega), if_pos h] at hQ
    (repeat (refine And.intro (by (first | omega | assumption | trivial | (simp only [inI]; omega) | (simp only [inL]; omega) | (refine jb_01) | (exact jb_in))) ?_))
    refine ⟨0, 0, ⟨by omega, by omega⟩, tw_put hT hV ⟨hE, hI⟩ ?_⟩
    intro w hw
    have hq := hQ w hw
    simp (disch := (first | decide | omega)) only [jxs, hps, jtsw, jlsw, List.length_cons, List.length_nil, true_and, and_true, true_implies, false_implies, implies_true, not_true_eq_false, not_false_eq_true, false_and, and_false, if_true, if_false, or_true, true_or, or_false, false_or, Classical.not_not, and_self, Int.reduceAdd, Int.reduceMul, Int.reduceSub, Int.reduceNeg, Int.reduceLT, Int.reduceLE, Int.reduceEq, Int.reduceNe, Int.reduceToNat, Nat.reduceAdd, Nat.reduceMul, Nat.reduceSub, Nat.reduceLeDiff, Nat.reduceLT, Nat.reduceEqDiff, reduceIte, Nat.zero_le, Nat.le_refl, Nat.add_zero, Nat.zero_add, twT hT, twV hV]
    refine ⟨fun h3 => ?_, fun h3 => ?_⟩
    · refine jW_step ?_
      simp (disch := (first | decide | omega)) only [bX2_isPlayed, jxs, hps, jtsw, jlsw, List.length_cons, List.length_nil, true_and, and_true, true_implies, false_implies, implies_true, not_true_eq_false, not_false_eq_true, false_and, and_false, if_true, if_false, or_true, true_or, or_false, false_or, Classical.not_not, and_self, Int.reduceAdd, Int.reduceMul, Int.reduceSub, Int.reduceNeg, Int.reduceLT, Int.reduceLE, Int.reduceEq, Int.reduceNe, Int.reduceToNat, Nat.reduceAdd, Nat.reduceMul, Nat.reduceSub, Nat.reduceLeDiff, Nat.reduceLT, Nat.reduceEqDiff, reduceIte, Nat.zero_le, Nat.le_refl, Nat.add_zero, Nat.zero_add, twT hT, twV hV]
      (repeat (refine And.intro (by (first | omega | assumption | trivial | (simp only [inI]; omega) | (simp only [inL]; omega) | (refine jb_01) | (exact jb_in))) ?_))
      (first | exact hq | (rw [jb_t (by omega)] at hq; exact hq) | (rw [jb_f (by omega)] at hq; exact hq))
    · refine jW_step ?_
      simp (disch := (first | decide | omega)) only [bX2_isPlayed, jxs, hps, jtsw, jlsw, List.length_cons, List.length_nil, true_and, and_true, true_implies, false_implies, implies_true, not_true_eq_false, not_false_eq_true, false_and, and_false, if_true, if_false, or_true, true_or, or_false, false_or, Classical.not_not, and_self, Int.reduceAdd, Int.reduceMul, Int.reduceSub, Int.reduceNeg, Int.reduceLT, Int.reduceLE, Int.reduceEq, Int.reduceNe, Int.reduceToNat, Nat.reduceAdd, Nat.reduceMul, Nat.reduceSub, Nat.reduceLeDiff, Nat.reduceLT, Nat.reduceEqDiff, reduceIte, Nat.zero_le, Nat.le_refl, Nat.add_zero, Nat.zero_add, twT hT, twV hV]
      (repeat (refine And.intro (by (first | omega | assumption | trivial | (simp only [inI]; omega) | (simp only [inL]; omega) | (refine jb_01) | (exact jb_in))) ?_))
      (first | exact hq | (rw [jb_t (by omega)] at hq; exact hq) | (rw [jb_f (by omega)] at hq; exact hq))
  · rw [if_neg (by omega), if_neg (by omega), if_neg (by omega), if_neg (by omega), if_pos h] at hQ
    (repeat (refine And.intro (by (first | omega | assumption | trivial | (simp only [inI]; omega) | (simp only [inL]; omega) | (refine jb_01) | (exact jb_in))) ?_))
    refine ⟨0, 0, ⟨by omega, by omega⟩, tw_wet hT hV ⟨hE, hI, by omega⟩ ?_⟩
    intro w hw
    have hq := hQ w hw
    simp (disch := (first | decide | omega)) only [jxs, hps, jtsw, jlsw, List.length_cons, List.length_nil, true_and, and_true, true_implies, false_implies, implies_true, not_true_eq_false, not_false_eq_true, false_and, and_false, if_true, if_false, or_true, true_or, or_false, false_or, Classical.not_not, and_self, Int.reduceAdd, Int.reduceMul, Int.reduceSub, Int.reduceNeg, Int.reduceLT, Int.reduceLE, Int.reduceEq, Int.reduceNe, Int.reduceToNat, Nat.reduceAdd, Nat.reduceMul, Nat.reduceSub, Nat.reduceLeDiff, Nat.reduceLT, Nat.reduceEqDiff, reduceIte, Nat.zero_le, Nat.le_refl, Nat.add_zero, Nat.zero_add, twT hT, twV hV]
    refine ⟨fun h3 => ?_, fun h3 => ?_⟩
    · refine jW_step ?_
      simp (disch := (first | decide | omega)) only [bX2_isPlayed, jxs, hps, jtsw, jlsw, List.length_cons, List.length_nil, true_and, and_true, true_implies, false_implies, implies_true, not_true_eq_false, not_false_eq_true, false_and, and_false, if_true, if_false, or_true, true_or, or_false, false_or, Classical.not_not, and_self, Int.reduceAdd, Int.reduceMul, Int.reduceSub, Int.reduceNeg, Int.reduceLT, Int.reduceLE, Int.reduceEq, Int.reduceNe, Int.reduceToNat, Nat.reduceAdd, Nat.reduceMul, Nat.reduceSub, Nat.reduceLeDiff, Nat.reduceLT, Nat.reduceEqDiff, reduceIte, Nat.zero_le, Nat.le_refl, Nat.add_zero, Nat.zero_add, twT hT, twV hV]
      (repeat (refine And.intro (by (first | omega | assumption | trivial | (simp only [inI]; omega) | (simp only [inL]; omega) | (refine jb_01) | (exact jb_in))) ?_))
      (first | exact hq | (rw [jb_t (by omega)] at hq; exact hq) | (rw [jb_f (by omega)] at hq; exact hq))
    · refine jW_step ?_
      simp (disch := (first | decide | omega)) only [bX2_isPlayed, jxs, hps, jtsw, jlsw, List.length_cons, List.length_nil, true_and, and_true, true_implies, false_implies, implies_true, not_true_eq_false, not_false_eq_true, false_and, and_false, if_true, if_false, or_true, true_or, or_false, false_or, Classical.not_not, and_self, Int.reduceAdd, Int.reduceMul, Int.reduceSub, Int.reduceNeg, Int.reduceLT, Int.reduceLE, Int.reduceEq, Int.reduceNe, Int.reduceToNat, Nat.reduceAdd, Nat.reduceMul, Nat.reduceSub, Nat.reduceLeDiff, Nat.reduceLT, Nat.reduceEqDiff, reduceIte, Nat.zero_le, Nat.le_refl, Nat.add_zero, Nat.zero_add, twT hT, twV hV]
      (repeat (refine And.intro (by (first | omega | assumption | trivial | (simp only [inI]; omega) | (simp only [inL]; omega) | (refine jb_01) | (exact jb_in))) ?_))
      (first | exact hq | (rw [jb_t (by omega)] at hq; exact hq) | (rw [jb_f (by omega)] at hq; exact hq))
  · rw [if_neg (by omega), if_neg (by omega), if_neg (by omega), if_neg (by omega), if_neg (by omega), if_pos h] at hQ
    (repeat (refine And.intro (by (first | omega | assumption | trivial | (simp only [inI]; omega) | (simp only [inL]; omega) | (refine jb_01) | (exact jb_in))) ?_))
    refine ⟨0, 0, ⟨by omega, by omega⟩, tw_wet hT hV ⟨hE, hI, by omega⟩ ?_⟩
    intro w hw
    have hq := hQ w hw
    simp (disch := (first | decide | omega)) only [jxs, hps, jtsw, jlsw, List.length_cons, List.length_nil, true_and, and_true, true_implies, false_implies, implies_true, not_true_eq_false, not_false_eq_true, false_and, and_false, if_true, if_false, or_true, true_or, or_false, false_or, Classical.not_not, and_self, Int.reduceAdd, Int.reduceMul, Int.reduceSub, Int.reduceNeg, Int.reduceLT, Int.reduceLE, Int.reduceEq, Int.reduceNe, Int.reduceToNat, Nat.reduceAdd, Nat.reduceMul, Nat.reduceSub, Nat.reduceLeDiff, Nat.reduceLT, Nat.reduceEqDiff, reduceIte, Nat.zero_le, Nat.le_refl, Nat.add_zero, Nat.zero_add, twT hT, twV hV]
    refine ⟨fun h3 => ?_, fun h3 => ?_⟩
    · refine jW_step ?_
      simp (disch := (first | decide | omega)) only [bX2_isPlayed, jxs, hps, jtsw, jlsw, List.length_cons, List.length_nil, true_and, and_true, true_implies, false_implies, implies_true, not_true_eq_false, not_false_eq_true, false_and, and_false, if_true, if_false, or_true, true_or, or_false, false_or, Classical.not_not, and_self, Int.reduceAdd, Int.reduceMul, Int.reduceSub, Int.reduceNeg, Int.reduceLT, Int.reduceLE, Int.reduceEq, Int.reduceNe, Int.reduceToNat, Nat.reduceAdd, Nat.reduceMul, Nat.reduceSub, Nat.reduceLeDiff, Nat.reduceLT, Nat.reduceEqDiff, reduceIte, Nat.zero_le, Nat.le_refl, Nat.add_zero, Nat.zero_add, twT hT, twV hV]
      (repeat (refine And.intro (by (first | omega | assumption | trivial | (simp only [inI]; omega) | (simp only [inL]; omega) | (refine jb_01) | (exact jb_in))) ?_))
      (first | exact hq | (rw [jb_t (by omega)] at hq; exact hq) | (rw [jb_f (by omega)] at hq; exact hq))
    · refine jW_step ?_
      simp (disch := (first | decide | omega)) only [bX2_isPlayed, jxs, hps, jtsw, jlsw, List.length_cons, List.length_nil, true_and, and_true, true_implies, false_implies, implies_true, not_true_eq_false, not_false_eq_true, false_and, and_false, if_true, if_false, or_true, true_or, or_false, false_or, Classical.not_not, and_self, Int.reduceAdd, Int.reduceMul, Int.reduceSub, Int.reduceNeg, Int.reduceLT, Int.reduceLE, Int.reduceEq, Int.reduceNe, Int.reduceToNat, Nat.reduceAdd, Nat.reduceMul, Nat.reduceSub, Nat.reduceLeDiff, Nat.reduceLT, Nat.reduceEqDiff, reduceIte, Nat.zero_le, Nat.le_refl, Nat.add_zero, Nat.zero_add, twT hT, twV hV]
      (repeat (refine And.intro (by (first | omega | assumption | trivial | (simp only [inI]; omega) | (simp only [inL]; omega) | (refine jb_01) | (exact jb_in))) ?_))
      (first | exact hq | (rw [jb_t (by omega)] at hq; exact hq) | (rw [jb_f (by omega)] at hq; exact hq))
  · rw [if_neg (by omega), if_neg (by omega), if_neg (by omega), if_neg (by omega), if_neg (by omega), if_neg (by omega)] at hQ
    have hq := hQ v jkn.rf
    (repeat (refine And.intro (by (first | omega | assumption | trivial | (simp only [inI]; omega) | (simp only [inL]; omega) | (refine jb_01) | (exact jb_in))) ?_))
    (first | exact hq | (rw [jb_t (by omega)] at hq; exact hq) | (rw [jb_f (by omega)] at hq; exact hq))
end TG
