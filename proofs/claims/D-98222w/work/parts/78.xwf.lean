/-! ===== the class: readers, rules, names ===== -/
-- MODE X
set_option maxRecDepth 100000
section CIP
variable {T : jjT} {A X : Int → Int} {v : Int → Int → Int}
theorem CI.n0 (h : CI (v, T) A X) : v 402 0 = A 0 := h.1.1.1
theorem CI.n1 (h : CI (v, T) A X) : v 402 1 = A 3 := h.1.1.2.1
theorem CI.n2 (h : CI (v, T) A X) : v 402 2 = A 5 := h.1.1.2.2.1
theorem CI.n3 (h : CI (v, T) A X) : v 402 3 = A 6 := h.1.1.2.2.2.1
theorem CI.n4 (h : CI (v, T) A X) : v 402 4 = A 7 := h.1.1.2.2.2.2.1
theorem CI.n5 (h : CI (v, T) A X) : v 402 5 = A 8 := h.1.1.2.2.2.2.2
theorem CI.w (h : CI (v, T) A X) {s : Int} (hs : 0 ≤ s ∧ s < 3) : v 403 s = A (10 + s) := h.1.2.1 s hs.1 hs.2
theorem CI.r (h : CI (v, T) A X) : RW (v 404) A := h.1.2.2.1
theorem CI.m (h : CI (v, T) A X) {s : Int} (hs : 0 ≤ s ∧ s < 3) : v 404 (11 * s) = A (13 + s) := h.r.1 s hs.1 hs.2
theorem CI.p (h : CI (v, T) A X) {s p : Int} (hs : 0 ≤ s ∧ s < 3) (hp : 0 ≤ p ∧ p < A (13 + s)) : v 404 (11 * s + 1 + p) = A (16 + 10 * s + p) := h.r.2.1 s p hs.1 hs.2 hp.1 hp.2
theorem CI.h (h : CI (v, T) A X) {b : Int} (hb : 0 ≤ b ∧ b < A 0) : v 404 (33 + b) = A (46 + 6 * b + 5) := by
  have h0 := h.2.2.2.1.1
  have := h.r.2.2.1 b hb.1 (by omega)
  rwa [if_pos hb.2] at this
theorem CI.wet (h : CI (v, T) A X) : v 404 43 = A 2 := h.r.2.2.2.1
theorem CI.ni (h : CI (v, T) A X) : v 404 44 = A 1 := h.r.2.2.2.2.1
theorem CI.dr (h : CI (v, T) A X) : v 404 45 = A 4 := h.r.2.2.2.2.2.1
theorem CI.pu (h : CI (v, T) A X) : v 404 46 = mn6 (A 9) := h.r.2.2.2.2.2.2.1
theorem CI.b (h : CI (v, T) A X) {b w : Int} (hb : 0 ≤ b ∧ b < A 0) (hw : 0 ≤ w ∧ w < 5) : v (406 + b) w = A (46 + 6 * b + w) := h.1.2.2.2.1 b w hb.1 hb.2 hw.1 hw.2
theorem CI.d (h : CI (v, T) A X) {k w : Int} (hk : 0 ≤ k ∧ k < A 8) (hw : 0 ≤ w ∧ w < 4) : v (417 + k) w = A (106 + 4 * k + w) := h.1.2.2.2.2.1 k w hk.1 hk.2 hw.1 hw.2
theorem CI.s (h : CI (v, T) A X) {k : Int} (hk : 0 ≤ k ∧ k < A 7) : RS (v (430 + k)) A k := h.1.2.2.2.2.2.1 k hk.1 hk.2
theorem CI.t (h : CI (v, T) A X) {t : Int} (ht : 0 ≤ t ∧ t < A 5) : TXC (v, T) (v 460 t) X t := h.1.2.2.2.2.2.2 t ht.1 ht.2
theorem CI.tb (h : CI (v, T) A X) : TB A := h.2.2.2.1
theorem CI.lw (h : CI (v, T) A X) : LW A := h.2.2.2.2.2.2.2
theorem CI.nm (h : CI (v, T) A X) : okN (v 522) := h.2.1
end CIP
/-- the rules at hand -/
def rul (v : Int → Int → Int) (A : Int → Int) : Int := if A 6 = -1 then 2 else v 460 (A 6)
def RUx (h : jjH) (r : Int) (A X : Int → Int) : Prop :=
  (jok h.2 r 4 ∧ jok h.2 (h.1 r 0) (-7) ∧ jln h.2 (h.1 r 0) = 6) ∧
  (∀ l, 0 ≤ l → l < 6 → (clA A X 0 l < 0 → h.1 (h.1 r 0) l = 0) ∧ (0 ≤ clA A X 0 l → TR h 100 (h.1 (h.1 r 0) l) (tcode X (A 6) (clA A X 0 l)))) ∧
  ((clA A X 1 0 < 0 → h.1 r 1 = 0) ∧ (0 ≤ clA A X 1 0 → TR h 100 (h.1 r 1) (tcode X (A 6) (clA A X 1 0)))) ∧
  ((clA A X 2 0 < 0 → h.1 r 2 = 0) ∧ (0 ≤ clA A X 2 0 → VR h 100 (h.1 r 2) (tcode X (A 6) (clA A X 2 0)))) ∧
  ((clA A X 3 0 < 0 → h.1 r 3 = 0) ∧ (0 ≤ clA A X 3 0 → h.1 r 3 = X (705 * A 6 + 1 + 4 * clA A X 3 0 + 1)))
theorem CI.ru {T : jjT} {A X : Int → Int} {v : Int → Int → Int} (h : CI (v, T) A X) : RUx (v, T) (rul v A) A X := by
  have h6 := h.tb.2.2.2.2.1
  unfold rul
  by_cases e : A 6 = -1
  · rw [if_pos e]
    obtain ⟨k1, z2, k2, l2, q1, q2, q3, q4⟩ := h.2.2.1
    have c : ∀ so la, clA A X so la = -1 := fun so la => by unfold clA; rw [if_pos (by omega)]
    unfold RUx
    refine ⟨⟨k1, k2, l2⟩, fun l l0 l1 => ⟨fun _ => q1 l l0 l1, fun h9 => ?_⟩, ⟨fun _ => q2, fun h9 => ?_⟩, ⟨fun _ => q3, fun h9 => ?_⟩, ⟨fun _ => q4, fun h9 => ?_⟩⟩
    · rw [c] at h9; omega
    · rw [c] at h9; omega
    · rw [c] at h9; omega
    · rw [c] at h9; omega
  · rw [if_neg e]
    obtain ⟨⟨z1, k1, z2, k2, l2⟩, q1, q2, q3, q4, -⟩ := h.t (t := A 6) (by omega)
    have c : ∀ so la, clA A X so la = fclT X (A 6) so la := fun so la => by unfold clA; rw [if_neg (by omega)]; rfl
    unfold RUx
    simp only [c]
    exact ⟨⟨k1, k2, l2⟩, q1, q2, q3, q4⟩
/-- what is said of a clause at hand -/
theorem CI.cl {T : jjT} {A X : Int → Int} {v : Int → Int → Int} (h : CI (v, T) A X) {so la : Int} (h9 : 0 ≤ clA A X so la) : clOK X (A 6) (clA A X so la) ∧ X (705 * A 6 + 1 + 4 * clA A X so la) = so := by
  have h6 := h.tb.2.2.2.2.1
  unfold clA at h9 ⊢
  by_cases q : A 6 < 0
  · rw [if_pos q] at h9; omega
  · rw [if_neg q] at h9 ⊢
    have hx := h.2.2.2.2.1 (A 6) (by omega) h6.2
    have := fcl_in _ 0 (by omega) h9
    exact ⟨hx.2 _ h9 (by omega), this.2.2⟩
theorem PTw {T : jjT} (hT : PT T) : jok T 522 (-1) ∧ jln T 522 = 15 := ⟨pt_522 hT, pl_522 hT⟩
theorem nmO_hi {N A : Int → Int} {b j : Int} (h : 5 < j) : nmO N A b j = N j := by
  unfold nmO
  rw [up1_ne (by omega), up1_ne (by omega), up1_ne (by omega), up1_ne (by omega), up1_ne (by omega), up1_ne (by omega)]
theorem okN.nmO {N A : Int → Int} {b : Int} (hN : okN N) (hA : TB A) (hb : 0 ≤ b ∧ b < 10) : okN (nmO N A b) := by
  intro j h0 h1
  by_cases q : j ≤ 5
  · exact nmO_bd hA hb j ⟨⟨h0, h1⟩, Or.inl q⟩
  · have e := nmO_hi (N := N) (A := A) (b := b) (j := j) (by omega)
    rw [e]
    exact hN j h0 h1
section XG
variable {g : jjG} {d : Nat} {T : jjT} {Q : jjQ} {A X : Int → Int} {v : Int → Int → Int}
theorem xw_isShelf {x : Int} (hQ : Q (.inl (some (vI (jb (0 ≤ x ∧ x ≤ 2))))) (v, T)) : jmet g (d + 2) 0 0 MX0_isShelf [vI x] (v, T) Q := by
  refine jmet_of (ls := [some (vI x)]) sX0_isShelf rfl (by decide +kernel) (by decide) rfl (by simp [jent]) ?_
  refine jW_step ?_
  simp (disch := (first | decide | omega)) only [bX0_isShelf, jxs, true_and]
  (repeat (refine And.intro (by (first | omega | assumption | trivial | (simp only [inI]; omega) | (simp only [inL]; omega) | (refine jb_01) | (exact jb_in))) ?_))
  refine ⟨0, 0, ⟨by omega, by omega⟩, xw_in ?_⟩
  simp (disch := (first | decide | omega)) only [jxs, true_and]
  (repeat (refine And.intro (by (first | omega | assumption | trivial | (simp only [inI]; omega) | (simp only [inL]; omega) | (refine jb_01) | (exact jb_in))) ?_))
  exact hQ
theorem xw_isBook {b : Int} (hT : PT T) (hV : PV v) (hC : CI (v, T) A X) (hQ : Q (.inl (some (vI (jb (0 ≤ b ∧ b ≤ A 0 - 1))))) (v, T)) : jmet g (d + 2) 0 0 MX0_isBook [vR 400, vI b] (v, T) Q := by
  have h0 := hC.tb.1
  refine jmet_of (ls := [some (vR 400), some (vI b)]) sX0_isBook rfl (by decide +kernel) (by decide) rfl (by simp [jent]) ?_
  refine jW_step ?_
  simp (disch := (first | decide | omega)) only [bX0_isBook, jxs, hps, jtsw, jlsw, List.length_cons, List.length_nil, true_and, and_true, true_implies, false_implies, implies_true, not_true_eq_false, not_false_eq_true, false_and, and_false, if_true, if_false, or_true, true_or, or_false, false_or, Classical.not_not, and_self, Int.reduceAdd, Int.reduceMul, Int.reduceSub, Int.reduceNeg, Int.reduceLT, Int.reduceLE, Int.reduceEq, Int.reduceNe, Int.reduceToNat, Nat.reduceAdd, Nat.reduceMul, Nat.reduceSub, Nat.reduceLeDiff, Nat.reduceLT, Nat.reduceEqDiff, reduceIte, Nat.zero_le, Nat.le_refl, Nat.add_zero, Nat.zero_add, xwT hT, xwV hV, hC.n0]
  (repeat (refine And.intro (by (first | omega | assumption | trivial | (simp only [inI]; omega) | (simp only [inL]; omega) | (refine jb_01) | (exact jb_in))) ?_))
  refine ⟨0, 0, ⟨by omega, by omega⟩, xw_in ?_⟩
  simp (disch := (first | decide | omega)) only [jxs, hps, jtsw, jlsw, List.length_cons, List.length_nil, true_and, and_true, true_implies, false_implies, implies_true, not_true_eq_false, not_false_eq_true, false_and, and_false, if_true, if_false, or_true, true_or, or_false, false_or, Classical.not_not, and_self, Int.reduceAdd, Int.reduceMul, Int.reduceSub, Int.reduceNeg, Int.reduceLT, Int.reduceLE, Int.reduceEq, Int.reduceNe, Int.reduceToNat, Nat.reduceAdd, Nat.reduceMul, Nat.reduceSub, Nat.reduceLeDiff, Nat.reduceLT, Nat.reduceEqDiff, reduceIte, Nat.zero_le, Nat.le_refl, Nat.add_zero, Nat.zero_add, xwT hT, xwV hV]
  (repeat (refine And.intro (by (first | omega | assumption | trivial | (simp only [inI]; omega) | (simp only [inL]; omega) | (refine jb_01) | (exact jb_in))) ?_))
  exact hQ
theorem xw_whereIs {b : Int} (hT : PT T) (hV : PV v) (hC : CI (v, T) A X) (hb : 0 ≤ b ∧ b < A 0) (hQ : Q (.inl (some (vI (A (46 + 6 * b + 5))))) (v, T)) : jmet g (d + 1) 0 0 MX0_whereIs [vR 400, vI b] (v, T) Q := by
  have h0 := hC.tb.1
  have e := hC.h hb
  refine jmet_of (ls := [some (vR 400), some (vI b)]) sX0_whereIs rfl (by decide +kernel) (by decide) rfl (by simp [jent]) ?_
  refine jW_step ?_
  simp (disch := (first | decide | omega)) only [bX0_whereIs, jxs, hps, jtsw, jlsw, List.length_cons, List.length_nil, true_and, and_true, true_implies, false_implies, implies_true, not_true_eq_false, not_false_eq_true, false_and, and_false, if_true, if_false, or_true, true_or, or_false, false_or, Classical.not_not, and_self, Int.reduceAdd, Int.reduceMul, Int.reduceSub, Int.reduceNeg, Int.reduceLT, Int.reduceLE, Int.reduceEq, Int.reduceNe, Int.reduceToNat, Nat.reduceAdd, Nat.reduceMul, Nat.reduceSub, Nat.reduceLeDiff, Nat.reduceLT, Nat.reduceEqDiff, reduceIte, Nat.zero_le, Nat.le_refl, Nat.add_zero, Nat.zero_add, xwT hT, xwV hV, e]
  (repeat (refine And.intro (by (first | omega | assumption | trivial | (simp only [inI]; omega) | (simp only [inL]; omega) | (refine jb_01) | (exact jb_in))) ?_))
  exact hQ
theorem xw_isOnShelf {b : Int} (hT : PT T) (hV : PV v) (hC : CI (v, T) A X) (hQ : Q (.inl (some (vI (jb ((0 ≤ b ∧ b ≤ A 0 - 1) ∧ A (46 + 6 * b + 5) < 3))))) (v, T)) : jmet g (d + 3) 0 0 MX0_isOnShelf [vR 400, vI b] (v, T) Q := by
  refine jmet_of (ls := [some (vR 400), some (vI b)]) sX0_isOnShelf rfl (by decide +kernel) (by decide) rfl (by simp [jent]) ?_
  refine jW_step ?_
  simp (disch := (first | decide | omega)) only [bX0_isOnShelf, jxs, hps, jtsw, jlsw, List.length_cons, List.length_nil, true_and, and_true, true_implies, false_implies, implies_true, not_true_eq_false, not_false_eq_true, false_and, and_false, if_true, if_false, or_true, true_or, or_false, false_or, Classical.not_not, and_self, Int.reduceAdd, Int.reduceMul, Int.reduceSub, Int.reduceNeg, Int.reduceLT, Int.reduceLE, Int.reduceEq, Int.reduceNe, Int.reduceToNat, Nat.reduceAdd, Nat.reduceMul, Nat.reduceSub, Nat.reduceLeDiff, Nat.reduceLT, Nat.reduceEqDiff, reduceIte, Nat.zero_le, Nat.le_refl, Nat.add_zero, Nat.zero_add, xwT hT, xwV hV]
  refine ⟨0, 0, ⟨by omega, by omega⟩, xw_isBook hT hV hC ?_⟩
  simp (disch := (first | decide | omega)) only [jxs, hps, jtsw, jlsw, List.length_cons, List.length_nil, true_and, and_true, true_implies, false_implies, implies_true, not_true_eq_false, not_false_eq_true, false_and, and_false, if_true, if_false, or_true, true_or, or_false, false_or, Classical.not_not, and_self, Int.reduceAdd, Int.reduceMul, Int.reduceSub, Int.reduceNeg, Int.reduceLT, Int.reduceLE, Int.reduceEq, Int.reduceNe, Int.reduceToNat, Nat.reduceAdd, Nat.reduceMul, Nat.reduceSub, Nat.reduceLeDiff, Nat.reduceLT, Nat.reduceEqDiff, reduceIte, Nat.zero_le, Nat.le_refl, Nat.add_zero, Nat.zero_add, xwT hT, xwV hV]
  refine ⟨fun h => ?_, fun h => ?_⟩
  · refine jW_step ?_
    simp (disch := (first | decide | omega)) only [bX0_isOnShelf, jxs, hps, jtsw, jlsw, List.length_cons, List.length_nil, true_and, and_true, true_implies, false_implies, implies_true, not_true_eq_false, not_false_eq_true, false_and, and_false, if_true, if_false, or_true, true_or, or_false, false_or, Classical.not_not, and_self, Int.reduceAdd, Int.reduceMul, Int.reduceSub, Int.reduceNeg, Int.reduceLT, Int.reduceLE, Int.reduceEq, Int.reduceNe, Int.reduceToNat, Nat.reduceAdd, Nat.reduceMul, Nat.reduceSub, Nat.reduceLeDiff, Nat.reduceLT, Nat.reduceEqDiff, reduceIte, Nat.zero_le, Nat.le_refl, Nat.add_zero, Nat.zero_add, xwT hT, xwV hV]
    refine jW_step ?_
    simp (disch := (first | decide | omega)) only [bX0_isOnShelf, jxs, hps, jtsw, jlsw, List.length_cons, List.length_nil, true_and, and_true, true_implies, false_implies, implies_true, not_true_eq_false, not_false_eq_true, false_and, and_false, if_true, if_false, or_true, true_or, or_false, false_or, Classical.not_not, and_self, Int.reduceAdd, Int.reduceMul, Int.reduceSub, Int.reduceNeg, Int.reduceLT, Int.reduceLE, Int.reduceEq, Int.reduceNe, Int.reduceToNat, Nat.reduceAdd, Nat.reduceMul, Nat.reduceSub, Nat.reduceLeDiff, Nat.reduceLT, Nat.reduceEqDiff, reduceIte, Nat.zero_le, Nat.le_refl, Nat.add_zero, Nat.zero_add, xwT hT, xwV hV]
    (repeat (refine And.intro (by (first | omega | assumption | trivial | (simp only [inI]; omega) | (simp only [inL]; omega) | (refine jb_01) | (exact jb_in))) ?_))
    (first | exact hQ | (rw [jb_t (by omega)] at hQ; exact hQ) | (rw [jb_f (by omega)] at hQ; exact hQ))
  · refine ⟨0, 0, ⟨by omega, by omega⟩, xw_whereIs hT hV hC (by omega) ?_⟩
    simp (disch := (first | decide | omega)) only [jxs, hps, jtsw, jlsw, List.length_cons, List.length_nil, true_and, and_true, true_implies, false_implies, implies_true, not_true_eq_false, not_false_eq_true, false_and, and_false, if_true, if_false, or_true, true_or, or_false, false_or, Classical.not_not, and_self, Int.reduceAdd, Int.reduceMul, Int.reduceSub, Int.reduceNeg, Int.reduceLT, Int.reduceLE, Int.reduceEq, Int.reduceNe, Int.reduceToNat, Nat.reduceAdd, Nat.reduceMul, Nat.reduceSub, Nat.reduceLeDiff, Nat.reduceLT, Nat.reduceEqDiff, reduceIte, Nat.zero_le, Nat.le_refl, Nat.add_zero, Nat.zero_add, xwT hT, xwV hV]
    refine ⟨fun h2 => ?_, fun h2 => ?_⟩
    · refine jW_step ?_
      simp (disch := (first | decide | omega)) only [bX0_isOnShelf, jxs, hps, jtsw, jlsw, List.length_cons, List.length_nil, true_and, and_true, true_implies, false_implies, implies_true, not_true_eq_false, not_false_eq_true, false_and, and_false, if_true, if_false, or_true, true_or, or_false, false_or, Classical.not_not, and_self, Int.reduceAdd, Int.reduceMul, Int.reduceSub, Int.reduceNeg, Int.reduceLT, Int.reduceLE, Int.reduceEq, Int.reduceNe, Int.reduceToNat, Nat.reduceAdd, Nat.reduceMul, Nat.reduceSub, Nat.reduceLeDiff, Nat.reduceLT, Nat.reduceEqDiff, reduceIte, Nat.zero_le, Nat.le_refl, Nat.add_zero, Nat.zero_add, xwT hT, xwV hV]
      refine jW_step ?_
      simp (disch := (first | decide | omega)) only [bX0_isOnShelf, jxs, hps, jtsw, jlsw, List.length_cons, List.length_nil, true_and, and_true, true_implies, false_implies, implies_true, not_true_eq_false, not_false_eq_true, false_and, and_false, if_true, if_false, or_true, true_or, or_false, false_or, Classical.not_not, and_self, Int.reduceAdd, Int.reduceMul, Int.reduceSub, Int.reduceNeg, Int.reduceLT, Int.reduceLE, Int.reduceEq, Int.reduceNe, Int.reduceToNat, Nat.reduceAdd, Nat.reduceMul, Nat.reduceSub, Nat.reduceLeDiff, Nat.reduceLT, Nat.reduceEqDiff, reduceIte, Nat.zero_le, Nat.le_refl, Nat.add_zero, Nat.zero_add, xwT hT, xwV hV]
      (repeat (refine And.intro (by (first | omega | assumption | trivial | (simp only [inI]; omega) | (simp only [inL]; omega) | (refine jb_01) | (exact jb_in))) ?_))
      (first | exact hQ | (rw [jb_t (by omega)] at hQ; exact hQ) | (rw [jb_f (by omega)] at hQ; exact hQ))
    · refine jW_step ?_
      simp (disch := (first | decide | omega)) only [bX0_isOnShelf, jxs, hps, jtsw, jlsw, List.length_cons, List.length_nil, true_and, and_true, true_implies, false_implies, implies_true, not_true_eq_false, not_false_eq_true, false_and, and_false, if_true, if_false, or_true, true_or, or_false, false_or, Classical.not_not, and_self, Int.reduceAdd, Int.reduceMul, Int.reduceSub, Int.reduceNeg, Int.reduceLT, Int.reduceLE, Int.reduceEq, Int.reduceNe, Int.reduceToNat, Nat.reduceAdd, Nat.reduceMul, Nat.reduceSub, Nat.reduceLeDiff, Nat.reduceLT, Nat.reduceEqDiff, reduceIte, Nat.zero_le, Nat.le_refl, Nat.add_zero, Nat.zero_add, xwT hT, xwV hV]
      (repeat (refine And.intro (by (first | omega | assumption | trivial | (simp only [inI]; omega) | (simp only [inL]; omega) | (refine jb_01) | (exact jb_in))) ?_))
      (first | exact hQ | (rw [jb_t (by omega)] at hQ; exact hQ) | (rw [jb_f (by omega)] at hQ; exact hQ))
theorem xw_many {s : Int} (hT : PT T) (hV : PV v) (hC : CI (v, T) A X) (hs : 0 ≤ s ∧ s < 3) (hQ : Q (.inl (some (vI (A (13 + s))))) (v, T)) : jmet g (d + 1) 0 0 MX1_many [vR 401, vI s] (v, T) Q := by
  have e := hC.m hs
  refine jmet_of (ls := [some (vR 401), some (vI s)]) sX1_many rfl (by decide +kernel) (by decide) rfl (by simp [jent]) ?_
  refine jW_step ?_
  simp (disch := (first | decide | omega)) only [bX1_many, jxs, hps, jtsw, jlsw, List.length_cons, List.length_nil, true_and, and_true, true_implies, false_implies, implies_true, not_true_eq_false, not_false_eq_true, false_and, and_false, if_true, if_false, or_true, true_or, or_false, false_or, Classical.not_not, and_self, Int.reduceAdd, Int.reduceMul, Int.reduceSub, Int.reduceNeg, Int.reduceLT, Int.reduceLE, Int.reduceEq, Int.reduceNe, Int.reduceToNat, Nat.reduceAdd, Nat.reduceMul, Nat.reduceSub, Nat.reduceLeDiff, Nat.reduceLT, Nat.reduceEqDiff, reduceIte, Nat.zero_le, Nat.le_refl, Nat.add_zero, Nat.zero_add, xwT hT, xwV hV, e]
  (repeat (refine And.intro (by (first | omega | assumption | trivial | (simp only [inI]; omega) | (simp only [inL]; omega) | (refine jb_01) | (exact jb_in))) ?_))
  exact hQ
theorem xw_bookAt {s p : Int} (hT : PT T) (hV : PV v) (hC : CI (v, T) A X) (hs : 0 ≤ s ∧ s < 3) (hp : 0 ≤ p ∧ p < A (13 + s)) (hQ : Q (.inl (some (vI (A (16 + 10 * s + p))))) (v, T)) : jmet g (d + 1) 0 0 MX1_bookAt [vR 401, vI s, vI p] (v, T) Q := by
  have e := hC.p hs hp
  have hm := hC.tb.2.2.2.2.2.1 (13 + s) (by omega) (by omega)
  refine jmet_of (ls := [some (vR 401), some (vI s), some (vI p)]) sX1_bookAt rfl (by decide +kernel) (by decide) rfl (by simp [jent]) ?_
  refine jW_step ?_
  simp (disch := (first | decide | omega)) only [bX1_bookAt, jxs, hps, jtsw, jlsw, List.length_cons, List.length_nil, true_and, and_true, true_implies, false_implies, implies_true, not_true_eq_false, not_false_eq_true, false_and, and_false, if_true, if_false, or_true, true_or, or_false, false_or, Classical.not_not, and_self, Int.reduceAdd, Int.reduceMul, Int.reduceSub, Int.reduceNeg, Int.reduceLT, Int.reduceLE, Int.reduceEq, Int.reduceNe, Int.reduceToNat, Nat.reduceAdd, Nat.reduceMul, Nat.reduceSub, Nat.reduceLeDiff, Nat.reduceLT, Nat.reduceEqDiff, reduceIte, Nat.zero_le, Nat.le_refl, Nat.add_zero, Nat.zero_add, xwT hT, xwV hV, e]
  (repeat (refine And.intro (by (first | omega | assumption | trivial | (simp only [inI]; omega) | (simp only [inL]; omega) | (refine jb_01) | (exact jb_in))) ?_))
  exact hQ
theorem xw_rules (hT : PT T) (hV : PV v) (hC : CI (v, T) A X) (hQ : Q (.inl (some (vR (rul v A)))) (v, T)) : jmet g (d + 1) 0 0 MX0_rules [vR 400] (v, T) Q := by
  have h6 := hC.tb.2.2.2.2.1
  have h5 := hC.tb.2.2.2.1
  unfold rul at hQ
  refine jmet_of (ls := [some (vR 400)]) sX0_rules rfl (by decide +kernel) (by decide) rfl (by simp [jent]) ?_
  refine jW_step ?_
  simp (disch := (first | decide | omega)) only [bX0_rules, jxs, hps, jtsw, jlsw, List.length_cons, List.length_nil, true_and, and_true, true_implies, false_implies, implies_true, not_true_eq_false, not_false_eq_true, false_and, and_false, if_true, if_false, or_true, true_or, or_false, false_or, Classical.not_not, and_self, Int.reduceAdd, Int.reduceMul, Int.reduceSub, Int.reduceNeg, Int.reduceLT, Int.reduceLE, Int.reduceEq, Int.reduceNe, Int.reduceToNat, Nat.reduceAdd, Nat.reduceMul, Nat.reduceSub, Nat.reduceLeDiff, Nat.reduceLT, Nat.reduceEqDiff, reduceIte, Nat.zero_le, Nat.le_refl, Nat.add_zero, Nat.zero_add, xwT hT, xwV hV, hC.n3]
  (repeat (refine And.intro (by (first | omega | assumption | trivial | (simp only [inI]; omega) | (simp only [inL]; omega) | (refine jb_01) | (exact jb_in))) ?_))
  refine ⟨fun h => ?_, fun h => ?_⟩
  · rw [if_neg h] at hQ
    (repeat (refine And.intro (by (first | omega | assumption | trivial | (simp only [inI]; omega) | (simp only [inL]; omega) | (refine jb_01) | (exact jb_in))) ?_))
    refine jW_step ?_
    simp (disch := (first | decide | omega)) only [bX0_rules, jxs, hps, jtsw, jlsw, List.length_cons, List.length_nil, true_and, and_true, true_implies, false_implies, implies_true, not_true_eq_false, not_false_eq_true, false_and, and_false, if_true, if_false, or_true, true_or, or_false, false_or, Classical.not_not, and_self, Int.reduceAdd, Int.reduceMul, Int.reduceSub, Int.reduceNeg, Int.reduceLT, Int.reduceLE, Int.reduceEq, Int.reduceNe, Int.reduceToNat, Nat.reduceAdd, Nat.reduceMul, Nat.reduceSub, Nat.reduceLeDiff, Nat.reduceLT, Nat.reduceEqDiff, reduceIte, Nat.zero_le, Nat.le_refl, Nat.add_zero, Nat.zero_add, xwT hT, xwV hV]
    (repeat (refine And.intro (by (first | omega | assumption | trivial | (simp only [inI]; omega) | (simp only [inL]; omega) | (refine jb_01) | (exact jb_in))) ?_))
    exact hQ
  · rw [if_pos (by omega)] at hQ
    refine jW_step ?_
    simp (disch := (first | decide | omega)) only [bX0_rules, jxs, hps, jtsw, jlsw, List.length_cons, List.length_nil, true_and, and_true, true_implies, false_implies, implies_true, not_true_eq_false, not_false_eq_true, false_and, and_false, if_true, if_false, or_true, true_or, or_false, false_or, Classical.not_not, and_self, Int.reduceAdd, Int.reduceMul, Int.reduceSub, Int.reduceNeg, Int.reduceLT, Int.reduceLE, Int.reduceEq, Int.reduceNe, Int.reduceToNat, Nat.reduceAdd, Nat.reduceMul, Nat.reduceSub, Nat.reduceLeDiff, Nat.reduceLT, Nat.reduceEqDiff, reduceIte, Nat.zero_le, Nat.le_refl, Nat.add_zero, Nat.zero_add, xwT hT, xwV hV]
    (repeat (refine And.intro (by (first | omega | assumption | trivial | (simp only [inI]; omega) | (simp only [inL]; omega) | (refine jb_01) | (exact jb_in))) ?_))
    exact hQ
theorem xw_namesOwn {b : Int} (hT : PT T) (hV : PV v) (hC : CI (v, T) A X) (hb : 0 ≤ b ∧ b < A 0) (hQ : ∀ w, jkq v w → w 522 = nmO (v 522) A b → Q (.inl none) (w, T)) : jmet g (d + 1) 0 0 MX0_namesOwn [vR 400, vI b] (v, T) Q := by
  have hB := hC.tb
  have h0 := hB.1
  have e1 := PVbk hV (b := b) (by omega)
  have e2 := PTbk hT (b := b) (by omega)
  have e3 := e2.1
  have e4 := e2.2
  refine jmet_of (ls := [some (vR 400), some (vI b)]) sX0_namesOwn rfl (by decide +kernel) (by decide) rfl (by simp [jent]) ?_
  refine jW_step ?_
  simp (disch := (first | decide | omega)) only [bX0_namesOwn, jxs, hps, jtsw, jlsw, List.length_cons, List.length_nil, true_and, and_true, true_implies, false_implies, implies_true, not_true_eq_false, not_false_eq_true, false_and, and_false, if_true, if_false, or_true, true_or, or_false, false_or, Classical.not_not, and_self, Int.reduceAdd, Int.reduceMul, Int.reduceSub, Int.reduceNeg, Int.reduceLT, Int.reduceLE, Int.reduceEq, Int.reduceNe, Int.reduceToNat, Nat.reduceAdd, Nat.reduceMul, Nat.reduceSub, Nat.reduceLeDiff, Nat.reduceLT, Nat.reduceEqDiff, reduceIte, Nat.zero_le, Nat.le_refl, Nat.add_zero, Nat.zero_add, xwT hT, xwV hV, e1, e3, e4, jcpy_eq, hC.wet]
  (repeat (refine And.intro (by (first | omega | assumption | trivial | (simp only [inI]; omega) | (simp only [inL]; omega) | (refine jb_01) | (exact jb_in))) ?_))
  have key : (up1 (fun k => if 1 ≤ k ∧ k < 5 then v (406 + b) (0 + (k - 1)) else up1 (v 522) 0 b k) 5 (A 2)) = nmO (v 522) A b := by
    funext i
    by_cases h5 : i = 5
    · rw [h5, up1_eq]; unfold nmO; rw [up1_eq]
    · rw [up1_ne h5]
      by_cases h1 : 1 ≤ i ∧ i < 5
      · rw [if_pos (by omega)]
        have q := hC.b hb (w := 0 + (i - 1)) (by omega)
        rw [q]
        have : i = 1 ∨ i = 2 ∨ i = 3 ∨ i = 4 := by omega
        unfold nmO
        rcases this with rfl | rfl | rfl | rfl <;> rfl
      · rw [if_neg (by omega)]
        unfold nmO
        rw [up1_ne (show ¬ i = 5 from h5), up1_ne (show ¬ i = 4 by omega), up1_ne (show ¬ i = 3 by omega), up1_ne (show ¬ i = 2 by omega), up1_ne (show ¬ i = 1 by omega)]
  rw [key]
  exact hQ _ ⟨fun a ha => upA_ne ha, by rw [upA_eq]; exact hC.nm.nmO hB (by omega)⟩ upA_eq
end XG
