/-! ===== the reference: a set's books ===== -/
set_option maxRecDepth 100000
/-- the books of a set, the lowest first -/
def elF (s : Int) : Nat → Int → Int → (Int → Int) → (Int → Int) × Int
  | 0, _, m, f => (f, m)
  | n + 1, b, m, f => if s / 2 ^ b.toNat % 2 = 1 then elF s n (b + 1) (m + 1) (up1 f m b) else elF s n (b + 1) m f
def elZ (N s : Int) : (Int → Int) × Int := elF s N.toNat 0 0 (fun _ => 0)
def MON (f : Int → Int) (m : Int) : Prop := ∀ i j, 0 ≤ i → i < j → j < m → f i < f j
theorem elF_sp {s : Int} : ∀ (n : Nat) (b m : Int) (f : Int → Int), RN f m b → MON f m → (0 ≤ m ∧ m ≤ b) → RN (elF s n b m f).1 (elF s n b m f).2 (b + n) ∧ MON (elF s n b m f).1 (elF s n b m f).2 ∧ (m ≤ (elF s n b m f).2 ∧ (elF s n b m f).2 ≤ m + n) ∧ ∀ i, 0 ≤ i → i < m → (elF s n b m f).1 i = f i
  | 0, b, m, f, h1, h2, h3 => by
    unfold elF
    exact ⟨fun i i0 i1 => by have := h1 i i0 i1; dsimp only; omega, h2, by dsimp only; omega, fun _ _ _ => rfl⟩
  | n + 1, b, m, f, h1, h2, h3 => by
    unfold elF
    split
    · have r := elF_sp (s := s) n (b + 1) (m + 1) (up1 f m b) (fun i i0 i1 => by
        by_cases e : i = m
        · rw [e, up1_eq]; omega
        · rw [up1_ne e]; have := h1 i i0 (by omega); omega) (fun i j i0 i1 i2 => by
        rw [up1_ne (show i ≠ m by omega)]
        by_cases e : j = m
        · rw [e, up1_eq]; exact (h1 i i0 (by omega)).2
        · rw [up1_ne e]; exact h2 i j i0 i1 (by omega)) (by omega)
      refine ⟨fun i i0 i1 => by have := r.1 i i0 i1; omega, r.2.1, by omega, fun i i0 i1 => ?_⟩
      rw [r.2.2.2 i i0 (by omega), up1_ne (by omega)]
    · have r := elF_sp (s := s) n (b + 1) m f (fun i i0 i1 => by have := h1 i i0 i1; omega) h2 (by omega)
      exact ⟨fun i i0 i1 => by have := r.1 i i0 i1; omega, r.2.1, by omega, r.2.2.2⟩
theorem elF_cg {s : Int} : ∀ (n : Nat) (b m : Int) (f f' : Int → Int), EQm m f f' → (elF s n b m f).2 = (elF s n b m f').2 ∧ EQm (elF s n b m f).2 (elF s n b m f).1 (elF s n b m f').1
  | 0, b, m, f, f', h => by unfold elF; exact ⟨rfl, h⟩
  | n + 1, b, m, f, f', h => by
    unfold elF
    by_cases hb : s / 2 ^ b.toNat % 2 = 1
    · rw [if_pos hb, if_pos hb]
      refine elF_cg n (b + 1) (m + 1) _ _ (fun i i0 i1 => ?_)
      by_cases e : i = m
      · rw [e, up1_eq, up1_eq]
      · rw [up1_ne e, up1_ne e]; exact h i i0 (by omega)
    · rw [if_neg hb, if_neg hb]
      exact elF_cg n (b + 1) m f f' h
theorem elF_bc {s : Int} : ∀ (n b : Nat) (m : Int) (f : Int → Int), (elF s n b m f).2 = m + (bcF s (b + n) - bcF s b)
  | 0, b, m, f => by unfold elF; rw [Nat.add_zero]; dsimp only; omega
  | n + 1, b, m, f => by
    have e1 : bcF s (b + 1) = bcF s b + s / 2 ^ b % 2 := rfl
    have e2 : b + (n + 1) = b + 1 + n := by omega
    unfold elF
    rw [Int.toNat_natCast, e2]
    by_cases hb : s / 2 ^ b % 2 = 1
    · rw [if_pos hb]
      have := elF_bc (s := s) n (b + 1) (m + 1) (up1 f m b)
      rw [show (((b + 1 : Nat)) : Int) = (b : Int) + 1 by omega] at this
      rw [this]
      omega
    · rw [if_neg hb]
      have := elF_bc (s := s) n (b + 1) m f
      rw [show (((b + 1 : Nat)) : Int) = (b : Int) + 1 by omega] at this
      rw [this]
      omega
/-- each book of the set is there -/
theorem elF_in {s x : Int} (hx : s / 2 ^ x.toNat % 2 = 1) : ∀ (n : Nat) (b m : Int) (f : Int → Int), RN f m b → MON f m → (0 ≤ m ∧ m ≤ b) → b ≤ x → x < b + n → ∃ k, (m ≤ k ∧ k < (elF s n b m f).2) ∧ (elF s n b m f).1 k = x
  | 0, b, m, f, _, _, _, h1, h2 => by omega
  | n + 1, b, m, f, h1, h2, h3, h4, h5 => by
    unfold elF
    by_cases hb : s / 2 ^ b.toNat % 2 = 1
    · rw [if_pos hb]
      have a1 : RN (up1 f m b) (m + 1) (b + 1) := fun i i0 i1 => by
        by_cases e : i = m
        · rw [e, up1_eq]; omega
        · rw [up1_ne e]; have := h1 i i0 (by omega); omega
      have a2 : MON (up1 f m b) (m + 1) := fun i j i0 i1 i2 => by
        rw [up1_ne (show i ≠ m by omega)]
        by_cases e : j = m
        · rw [e, up1_eq]; exact (h1 i i0 (by omega)).2
        · rw [up1_ne e]; exact h2 i j i0 i1 (by omega)
      by_cases e : x = b
      · have r := elF_sp (s := s) n (b + 1) (m + 1) (up1 f m b) a1 a2 (by omega)
        exact ⟨m, ⟨by omega, by omega⟩, by rw [r.2.2.2 m (by omega) (by omega), up1_eq, e]⟩
      · obtain ⟨k, k1, k2⟩ := elF_in hx n (b + 1) (m + 1) (up1 f m b) a1 a2 (by omega) (by omega) (by omega)
        exact ⟨k, ⟨by omega, k1.2⟩, k2⟩
    · rw [if_neg hb]
      by_cases e : x = b
      · rw [e] at hx; exact absurd hx hb
      · exact elF_in hx n (b + 1) m f (fun i i0 i1 => by have := h1 i i0 i1; omega) h2 (by omega) (by omega) (by omega)
theorem elZ_sp {N s : Int} (hN : 0 ≤ N) : RN (elZ N s).1 (elZ N s).2 N ∧ MON (elZ N s).1 (elZ N s).2 ∧ (0 ≤ (elZ N s).2 ∧ (elZ N s).2 ≤ N) := by
  have r := elF_sp (s := s) N.toNat 0 0 (fun _ => 0) (fun i i0 i1 => by omega) (fun i j i0 i1 i2 => by omega) (by omega)
  rw [show 0 + ((N.toNat : Nat) : Int) = N by omega] at r
  exact ⟨r.1, r.2.1, r.2.2.1⟩
theorem elZ_in {N s x : Int} (hx : s / 2 ^ x.toNat % 2 = 1) (h : 0 ≤ x ∧ x < N) : ∃ k, (0 ≤ k ∧ k < (elZ N s).2) ∧ (elZ N s).1 k = x :=
  elF_in hx N.toNat 0 0 (fun _ => 0) (fun i i0 i1 => by omega) (fun i j i0 i1 i2 => by omega) (by omega) (by omega) (by omega)
theorem bcF_hi {s : Int} {k : Nat} (h0 : 0 ≤ s) (h1 : s < 2 ^ k) : ∀ n : Nat, bcF s (k + n) = bcF s k
  | 0 => rfl
  | n + 1 => by
    have e : bcF s (k + (n + 1)) = bcF s (k + n) + s / 2 ^ (k + n) % 2 := rfl
    have h2 : (2 : Int) ^ k ≤ 2 ^ (k + n) := by
      have := Nat.pow_le_pow_right (n := 2) (by omega) (show k ≤ k + n by omega)
      exact_mod_cast this
    rw [e, bcF_hi h0 h1 n, Int.ediv_eq_zero_of_lt h0 (by omega)]
    omega
theorem elZ_bc {N s : Int} (hN : 0 ≤ N ∧ N ≤ 10) (h0 : 0 ≤ s) (h1 : s < 2 ^ N.toNat) : (elZ N s).2 = bc s := by
  have r := elF_bc (s := s) N.toNat 0 0 (fun _ => 0)
  have q := bcF_hi h0 h1 (10 - N.toNat)
  rw [show N.toNat + (10 - N.toNat) = 10 by omega] at q
  have e : (elZ N s).2 = (elF s N.toNat ((0 : Nat) : Int) 0 (fun _ => 0)).2 := rfl
  rw [e, r, Nat.zero_add]
  show 0 + (bcF s N.toNat - 0) = bcF s 10
  omega
/-- a set's orders are laid out -/
def LAID (w : Int → Int → Int) (m : Int) (el c : Int → Int) : Prop := w 539 34 = m ∧ w 539 35 = fac m ∧ EQm m (w 554) el ∧ ORD (w 551) m (fac m) 0 ∧ FLD w c m (fac m)
/-- 551 to 555, how many elements and orders differ -/
def jkl (v w : Int → Int → Int) : Prop := (∃ x y, w 539 = up1 (up1 (v 539) 34 x) 35 y) ∧ ∀ a, a ≠ 539 → (a < 551 ∨ 555 < a) → w a = v a
/-- 545 to 548, 551 to 559, how many elements and orders differ -/
def jko (v w : Int → Int → Int) : Prop := (∃ x y, w 539 = up1 (up1 (v 539) 34 x) 35 y) ∧ ∀ a, a ≠ 539 → (a < 545 ∨ (548 < a ∧ a < 551) ∨ 559 < a) → w a = v a
theorem jko.pv {v w : Int → Int → Int} (h : jko v w) (hV : PV v) : PV w := by
  obtain ⟨⟨x, y, h1⟩, h2⟩ := h
  intro q hq
  by_cases e : q.1 = 539
  · rw [e, h1]
    exact ((PV.r hV).up (by decide)).up (by decide) q hq e
  · have key : ∀ a ∈ pvA, a = 539 ∨ (a < 545 ∨ (548 < a ∧ a < 551) ∨ 559 < a) := by decide
    have := (key _ (pvL_A q hq)).resolve_left e
    rw [h2 q.1 e this]
    exact hV q hq
theorem jko.a {v w : Int → Int → Int} (h : jko v w) : w 540 = v 540 := h.2 540 (by omega) (by omega)
theorem jko.x {v w : Int → Int → Int} (h : jko v w) : w 542 = v 542 := h.2 542 (by omega) (by omega)
theorem jko.te {v w : Int → Int → Int} (h : jko v w) (hE : TE v) : TE w := by
  unfold TE
  rw [h.a, h.x]
  exact hE
theorem up1_cm {f : Int → Int} {i j x y : Int} (h : i ≠ j) : up1 (up1 f i x) j y = up1 (up1 f j y) i x := by
  funext k
  by_cases a : k = j
  · rw [a, up1_eq, up1_ne (fun e => h e.symm), up1_eq]
  · rw [up1_ne a]
    by_cases b : k = i
    · rw [b, up1_eq, up1_eq]
    · rw [up1_ne b, up1_ne b, up1_ne a]
theorem jko.rf {v : Int → Int → Int} : jko v v := ⟨⟨v 539 34, v 539 35, by rw [up1_id, up1_id]⟩, fun _ _ _ => rfl⟩
theorem jko.tr {u v w : Int → Int → Int} (h : jko u v) (h2 : jko v w) : jko u w := by
  obtain ⟨⟨x, y, h3⟩, h4⟩ := h
  obtain ⟨⟨x2, y2, h5⟩, h6⟩ := h2
  refine ⟨⟨x2, y2, ?_⟩, fun a a1 a2 => (h6 a a1 a2).trans (h4 a a1 a2)⟩
  rw [h5, h3, up1_cm (i := 35) (j := 34) (by omega), up1_same, up1_same]
theorem jkl.o {v w : Int → Int → Int} (h : jkl v w) : jko v w := ⟨h.1, fun a a1 a2 => h.2 a a1 (by omega)⟩
theorem jkc.o {v w : Int → Int → Int} (h : jkc v w) : jko v w := ⟨⟨v 539 34, v 539 35, by rw [up1_id, up1_id]; exact h 539 (by omega) (by omega) (by omega) (by omega)⟩, fun a a1 a2 => h a (by omega) (by omega) (by omega) (by omega)⟩
theorem jko.up {v : Int → Int → Int} {a : Int} {f : Int → Int} (h : (545 ≤ a ∧ a ≤ 548) ∨ (551 ≤ a ∧ a ≤ 559)) : jko v (upA v a f) := by
  refine ⟨⟨v 539 34, v 539 35, ?_⟩, fun b b1 b2 => upA_ne (by omega)⟩
  rw [upA_ne (by omega), up1_id, up1_id]
theorem jkl.tr {u v w : Int → Int → Int} (h : jkl u v) (h2 : jkl v w) : jkl u w := by
  obtain ⟨⟨x, y, h3⟩, h4⟩ := h
  obtain ⟨⟨x2, y2, h5⟩, h6⟩ := h2
  refine ⟨⟨x2, y2, ?_⟩, fun a a1 a2 => (h6 a a1 a2).trans (h4 a a1 a2)⟩
  rw [h5, h3, up1_cm (i := 35) (j := 34) (by omega), up1_same, up1_same]
/-- the table by places of a set -/
def tbS (A X : Int → Int) (s : Int) : Int → Int := tbE (tbl A X) (elZ (A 0) s).1
theorem tbS_01 {A X : Int → Int} {s i : Int} : 0 ≤ tbS A X s i ∧ tbS A X s i ≤ 1 := cgA_01
theorem tbE_at {c el : Int → Int} {x y : Int} (h : 0 ≤ y ∧ y < 10) : tbE c el (10 * x + y) = c (10 * el x + el y) := by
  unfold tbE
  rw [show (10 * x + y) / 10 = x by omega, show (10 * x + y) % 10 = y by omega]
section TG
variable {g : jjG} {d : Nat} {T : jjT} {Q : jjQ}
theorem tw_le_1 {s N : Int} (hT : PT T) (hs : inI s) (hN : N ≤ 10) : ∀ (r : Nat) (b m : Int) (v : Int → Int → Int), PV v → v 539 34 = m → (0 ≤ m ∧ m ≤ b) → v 540 0 = N → N = b + r →
    (∀ w, w 539 = up1 (v 539) 34 (elF s r b m (v 554)).2 → w 554 = (elF s r b m (v 554)).1 → (∀ a, a ≠ 539 → a ≠ 554 → w a = v a) → jW bX2_layElements (g, d + 2, 0, 0, Q) 1 [some (vR 539), some (vI s), some (vI N)] [] (w, T) 0 0) →
    jW bX2_layElements (g, d + 2, 0, 0, Q) 1 [some (vR 539), some (vI s), some (vI b)] [] (v, T) 0 0 := by
  intro r
  induction r with
  | zero =>
    intro b m v hV h34 hm h0 hb hQ
    unfold elF at hQ
    have := hQ v (by dsimp only; rw [← h34, up1_id]) rfl (fun _ _ _ => rfl)
    rwa [show N = b by omega] at this
  | succ r ih =>
    intro b m v hV h34 hm h0 hb hQ
    unfold elF at hQ
    by_cases h : s / 2 ^ b.toNat % 2 = 1
    · rw [if_pos h] at hQ
      refine jW_step ?_
      simp (disch := (first | decide | omega)) only [bX2_layElements, jxs, hps, jtsw, jlsw, List.length_cons, List.length_nil, true_and, and_true, true_implies, false_implies, implies_true, not_true_eq_false, not_false_eq_true, false_and, and_false, if_true, if_false, or_true, true_or, or_false, false_or, Classical.not_not, and_self, Int.reduceAdd, Int.reduceMul, Int.reduceSub, Int.reduceNeg, Int.reduceLT, Int.reduceLE, Int.reduceEq, Int.reduceNe, Int.reduceToNat, Nat.reduceAdd, Nat.reduceMul, Nat.reduceSub, Nat.reduceLeDiff, Nat.reduceLT, Nat.reduceEqDiff, reduceIte, Nat.zero_le, Nat.le_refl, Nat.add_zero, Nat.zero_add, twT hT, twV hV, h0]
      (repeat (refine And.intro (by (first | omega | assumption | trivial | (simp only [inI]; omega) | (simp only [inL]; omega) | (refine jb_01) | (exact jb_in))) ?_))
      (first | refine ⟨fun h9 => (by exfalso; omega), fun _ => ?_⟩ | intro _)
      refine ⟨0, 0, ⟨by omega, by omega⟩, tw_has hT hV ⟨hs, by omega, by omega⟩ ?_⟩
      simp (disch := (first | decide | omega)) only [jxs, hps, jtsw, jlsw, List.length_cons, List.length_nil, true_and, and_true, true_implies, false_implies, implies_true, not_true_eq_false, not_false_eq_true, false_and, and_false, if_true, if_false, or_true, true_or, or_false, false_or, Classical.not_not, and_self, Int.reduceAdd, Int.reduceMul, Int.reduceSub, Int.reduceNeg, Int.reduceLT, Int.reduceLE, Int.reduceEq, Int.reduceNe, Int.reduceToNat, Nat.reduceAdd, Nat.reduceMul, Nat.reduceSub, Nat.reduceLeDiff, Nat.reduceLT, Nat.reduceEqDiff, reduceIte, Nat.zero_le, Nat.le_refl, Nat.add_zero, Nat.zero_add, twT hT, twV hV, h, h34]
      (repeat (refine And.intro (by (first | omega | assumption | trivial | (simp only [inI]; omega) | (simp only [inL]; omega) | (refine jb_01) | (exact jb_in))) ?_))
      refine jW_step ?_
      simp (disch := (first | decide | omega)) only [bX2_layElements, jxs, hps, jtsw, jlsw, List.length_cons, List.length_nil, true_and, and_true, true_implies, false_implies, implies_true, not_true_eq_false, not_false_eq_true, false_and, and_false, if_true, if_false, or_true, true_or, or_false, false_or, Classical.not_not, and_self, Int.reduceAdd, Int.reduceMul, Int.reduceSub, Int.reduceNeg, Int.reduceLT, Int.reduceLE, Int.reduceEq, Int.reduceNe, Int.reduceToNat, Nat.reduceAdd, Nat.reduceMul, Nat.reduceSub, Nat.reduceLeDiff, Nat.reduceLT, Nat.reduceEqDiff, reduceIte, Nat.zero_le, Nat.le_refl, Nat.add_zero, Nat.zero_add, twT hT, twV hV]
      (repeat (refine And.intro (by (first | omega | assumption | trivial | (simp only [inI]; omega) | (simp only [inL]; omega) | (refine jb_01) | (exact jb_in))) ?_))
      refine ih (b + 1) (m + 1) _ (by (first | assumption | (repeat (first | assumption | refine PV.A ?_ (by decide) | refine PV.F ?_ ?_ | refine twR.up ?_ (by decide) | refine PV.r ?_)))) (by rw [upA_ne (by omega), upA_eq, up1_eq]) (by omega) (by rw [upA_ne (by omega), upA_ne (by omega)]; exact h0) (by omega) ?_
      rw [upA_eq, upA_ne (by omega), upA_eq, up1_same]
      intro w h1 h2 h3
      exact hQ w h1 h2 (fun a a1 a2 => by rw [h3 a a1 a2, upA_ne a2, upA_ne a1])
    · rw [if_neg h] at hQ
      have hb0 : s / 2 ^ b.toNat % 2 = 0 := by omega
      refine jW_step ?_
      simp (disch := (first | decide | omega)) only [bX2_layElements, jxs, hps, jtsw, jlsw, List.length_cons, List.length_nil, true_and, and_true, true_implies, false_implies, implies_true, not_true_eq_false, not_false_eq_true, false_and, and_false, if_true, if_false, or_true, true_or, or_false, false_or, Classical.not_not, and_self, Int.reduceAdd, Int.reduceMul, Int.reduceSub, Int.reduceNeg, Int.reduceLT, Int.reduceLE, Int.reduceEq, Int.reduceNe, Int.reduceToNat, Nat.reduceAdd, Nat.reduceMul, Nat.reduceSub, Nat.reduceLeDiff, Nat.reduceLT, Nat.reduceEqDiff, reduceIte, Nat.zero_le, Nat.le_refl, Nat.add_zero, Nat.zero_add, twT hT, twV hV, h0]
      (repeat (refine And.intro (by (first | omega | assumption | trivial | (simp only [inI]; omega) | (simp only [inL]; omega) | (refine jb_01) | (exact jb_in))) ?_))
      (first | refine ⟨fun h9 => (by exfalso; omega), fun _ => ?_⟩ | intro _)
      refine ⟨0, 0, ⟨by omega, by omega⟩, tw_has hT hV ⟨hs, by omega, by omega⟩ ?_⟩
      simp (disch := (first | decide | omega)) only [jxs, hps, jtsw, jlsw, List.length_cons, List.length_nil, true_and, and_true, true_implies, false_implies, implies_true, not_true_eq_false, not_false_eq_true, false_and, and_false, if_true, if_false, or_true, true_or, or_false, false_or, Classical.not_not, and_self, Int.reduceAdd, Int.reduceMul, Int.reduceSub, Int.reduceNeg, Int.reduceLT, Int.reduceLE, Int.reduceEq, Int.reduceNe, Int.reduceToNat, Nat.reduceAdd, Nat.reduceMul, Nat.reduceSub, Nat.reduceLeDiff, Nat.reduceLT, Nat.reduceEqDiff, reduceIte, Nat.zero_le, Nat.le_refl, Nat.add_zero, Nat.zero_add, twT hT, twV hV, hb0]
      refine jW_step ?_
      simp (disch := (first | decide | omega)) only [bX2_layElements, jxs, hps, jtsw, jlsw, List.length_cons, List.length_nil, true_and, and_true, true_implies, false_implies, implies_true, not_true_eq_false, not_false_eq_true, false_and, and_false, if_true, if_false, or_true, true_or, or_false, false_or, Classical.not_not, and_self, Int.reduceAdd, Int.reduceMul, Int.reduceSub, Int.reduceNeg, Int.reduceLT, Int.reduceLE, Int.reduceEq, Int.reduceNe, Int.reduceToNat, Nat.reduceAdd, Nat.reduceMul, Nat.reduceSub, Nat.reduceLeDiff, Nat.reduceLT, Nat.reduceEqDiff, reduceIte, Nat.zero_le, Nat.le_refl, Nat.add_zero, Nat.zero_add, twT hT, twV hV]
      (repeat (refine And.intro (by (first | omega | assumption | trivial | (simp only [inI]; omega) | (simp only [inL]; omega) | (refine jb_01) | (exact jb_in))) ?_))
      exact ih (b + 1) m v hV h34 (by omega) h0 (by omega) hQ
theorem tw_layElements {v : Int → Int → Int} {s : Int} (hT : PT T) (hV : PV v) (hS : (0 ≤ v 540 0 ∧ v 540 0 ≤ 10) ∧ inI s ∧ (elZ (v 540 0) s).2 ≤ 6 ∧ CH (v 540) (v 542) (v 548)) (hQ : ∀ w, LAID w (elZ (v 540 0) s).2 (elZ (v 540 0) s).1 (tbS (v 540) (v 542) s) → jkl v w → Q (.inl none) (w, T)) : jmet g (d + 3) 0 0 MX2_layElements [vR 539, vI s] (v, T) Q := by
  obtain ⟨h0, hs, hm6, hC⟩ := hS
  have sp := elZ_sp (N := v 540 0) (s := s) h0.1
  have cg := elF_cg (s := s) (v 540 0).toNat 0 0 (v 554) (fun _ => 0) (fun i i0 i1 => by omega)
  unfold tbS at hQ
  have ez : elZ (v 540 0) s = elF s (v 540 0).toNat 0 0 (fun _ => 0) := rfl
  rw [← ez] at cg
  generalize (elZ (v 540 0) s).2 = m at *
  generalize (elZ (v 540 0) s).1 = el at *
  have hf := fac_bd hm6
  refine jmet_of (ls := [some (vR 539), some (vI s), none]) sX2_layElements rfl (by decide +kernel) (by decide) rfl (by simp [jent]) ?_
  refine jW_step ?_
  simp (disch := (first | decide | omega)) only [bX2_layElements, jxs, hps, jtsw, jlsw, List.length_cons, List.length_nil, true_and, and_true, true_implies, false_implies, implies_true, not_true_eq_false, not_false_eq_true, false_and, and_false, if_true, if_false, or_true, true_or, or_false, false_or, Classical.not_not, and_self, Int.reduceAdd, Int.reduceMul, Int.reduceSub, Int.reduceNeg, Int.reduceLT, Int.reduceLE, Int.reduceEq, Int.reduceNe, Int.reduceToNat, Nat.reduceAdd, Nat.reduceMul, Nat.reduceSub, Nat.reduceLeDiff, Nat.reduceLT, Nat.reduceEqDiff, reduceIte, Nat.zero_le, Nat.le_refl, Nat.add_zero, Nat.zero_add, twT hT, twV hV]
  (repeat (refine And.intro (by (first | omega | assumption | trivial | (simp only [inI]; omega) | (simp only [inL]; omega) | (refine jb_01) | (exact jb_in))) ?_))
  refine tw_le_1 hT hs h0.2 (v 540 0).toNat 0 0 _ (by (first | assumption | (repeat (first | assumption | refine PV.A ?_ (by decide) | refine PV.F ?_ ?_ | refine twR.up ?_ (by decide) | refine PV.r ?_)))) (by rw [upA_eq, up1_eq]) (by omega) (by rw [upA_ne (by omega)]) (by omega) ?_
  rw [upA_eq, upA_ne (by omega), cg.1, up1_same]
  intro u u39 u54 uo
  have u34 : u 539 34 = m := by rw [u39, up1_eq]
  have uO : ∀ a, a ≠ 539 → a ≠ 554 → u a = v a := fun a a1 a2 => (uo a a1 a2).trans (upA_ne a1)
  have j1 : jkl v u := ⟨⟨m, v 539 35, by rw [u39, up1_cm (by omega), up1_id]⟩, fun a a1 a2 => uO a a1 (by omega)⟩
  have hVu := j1.o.pv hV
  have u00 : u 540 0 = v 540 0 := by rw [uO 540 (by omega) (by omega)]
  have hV := hVu
  refine jW_step ?_
  simp (disch := (first | decide | omega)) only [bX2_layElements, jxs, hps, jtsw, jlsw, List.length_cons, List.length_nil, true_and, and_true, true_implies, false_implies, implies_true, not_true_eq_false, not_false_eq_true, false_and, and_false, if_true, if_false, or_true, true_or, or_false, false_or, Classical.not_not, and_self, Int.reduceAdd, Int.reduceMul, Int.reduceSub, Int.reduceNeg, Int.reduceLT, Int.reduceLE, Int.reduceEq, Int.reduceNe, Int.reduceToNat, Nat.reduceAdd, Nat.reduceMul, Nat.reduceSub, Nat.reduceLeDiff, Nat.reduceLT, Nat.reduceEqDiff, reduceIte, Nat.zero_le, Nat.le_refl, Nat.add_zero, Nat.zero_add, twT hT, twV hV, u00]
  (repeat (refine And.intro (by (first | omega | assumption | trivial | (simp only [inI]; omega) | (simp only [inL]; omega) | (refine jb_01) | (exact jb_in))) ?_))
  (try refine ⟨fun _ => ?_, fun h9 => (by exfalso; omega)⟩)
  refine ⟨0, 0, ⟨by omega, by omega⟩, tw_findOrders hT hV ⟨u34, by omega⟩ ?_⟩
  intro w w1 w2 w3
  have j2 : jkl u w := ⟨⟨m, fac m, by rw [w2, ← u34, up1_id]⟩, fun a a1 a2 => w3 a a1 (by omega)⟩
  have hVw := j2.o.pv hVu
  have w34 : w 539 34 = m := by rw [w2, up1_ne (by omega)]; exact u34
  have w35 : w 539 35 = fac m := by rw [w2, up1_eq]
  have w54 : EQm m (w 554) el := by
    rw [w3 554 (by omega) (by omega), u54]
    have := cg.2
    rwa [cg.1] at this
  have w48 : w 548 = v 548 := by rw [w3 548 (by omega) (by omega), uO 548 (by omega) (by omega)]
  have tg := hC.tag h0.2
  have hOw : OEL w m (tbE (tbl (v 540) (v 542)) el) := by
    refine ⟨w34, fun x x0 x1 => ?_, fun x y x0 x1 y0 y1 => ⟨?_, cgA_01⟩⟩
    · rw [w54 x x0 x1]; have := sp.1 x x0 x1; omega
    · rw [w54 x x0 x1, w54 y y0 y1, w48, tbE_at (by omega)]
      have a := sp.1 x x0 x1
      have b := sp.1 y y0 y1
      exact tg _ _ a.1 a.2 b.1 b.2
  have hV := hVw
  simp (disch := (first | decide | omega)) only [jxs, hps, jtsw, jlsw, List.length_cons, List.length_nil, true_and, and_true, true_implies, false_implies, implies_true, not_true_eq_false, not_false_eq_true, false_and, and_false, if_true, if_false, or_true, true_or, or_false, false_or, Classical.not_not, and_self, Int.reduceAdd, Int.reduceMul, Int.reduceSub, Int.reduceNeg, Int.reduceLT, Int.reduceLE, Int.reduceEq, Int.reduceNe, Int.reduceToNat, Nat.reduceAdd, Nat.reduceMul, Nat.reduceSub, Nat.reduceLeDiff, Nat.reduceLT, Nat.reduceEqDiff, reduceIte, Nat.zero_le, Nat.le_refl, Nat.add_zero, Nat.zero_add, twT hT, twV hV]
  refine ⟨0, 0, ⟨by omega, by omega⟩, tw_findLeads hT hV ⟨by omega, hOw, w35, w1⟩ ?_⟩
  intro y y1 y2
  simp (disch := (first | decide | omega)) only [jxs, hps, jtsw, jlsw, List.length_cons, List.length_nil, true_and, and_true, true_implies, false_implies, implies_true, not_true_eq_false, not_false_eq_true, false_and, and_false, if_true, if_false, or_true, true_or, or_false, false_or, Classical.not_not, and_self, Int.reduceAdd, Int.reduceMul, Int.reduceSub, Int.reduceNeg, Int.reduceLT, Int.reduceLE, Int.reduceEq, Int.reduceNe, Int.reduceToNat, Nat.reduceAdd, Nat.reduceMul, Nat.reduceSub, Nat.reduceLeDiff, Nat.reduceLT, Nat.reduceEqDiff, reduceIte, Nat.zero_le, Nat.le_refl, Nat.add_zero, Nat.zero_add, twT hT, twV hV]
  (repeat (refine And.intro (by (first | omega | assumption | trivial | (simp only [inI]; omega) | (simp only [inL]; omega) | (refine jb_01) | (exact jb_in))) ?_))
  have j3 : jkl w y := ⟨⟨w 539 34, w 539 35, by rw [up1_id, up1_id]; exact y2 539 (by omega) (by omega) (by omega)⟩, fun a a1 a2 => y2 a (by omega) (by omega) (by omega)⟩
  have y39 : y 539 = w 539 := y2 539 (by omega) (by omega) (by omega)
  exact hQ y ⟨by rw [y39]; exact w34, by rw [y39]; exact w35, by rw [y2 554 (by omega) (by omega) (by omega)]; exact w54, by rw [y2 551 (by omega) (by omega) (by omega)]; exact w1, y1⟩ ((j1.tr j2).tr j3)
theorem tw_laySet {v : Int → Int → Int} {s : Int} (hT : PT T) (hV : PV v) (hS : TE v ∧ inI s ∧ (elZ (v 540 0) s).2 ≤ 6) (hQ : ∀ w, LAID w (elZ (v 540 0) s).2 (elZ (v 540 0) s).1 (tbS (v 540) (v 542) s) → jko v w → CH (v 540) (v 542) (w 548) → Q (.inl none) (w, T)) : jmet g (d + 8) 0 0 MX2_laySet [vR 539, vI s] (v, T) Q := by
  obtain ⟨hE, hs, hm6⟩ := hS
  have h0 := hE.1.1
  refine jmet_of (ls := [some (vR 539), some (vI s)]) sX2_laySet rfl (by decide +kernel) (by decide) rfl (by simp [jent]) ?_
  refine jW_step ?_
  simp (disch := (first | decide | omega)) only [bX2_laySet, jxs, hps, jtsw, jlsw, List.length_cons, List.length_nil, true_and, and_true, true_implies, false_implies, implies_true, not_true_eq_false, not_false_eq_true, false_and, and_false, if_true, if_false, or_true, true_or, or_false, false_or, Classical.not_not, and_self, Int.reduceAdd, Int.reduceMul, Int.reduceSub, Int.reduceNeg, Int.reduceLT, Int.reduceLE, Int.reduceEq, Int.reduceNe, Int.reduceToNat, Nat.reduceAdd, Nat.reduceMul, Nat.reduceSub, Nat.reduceLeDiff, Nat.reduceLT, Nat.reduceEqDiff, reduceIte, Nat.zero_le, Nat.le_refl, Nat.add_zero, Nat.zero_add, twT hT, twV hV]
  refine ⟨0, 0, ⟨by omega, by omega⟩, tw_findChanges hT hV hE ?_⟩
  intro u hu hC
  have hVu := hu.pv hV
  have ea := hu.a
  have ex := hu.x
  have hV := hVu
  simp (disch := (first | decide | omega)) only [jxs, hps, jtsw, jlsw, List.length_cons, List.length_nil, true_and, and_true, true_implies, false_implies, implies_true, not_true_eq_false, not_false_eq_true, false_and, and_false, if_true, if_false, or_true, true_or, or_false, false_or, Classical.not_not, and_self, Int.reduceAdd, Int.reduceMul, Int.reduceSub, Int.reduceNeg, Int.reduceLT, Int.reduceLE, Int.reduceEq, Int.reduceNe, Int.reduceToNat, Nat.reduceAdd, Nat.reduceMul, Nat.reduceSub, Nat.reduceLeDiff, Nat.reduceLT, Nat.reduceEqDiff, reduceIte, Nat.zero_le, Nat.le_refl, Nat.add_zero, Nat.zero_add, twT hT, twV hV]
  refine ⟨0, 0, ⟨by omega, by omega⟩, tw_layElements hT hV ⟨by rw [ea]; exact h0, hs, by rw [ea]; exact hm6, by rw [ea, ex]; exact hC⟩ ?_⟩
  rw [ea, ex]
  intro w h1 h2
  simp (disch := (first | decide | omega)) only [jxs, hps, jtsw, jlsw, List.length_cons, List.length_nil, true_and, and_true, true_implies, false_implies, implies_true, not_true_eq_false, not_false_eq_true, false_and, and_false, if_true, if_false, or_true, true_or, or_false, false_or, Classical.not_not, and_self, Int.reduceAdd, Int.reduceMul, Int.reduceSub, Int.reduceNeg, Int.reduceLT, Int.reduceLE, Int.reduceEq, Int.reduceNe, Int.reduceToNat, Nat.reduceAdd, Nat.reduceMul, Nat.reduceSub, Nat.reduceLeDiff, Nat.reduceLT, Nat.reduceEqDiff, reduceIte, Nat.zero_le, Nat.le_refl, Nat.add_zero, Nat.zero_add, twT hT, twV hV]
  (repeat (refine And.intro (by (first | omega | assumption | trivial | (simp only [inI]; omega) | (simp only [inL]; omega) | (refine jb_01) | (exact jb_in))) ?_))
  exact hQ w h1 (hu.o.tr h2.o) (by rw [h2.2 548 (by omega) (by omega)]; exact hC)
end TG
