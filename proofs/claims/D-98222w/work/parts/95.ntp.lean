/-! ===== a night on a shelf: pushes first, changes then ===== -/
set_option maxRecDepth 100000
def AGR (A A' : Int → Int) : Prop := ∀ i, (i = 2 ∨ i = 3 ∨ i = 6 ∨ (46 ≤ i ∧ i < 106 ∧ (i - 46) % 6 ≠ 5)) → A' i = A i
theorem AGR.rf {A : Int → Int} : AGR A A := fun _ _ => rfl
theorem AGR.tr {A B C : Int → Int} (h : AGR A B) (h2 : AGR B C) : AGR A C := fun i hi => (h2 i hi).trans (h i hi)
theorem pbA_ag {A A' X : Int → Int} {la b o r : Int} (h : AGR A A') (hb : 0 ≤ b ∧ b < 10) (ho : 0 ≤ o ∧ o < 10) : pbA A' X la b o r = pbA A X la b o r := by
  unfold pbA
  rw [clA_6 (h 6 (by omega)), h 6 (by omega)]
  have e : nmP (fun _ => 0) A' b o r = nmP (fun _ => 0) A b o r := by
    unfold nmP nmO
    rw [h 2 (by omega), h (46 + 6 * b + 0) (by omega), h (46 + 6 * b + 1) (by omega), h (46 + 6 * b + 2) (by omega), h (46 + 6 * b + 3) (by omega), h (46 + 6 * o + 0) (by omega), h (46 + 6 * o + 1) (by omega), h (46 + 6 * o + 2) (by omega), h (46 + 6 * o + 3) (by omega)]
  rw [e]
theorem dpA_ag {A A' X : Int → Int} {b o r : Int} (h : AGR A A') (hb : 0 ≤ b ∧ b < 10) (ho : 0 ≤ o ∧ o < 10) : dpA A' X b o r = dpA A X b o r := by
  unfold dpA
  rw [h (46 + 6 * b + 4) (by omega), pbA_ag h hb ho]
theorem dcA_ag {A A' X : Int → Int} {b o : Int} (h : AGR A A') (hb : 0 ≤ b ∧ b < 10) (ho : 0 ≤ o ∧ o < 10) : dcA A' X b o = dcA A X b o := by
  unfold dcA needA
  rw [dpA_ag h hb ho, dpA_ag h ho hb, clA_6 (h 6 (by omega)), h 6 (by omega), h 3 (by omega)]
theorem wriA_AG {A : Int → Int} {b o s : Int} (h9 : 0 ≤ A 9) : AGR A (wriA A b o s) := fun i hi => wriA_lo h9 (by omega) (by omega)
theorem chW_AG {A X : Int → Int} {s l r : Int} (h9 : 0 ≤ A 9) : AGR A (chW A X s l r) := fun i hi => chW_lo h9 (by omega) (by omega)
/-- agreement but for a piece of a shelf -/
def OFF (s p : Int) (A B : Int → Int) : Prop := ∀ i, ¬ (16 + 10 * s ≤ i ∧ i < 16 + 10 * s + p) → B i = A i
theorem OFF.ag {s p : Int} {A B : Int → Int} (h : OFF s p A B) (hs : 0 ≤ s ∧ s < 3) (hp : p ≤ 10) : AGR A B := fun i hi => h i (by omega)
theorem wriA_off {s p : Int} {A B : Int → Int} {b o t : Int} (h : OFF s p A B) (hs : 0 ≤ s ∧ s < 3) (hp : p ≤ 10) : OFF s p (wriA A b o t) (wriA B b o t) := by
  intro i hi
  have e9 : B 9 = A 9 := h 9 (by omega)
  have e1 : B 1 = A 1 := h 1 (by omega)
  unfold wriA
  rw [e9, e1]
  unfold up1
  repeat' split
  all_goals first | rfl | exact h i hi
theorem chW_off {s p : Int} {A B X : Int → Int} {t l r : Int} (h : OFF s p A B) (hs : 0 ≤ s ∧ s < 3) (hp : p ≤ 10) (h9 : 0 ≤ A 9) (hl : 0 ≤ l ∧ l < 10) (hr : 0 ≤ r ∧ r < 10) : OFF s p (chW A X t l r) (chW B X t l r) := by
  have ag := h.ag hs hp
  have h1 : OFF s p (chW1 A X t l r) (chW1 B X t l r) := by
    unfold chW1
    rw [dpA_ag ag hl hr]
    split
    · exact h
    · exact wriA_off h hs hp
  unfold chW
  rw [dpA_ag (h1.ag hs hp) hr hl]
  split
  · exact h1
  · exact wriA_off h1 hs hp
/-- the pushes of a shelf, written -/
def wpL (X : Int → Int) (s : Int) : Nat → Int → (Int → Int) → (Int → Int)
  | 0, _, A => A
  | n + 1, p, A => if A (13 + s) ≤ p + 1 then A else wpL X s n (p + 2) (if dcA A X (A (16 + 10 * s + p)) (A (16 + 10 * s + (p + 1))) = 0 then A else chW A X s (A (16 + 10 * s + p)) (A (16 + 10 * s + (p + 1))))
theorem wpL_off {X : Int → Int} {s : Int} (hs : 0 ≤ s ∧ s < 3) : ∀ (n : Nat) (p : Int) (A B : Int → Int), TB A → 0 ≤ A 9 → 0 ≤ p → p ≤ 10 → OFF s p A B → OFF s 10 (wpL X s n p A) (wpL X s n p B)
  | 0, p, A, B, hB, h9, hp, hp2, h => fun i hi => h i (by omega)
  | n + 1, p, A, B, hB, h9, hp, hp2, h => by
    have hm := hB.2.2.2.2.2.1 (13 + s) (by omega) (by omega)
    unfold wpL
    rw [h (13 + s) (by omega)]
    by_cases q : A (13 + s) ≤ p + 1
    · rw [if_pos q, if_pos q]
      exact fun i hi => h i (by omega)
    · rw [if_neg q, if_neg q, h (16 + 10 * s + p) (by omega), h (16 + 10 * s + (p + 1)) (by omega)]
      have l := hB.2.2.2.2.2.2 (16 + 10 * s + p) (by omega) (by omega)
      have r := hB.2.2.2.2.2.2 (16 + 10 * s + (p + 1)) (by omega) (by omega)
      rw [dcA_ag (h.ag hs hp2) (by omega) (by omega)]
      by_cases z : dcA A X (A (16 + 10 * s + p)) (A (16 + 10 * s + (p + 1))) = 0
      · rw [if_pos z, if_pos z]
        exact wpL_off hs n (p + 2) A B hB h9 (by omega) (by omega) (fun i hi => h i (by omega))
      · rw [if_neg z, if_neg z]
        have c := chW_off (X := X) (t := s) h hs hp2 h9 (l := A (16 + 10 * s + p)) (r := A (16 + 10 * s + (p + 1))) (by omega) (by omega)
        have c9 := chW_9 (A := A) (X := X) (s := s) (l := A (16 + 10 * s + p)) (r := A (16 + 10 * s + (p + 1)))
        exact wpL_off hs n (p + 2) _ _ (chW_TB hB h9) (by omega) (by omega) (by omega) (fun i hi => c i (by omega))
theorem nitL_lo {c : Int → Int} {m : Int} : ∀ (n : Nat) (p : Int) (f : Int → Int) (q : Int), q < p → nitL c m n p f q = f q
  | 0, _, _, _, _ => rfl
  | n + 1, p, f, q, h => by
    unfold nitL
    split
    · rfl
    · rw [nitL_lo n (p + 2) _ q (by omega)]
      split
      · rfl
      · unfold swp
        rw [up1_ne (by omega), up1_ne (by omega)]
/-- a shelf's night in two parts -/
theorem chL_two {X : Int → Int} {s : Int} (hs : 0 ≤ s ∧ s < 3) : ∀ (n : Nat) (p c : Int) (A : Int → Int), TB A → SH A → 0 ≤ A 9 → 0 ≤ p → p ≤ 10 →
    (chL X s n p c A).2 = c + ncL (tbl A X) (A (13 + s)) n p (fun q => A (16 + 10 * s + q)) ∧ (∀ i, ¬ (16 + 10 * s ≤ i ∧ i < 26 + 10 * s) → (chL X s n p c A).1 i = wpL X s n p A i) ∧ ∀ q, 0 ≤ q → q < A (13 + s) → (chL X s n p c A).1 (16 + 10 * s + q) = nitL (tbl A X) (A (13 + s)) n p (fun q => A (16 + 10 * s + q)) q
  | 0, p, c, A, hB, hH, h9, hp, hp2 => by
    unfold chL ncL wpL nitL
    exact ⟨by dsimp only; omega, fun _ _ => rfl, fun _ _ _ => rfl⟩
  | n + 1, p, c, A, hB, hH, h9, hp, hp2 => by
    have hm := hB.2.2.2.2.2.1 (13 + s) (by omega) (by omega)
    have h0 := hB.1
    unfold chL ncL wpL nitL
    by_cases q : A (13 + s) ≤ p + 1
    · rw [if_pos q, if_pos q, if_pos q, if_pos q]
      exact ⟨by dsimp only; omega, fun _ _ => rfl, fun _ _ _ => rfl⟩
    · rw [if_neg q, if_neg q, if_neg q, if_neg q]
      have l := hB.2.2.2.2.2.2 (16 + 10 * s + p) (by omega) (by omega)
      have r := hB.2.2.2.2.2.2 (16 + 10 * s + (p + 1)) (by omega) (by omega)
      have ne : A (16 + 10 * s + p) ≠ A (16 + 10 * s + (p + 1)) := by
        intro e
        have := hH.2.1 s p (p + 1) hs.1 hs.2 hp (by omega) (by omega) (by omega) e
        omega
      have et : tbl A X (10 * A (16 + 10 * s + p) + A (16 + 10 * s + (p + 1))) = dcA A X (A (16 + 10 * s + p)) (A (16 + 10 * s + (p + 1))) := by
        rw [tbl_at (by omega)]
        unfold cgA
        rw [if_neg ne]
      dsimp only
      rw [et]
      unfold chA chN
      by_cases z : dcA A X (A (16 + 10 * s + p)) (A (16 + 10 * s + (p + 1))) = 0
      · rw [if_pos z, if_pos z, if_pos z, if_pos z, if_pos z, Int.add_zero]
        exact chL_two hs n (p + 2) c A hB hH h9 (by omega) (by omega)
      · rw [if_neg z, if_neg z, if_neg z, if_neg z, if_neg z]
        have c9 := chW_9 (A := A) (X := X) (s := s) (l := A (16 + 10 * s + p)) (r := A (16 + 10 * s + (p + 1)))
        have wB := chW_TB (X := X) (s := s) (l := A (16 + 10 * s + p)) (r := A (16 + 10 * s + (p + 1))) hB h9
        have wlo := fun i (h1 : i < 1594) (h2 : ¬ i = 9) => chW_lo (A := A) (X := X) (s := s) (l := A (16 + 10 * s + p)) (r := A (16 + 10 * s + (p + 1))) h9 h1 h2
        have wH : SH (chW A X s (A (16 + 10 * s + p)) (A (16 + 10 * s + (p + 1)))) := hH.ext (wlo 0 (by omega) (by omega)) (fun i h1 h2 => wlo i (by omega) (by omega)) hB
        generalize chW A X s (A (16 + 10 * s + p)) (A (16 + 10 * s + (p + 1))) = W at *
        have wm : W (13 + s) = A (13 + s) := wlo _ (by omega) (by omega)
        have eB := wB.exc hs (p := p) (by omega)
        have eH := wH.exc wB hs (p := p) (by omega)
        have eo := fun i (hi : i < 16 ∨ 46 ≤ i) => excA_o (A := W) (s := s) (p := p) hs (by omega) hi
        have ep := fun q (hq : 0 ≤ q ∧ q < 10) => excA_p (A := W) (s := s) (p := p) (t := s) (q := q) hs (by omega) hs hq
        have ih := chL_two (X := X) hs n (p + 2) (c + 1) (excA W s p) eB eH (by rw [eo 9 (by omega)]; omega) (by omega) (by omega)
        have em : excA W s p (13 + s) = A (13 + s) := by rw [eo _ (by omega), wm]
        rw [em] at ih
        have ag : AGR A (excA W s p) := fun i hi => by rw [eo i (by omega), wlo i (by omega) (by omega)]
        have tg : TAG (A 0) (tbl (excA W s p) X) (tbl A X) := by
          intro x y x0 x1 y0 y1
          rw [tbl_at (by omega), tbl_at (by omega)]
          unfold cgA
          rw [dcA_ag ag (by omega) (by omega)]
        have er : EQm (A (13 + s)) (fun q => excA W s p (16 + 10 * s + q)) (swp (fun q => A (16 + 10 * s + q)) p) := by
          intro i i0 i1
          show excA W s p (16 + 10 * s + i) = _
          rw [ep i (by omega)]
          unfold swp
          by_cases e1 : i = p + 1
          · rw [e1, up1_eq, if_neg (show ¬ (s = s ∧ p + 1 = p) by omega), if_pos ⟨rfl, rfl⟩]
            exact wlo _ (by omega) (by omega)
          · rw [up1_ne e1]
            by_cases e2 : i = p
            · rw [e2, up1_eq, if_pos ⟨rfl, rfl⟩]
              exact wlo _ (by omega) (by omega)
            · rw [up1_ne e2, if_neg (show ¬ (s = s ∧ i = p) from fun x => e2 x.2), if_neg (show ¬ (s = s ∧ i = p + 1) from fun x => e1 x.2)]
              exact wlo _ (by omega) (by omega)
        have rn : RN (fun q => excA W s p (16 + 10 * s + q)) (A (13 + s)) (A 0) := by
          intro i i0 i1
          have a := eH.1 s i hs.1 hs.2 i0 (by rw [em]; exact i1)
          have b := eB.2.2.2.2.2.2 (16 + 10 * s + i) (by omega) (by omega)
          rw [eo 0 (by omega), wlo 0 (by omega) (by omega)] at a
          exact ⟨b.1, a.1⟩
        have cg := nitL_cg tg n (p + 2) _ _ er rn (by omega)
        have ncg : ∀ (n : Nat) (p : Int) (f f' : Int → Int), EQm (A (13 + s)) f f' → RN f (A (13 + s)) (A 0) → 0 ≤ p → ncL (tbl (excA W s p) X) (A (13 + s)) n p f = ncL (tbl (excA W s p) X) (A (13 + s)) n p f := fun _ _ _ _ _ _ _ => rfl
        have ncq : ∀ (n : Nat) (p' : Int) (f f' : Int → Int), EQm (A (13 + s)) f f' → RN f (A (13 + s)) (A 0) → 0 ≤ p' → ncL (tbl (excA W s p) X) (A (13 + s)) n p' f = ncL (tbl A X) (A (13 + s)) n p' f' := by
          intro n
          induction n with
          | zero => intro _ _ _ _ _ _; rfl
          | succ n ihn =>
            intro p' f f' hf hr hp'
            unfold ncL
            by_cases h : A (13 + s) ≤ p' + 1
            · rw [if_pos h, if_pos h]
            · have a := hr p' hp' (by omega)
              have b := hr (p' + 1) (by omega) (by omega)
              rw [if_neg h, if_neg h, ← hf p' hp' (by omega), ← hf (p' + 1) (by omega) (by omega), tg _ _ a.1 a.2 b.1 b.2]
              rw [ihn (p' + 2) f f' hf hr (by omega), ihn (p' + 2) (swp f p') (swp f' p') (swp_cg hf ⟨hp', by omega⟩) (hr.sw ⟨hp', by omega⟩) (by omega)]
        refine ⟨?_, fun i hi => ?_, fun i i0 i1 => ?_⟩
        · rw [ih.1, ncq n (p + 2) _ _ er rn (by omega)]
          omega
        · rw [ih.2.1 i hi]
          have off : OFF s (p + 2) W (excA W s p) := by
            intro j hj
            by_cases e1 : j < 16 ∨ 46 ≤ j
            · exact eo j e1
            · unfold excA
              rw [up1_ne (by omega), up1_ne (by omega)]
          exact wpL_off hs n (p + 2) W (excA W s p) wB (by omega) (by omega) (by omega) off i (by omega)
        · rw [ih.2.2 i i0 i1]
          exact cg.1 i i0 i1
