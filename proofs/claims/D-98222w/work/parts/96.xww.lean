/-! ===== the class: pushes written ===== -/
-- MODE X
set_option maxRecDepth 100000
theorem wriA_at {A : Int → Int} {b o s w : Int} (h9 : 0 ≤ A 9) (hw : 0 ≤ w ∧ w < 4) : wriA A b o s (1594 + (4 * (A 9 % 512) + w)) = if w = 0 then b else if w = 1 then o else if w = 2 then s else A 1 := by
  unfold wriA
  rw [up1_ne (by omega)]
  have : w = 0 ∨ w = 1 ∨ w = 2 ∨ w = 3 := by omega
  rcases this with rfl | rfl | rfl | rfl
  · rw [up1_ne (by omega), up1_ne (by omega), up1_ne (by omega), show 1594 + (4 * (A 9 % 512) + 0) = 1594 + 4 * (A 9 % 512) by omega, up1_eq, if_pos rfl]
  · rw [up1_ne (by omega), up1_ne (by omega), show 1594 + (4 * (A 9 % 512) + 1) = 1594 + 4 * (A 9 % 512) + 1 by omega, up1_eq, if_neg (by omega), if_pos rfl]
  · rw [up1_ne (by omega), show 1594 + (4 * (A 9 % 512) + 2) = 1594 + 4 * (A 9 % 512) + 2 by omega, up1_eq, if_neg (by omega), if_neg (by omega), if_pos rfl]
  · rw [show 1594 + (4 * (A 9 % 512) + 3) = 1594 + 4 * (A 9 % 512) + 3 by omega, up1_eq, if_neg (by omega), if_neg (by omega), if_neg (by omega)]
theorem wriA_of {A : Int → Int} {b o s q w : Int} (hq : 0 ≤ q ∧ q < A 9 ∧ A 9 < q + 512) (hw : 0 ≤ w ∧ w < 4) : wriA A b o s (1594 + (4 * (q % 512) + w)) = A (1594 + (4 * (q % 512) + w)) := by
  have ne : q % 512 ≠ A 9 % 512 := by omega
  unfold wriA
  rw [up1_ne (by omega), up1_ne (by omega), up1_ne (by omega), up1_ne (by omega), up1_ne (by omega)]
def wrF (f : Int → Int) (n b o s : Int) : Int → Int := up1 (up1 (up1 (up1 (up1 f (47 + 4 * n) b) (47 + 4 * n + 1) o) (47 + 4 * n + 2) s) (47 + 4 * n + 3) (f 44)) 46 (n + 1)
def shF (f : Int → Int) : Int → Int := up1 (fun k => if 47 ≤ k ∧ k < 283 then f (51 + (k - 47)) else f k) 46 59
def wrR (f : Int → Int) (b o s : Int) : Int → Int := if f 46 = 60 then wrF (shF f) 59 b o s else wrF f (f 46) b o s
theorem wrF_lo {f : Int → Int} {n b o s k : Int} (hn : 0 ≤ n) (hk : k < 46 ∨ (46 < k ∧ k < 47 + 4 * n) ∨ 47 + 4 * n + 4 ≤ k) : wrF f n b o s k = f k := by
  unfold wrF
  rw [up1_ne (by omega), up1_ne (by omega), up1_ne (by omega), up1_ne (by omega), up1_ne (by omega)]
theorem wrF_at {f : Int → Int} {n b o s w : Int} (hn : 0 ≤ n) (hw : 0 ≤ w ∧ w < 4) : wrF f n b o s (47 + 4 * n + w) = if w = 0 then b else if w = 1 then o else if w = 2 then s else f 44 := by
  unfold wrF
  rw [up1_ne (by omega)]
  have : w = 0 ∨ w = 1 ∨ w = 2 ∨ w = 3 := by omega
  rcases this with rfl | rfl | rfl | rfl
  · rw [up1_ne (by omega), up1_ne (by omega), up1_ne (by omega), show 47 + 4 * n + 0 = 47 + 4 * n by omega, up1_eq, if_pos rfl]
  · rw [up1_ne (by omega), up1_ne (by omega), up1_eq, if_neg (by omega), if_pos rfl]
  · rw [up1_ne (by omega), up1_eq, if_neg (by omega), if_neg (by omega), if_pos rfl]
  · rw [up1_eq, if_neg (by omega), if_neg (by omega), if_neg (by omega)]
theorem RW_wri {f A : Int → Int} {b o s : Int} (hB : TB A) (h9 : 0 ≤ A 9) (h : RW f A) : RW (wrR f b o s) (wriA A b o s) := by
  have lo := fun i (h1 : i < 1594) (h2 : ¬ i = 9) => wriA_lo (A := A) (b := b) (o := o) (s := s) h9 h1 h2
  have e9 : wriA A b o s 9 = A 9 + 1 := by unfold wriA; rw [up1_eq]
  have h0 := hB.1
  have hm := hB.2.2.2.2.2.1
  rw [RW_d] at h ⊢
  obtain ⟨q1, q2, q3, q4, q5, q6, q7, q8⟩ := h
  have low : ∀ k, k < 46 → wrR f b o s k = f k := by
    intro k hk
    unfold wrR
    split
    · rw [wrF_lo (by omega) (by omega)]
      unfold shF
      rw [up1_ne (by omega), if_neg (by omega)]
    · have := mn6_bd h9
      rw [wrF_lo (by omega) (by omega)]
  rw [lo 0 (by omega) (by omega), lo 2 (by omega) (by omega), lo 1 (by omega) (by omega), lo 4 (by omega) (by omega), e9]
  refine ⟨fun t t0 t1 => ?_, fun t q t0 t1 r0 r1 => ?_, fun c c0 c1 => ?_, ?_, ?_, ?_, ?_, fun i w i0 i1 w0 w1 => ?_⟩
  · rw [low _ (by omega), lo _ (by omega) (by omega)]
    exact q1 t t0 t1
  · have := hm (13 + t) (by omega) (by omega)
    rw [lo _ (by omega) (by omega)] at r1
    rw [low _ (by omega), lo _ (by omega) (by omega)]
    exact q2 t q t0 t1 r0 r1
  · rw [low _ (by omega), lo _ (by omega) (by omega)]
    exact q3 c c0 c1
  · rw [low _ (by omega)]; exact q4
  · rw [low _ (by omega)]; exact q5
  · rw [low _ (by omega)]; exact q6
  · unfold wrR
    rw [q7]
    by_cases hc : A 9 < 60
    · have e : mn6 (A 9) = A 9 := by unfold mn6; rw [if_pos hc]
      rw [e, if_neg (by omega)]
      unfold wrF
      rw [up1_eq]
      unfold mn6
      split <;> omega
    · have e : mn6 (A 9) = 60 := by unfold mn6; rw [if_neg hc]
      rw [e, if_pos rfl]
      unfold wrF
      rw [up1_eq]
      unfold mn6
      rw [if_neg (by omega)]
      omega
  · unfold wrR
    rw [q7]
    by_cases hc : A 9 < 60
    · have e : mn6 (A 9) = A 9 := by unfold mn6; rw [if_pos hc]
      have e2 : mn6 (A 9 + 1) = A 9 + 1 := by unfold mn6; split <;> omega
      rw [e2] at i1 ⊢
      rw [e, if_neg (by omega)]
      rw [e] at q8
      by_cases ei : i = A 9
      · rw [ei, wrF_at h9 ⟨w0, w1⟩, show (A 9 + 1 - (A 9 + 1) + A 9) % 512 = A 9 % 512 by congr 1; omega, wriA_at h9 ⟨w0, w1⟩, q5]
      · have a := q8 i w i0 (by omega) w0 w1
        rw [wrF_lo h9 (by omega), a, show A 9 + 1 - (A 9 + 1) + i = i by omega, show A 9 - A 9 + i = i by omega, wriA_of ⟨i0, by omega, by omega⟩ ⟨w0, w1⟩]
    · have e : mn6 (A 9) = 60 := by unfold mn6; rw [if_neg hc]
      have e2 : mn6 (A 9 + 1) = 60 := by unfold mn6; rw [if_neg (by omega)]
      rw [e2] at i1 ⊢
      rw [e, if_pos rfl]
      rw [e] at q8
      by_cases ei : i = 59
      · have e44 : shF f 44 = f 44 := by
          unfold shF
          rw [up1_ne (by omega), if_neg (by omega)]
        have wa := wrF_at (f := shF f) (n := 59) (b := b) (o := o) (s := s) (w := w) (by omega) ⟨w0, w1⟩
        rw [ei, wa, e44, show A 9 + 1 - 60 + 59 = A 9 by omega, wriA_at h9 ⟨w0, w1⟩, q5]
      · have a := q8 (i + 1) w (by omega) (by omega) w0 w1
        rw [wrF_lo (by omega) (by omega)]
        unfold shF
        rw [up1_ne (by omega), if_pos (by omega), show 51 + (47 + 4 * i + w - 47) = 47 + 4 * (i + 1) + w by omega, a, show A 9 + 1 - 60 + i = A 9 - 60 + (i + 1) by omega, wriA_of ⟨by omega, by omega, by omega⟩ ⟨w0, w1⟩]
/-- what steps tell of pushes lies in the ring -/
def WB (A : Int → Int) (c : Int) : Prop := ∀ k, 0 ≤ k → k < A 7 → 0 ≤ A (154 + 48 * k + 4) ∧ A (154 + 48 * k + 4) ≤ A 9 ∧ A 9 ≤ A (154 + 48 * k + 4) + c
theorem RS_wri {f A : Int → Int} {b o s k : Int} (h9 : 0 ≤ A 9) (hk : 0 ≤ k ∧ k < 30) (hw : 0 ≤ A (154 + 48 * k + 4) ∧ A (154 + 48 * k + 4) ≤ A 9 ∧ A 9 ≤ A (154 + 48 * k + 4) + 440) (hs : ∀ s, 0 ≤ s → s < 3 → A (154 + 48 * k + 5 + s) ≤ 10) (h : RS f A k) : RS f (wriA A b o s) k := by
  have lo := fun i (h1 : i < 1594) (h2 : ¬ i = 9) => wriA_lo (A := A) (b := b) (o := o) (s := s) h9 h1 h2
  unfold RS at h ⊢
  rw [lo (154 + 48 * k) (by omega) (by omega), lo (154 + 48 * k + 2) (by omega) (by omega), lo (154 + 48 * k + 1) (by omega) (by omega), lo (154 + 48 * k + 3) (by omega) (by omega), lo (154 + 48 * k + 4) (by omega) (by omega)]
  obtain ⟨q1, q2, q3, q4, q5, q6, q7, q8⟩ := h
  refine ⟨fun t t0 t1 => ?_, fun t q t0 t1 r0 r1 => ?_, fun c c0 c1 => ?_, q4, q5, q6, q7, fun i w i0 i1 w0 w1 => ?_⟩
  · dsimp only
    rw [lo _ (by omega) (by omega)]
    exact q1 t t0 t1
  · dsimp only at r1 ⊢
    rw [lo _ (by omega) (by omega)] at r1
    have := hs t t0 t1
    rw [lo _ (by omega) (by omega)]
    exact q2 t q t0 t1 r0 r1
  · dsimp only
    rw [lo _ (by omega) (by omega)]
    exact q3 c c0 c1
  · have a := q8 i w i0 i1 w0 w1
    have m := mn6_bd hw.1
    dsimp only at a ⊢
    rw [a, wriA_of ⟨by omega, by omega, by omega⟩ ⟨w0, w1⟩]
theorem CI.wri {T : jjT} {A X : Int → Int} {v : Int → Int → Int} {b o s : Int} (h : CI (v, T) A X) (h9 : 0 ≤ A 9) (hW : WB A 440) (hI : SI A) : CI (upA v 404 (wrR (v 404) b o s), T) (wriA A b o s) X := by
  have hB := h.tb
  have h7 := h.2.2.2.2.2.1
  exact h.rowG (RW_wri hB h9 h.r) (fun i hi i1 i2 i4 i9 => wriA_lo h9 (by omega) i9) (fun k f k0 k1 q => RS_wri h9 ⟨k0, by omega⟩ (hW k k0 k1) (hI k k0 k1) q) (fun c w c0 c1 w0 w1 => wriA_lo h9 (by omega) (by omega)) (hB.wri h9)
section XG
variable {g : jjG} {d : Nat} {T : jjT} {Q : jjQ} {A X : Int → Int} {v : Int → Int → Int}
theorem xw_writes {b o s : Int} (hT : PT T) (hV : PV v) (hn : 0 ≤ v 404 46 ∧ v 404 46 ≤ 60) (hQ : Q (.inl none) (upA v 404 (wrR (v 404) b o s), T)) : jmet g (d + 1) 0 0 MX1_writes [vR 401, vI b, vI o, vI s] (v, T) Q := by
  have k1 : ∀ u n, PV u → u 404 46 = n → (0 ≤ n ∧ n ≤ 59) → Q (.inl none) (upA u 404 (wrF (u 404) n b o s), T) → jW bX1_writes (g, d, 0, 0, Q) 1 [some (vR 401), some (vI b), some (vI o), some (vI s), none] [] (u, T) 0 0 := by
    intro u n hVu hn hn2 hq
    unfold wrF at hq
    have hV := hVu
    refine jW_step ?_
    simp (disch := (first | decide | omega)) only [bX1_writes, jxs, hps, jtsw, jlsw, List.length_cons, List.length_nil, true_and, and_true, true_implies, false_implies, implies_true, not_true_eq_false, not_false_eq_true, false_and, and_false, if_true, if_false, or_true, true_or, or_false, false_or, Classical.not_not, and_self, Int.reduceAdd, Int.reduceMul, Int.reduceSub, Int.reduceNeg, Int.reduceLT, Int.reduceLE, Int.reduceEq, Int.reduceNe, Int.reduceToNat, Nat.reduceAdd, Nat.reduceMul, Nat.reduceSub, Nat.reduceLeDiff, Nat.reduceLT, Nat.reduceEqDiff, reduceIte, Nat.zero_le, Nat.le_refl, Nat.add_zero, Nat.zero_add, xwT hT, xwV hV, hn]
    (repeat (refine And.intro (by (first | omega | assumption | trivial | (simp only [inI]; omega) | (simp only [inL]; omega) | (refine jb_01) | (exact jb_in))) ?_))
    exact hq
  unfold wrR at hQ
  refine jmet_of (ls := [some (vR 401), some (vI b), some (vI o), some (vI s), none]) sX1_writes rfl (by decide +kernel) (by decide) rfl (by simp [jent]) ?_
  refine jW_step ?_
  simp (disch := (first | decide | omega)) only [bX1_writes, jxs, hps, jtsw, jlsw, List.length_cons, List.length_nil, true_and, and_true, true_implies, false_implies, implies_true, not_true_eq_false, not_false_eq_true, false_and, and_false, if_true, if_false, or_true, true_or, or_false, false_or, Classical.not_not, and_self, Int.reduceAdd, Int.reduceMul, Int.reduceSub, Int.reduceNeg, Int.reduceLT, Int.reduceLE, Int.reduceEq, Int.reduceNe, Int.reduceToNat, Nat.reduceAdd, Nat.reduceMul, Nat.reduceSub, Nat.reduceLeDiff, Nat.reduceLT, Nat.reduceEqDiff, reduceIte, Nat.zero_le, Nat.le_refl, Nat.add_zero, Nat.zero_add, xwT hT, xwV hV, jcpy_eq]
  (repeat (refine And.intro (by (first | omega | assumption | trivial | (simp only [inI]; omega) | (simp only [inL]; omega) | (refine jb_01) | (exact jb_in))) ?_))
  refine ⟨fun h => ?_, fun h => ?_⟩
  · rw [if_neg h] at hQ
    exact k1 v _ hV rfl (by omega) hQ
  · have h60 : v 404 46 = 60 := by omega
    rw [if_pos h60] at hQ
    (repeat (refine And.intro (by (first | omega | assumption | trivial | (simp only [inI]; omega) | (simp only [inL]; omega) | (refine jb_01) | (exact jb_in))) ?_))
    rw [h60]
    have e : up1 (fun k => if 47 ≤ k ∧ k < 283 then v 404 (51 + (k - 47)) else v 404 k) 46 (60 - 1) = shF (v 404) := rfl
    rw [e]
    have u4 : (upA v 404 (shF (v 404))) 404 = shF (v 404) := upA_eq
    refine k1 (upA v 404 (shF (v 404))) 59 (by (first | assumption | (repeat (first | assumption | refine PV.A ?_ (by decide) | refine PV.F ?_ ?_ | refine twR.up ?_ (by decide) | refine PV.r ?_)))) (by rw [u4]; unfold shF; rw [up1_eq]) (by omega) ?_
    rw [u4, upA_same]
    exact hQ
end XG
