/-! ===== the reference: the next token walked ===== -/
set_option maxRecDepth 100000
theorem R2.mk {w : Int → Int → Int} {B : Int → Int} {n k nx : Nat} {st nu : Int} (hp : pl B n k = k) (ht : tkA B n k = (st, nu, nx)) (h1 : R2N w B n nx) (h8 : w 539 8 = k) (h9 : KD2 st (w 539 9)) (h10 : st = 300 → m9 (w 539 10) = nu ∧ 0 ≤ w 539 10 ∧ w 539 10 ≤ 999999) (h11 : w 539 9 = 2 → ∀ j : Nat, j < 29 → (w 539 11 = pk (WD j) ↔ st = 200 + (j : Int))) (hk : k ≤ n) : R2 w B n k := by
  unfold R2 nxT stT nuT
  rw [hp, ht]
  exact ⟨h1, h8, h9, h10, h11, hk⟩
theorem SGL_no {c : Int} (h : ¬ (c = 60 ∨ c = 62 ∨ c = 61 ∨ c = 35 ∨ c = 43 ∨ c = 45 ∨ c = 42 ∨ c = 47 ∨ c = 40 ∨ c = 41 ∨ c = 59)) : ¬ isS c := by
  intro q
  unfold isS SGL at q
  simp only [List.mem_cons, List.not_mem_nil, or_false] at q
  omega
theorem SGL_ok {c : Int} (h : c = 60 ∨ c = 62 ∨ c = 61 ∨ c = 35 ∨ c = 43 ∨ c = 45 ∨ c = 42 ∨ c = 47 ∨ c = 40 ∨ c = 41 ∨ c = 59) : isS c := by
  unfold isS SGL
  simp only [List.mem_cons, List.not_mem_nil, or_false]
  omega
theorem leF_all {B : Int → Int} {n : Nat} : ∀ (f k i : Nat), k ≤ i → i < leF B n f k → isL (B i)
  | 0, k, i, h1, h2 => by unfold leF at h2; omega
  | f + 1, k, i, h1, h2 => by
    unfold leF at h2
    by_cases c : k < n ∧ isL (B k)
    · rw [if_pos c] at h2
      by_cases e : i = k
      · subst e; exact c.2
      · exact leF_all f (k + 1) i (by omega) h2
    · rw [if_neg c] at h2
      omega
section TG
variable {g : jjG} {d : Nat} {T : jjT} {Q : jjQ} {B : Int → Int} {n : Nat}
/-- a sign -/
theorem tw_nt_8 {k : Nat} {v y : Int → Int → Int} {c z : Int} {l2 : Option jjV} (hT : PT T) (hV : PV v) (hR : R2N v B n k) (hk : k < n) (hc : c = B k) (hp : pl B n k = k) (hL : ¬ isL (B k)) (hD : ¬ isD (B k)) (hz : z = if isS c then c else 3) (y1 : RJ v y) (y7 : y 539 7 = (k : Int) + 1) (y8 : y 539 8 = k)
    (hQ : ∀ w, RJ v w → R2 w B n k → Q (.inl none) (w, T)) : jW bX2_nextToken (g, d + 4, 0, 0, Q) 8 [some (vR 539), some (vI c), l2] [vI z, vR 539] (y, T) 0 0 := by
  have h300 := hR.2.1.1
  have hVy := y1.pv hV
  have e7 : (upA y 539 (up1 (y 539) 9 z)) 539 7 = ((k + 1 : Nat) : Int) := by rw [upA_eq, up1_ne (by omega), y7]; omega
  have e8 : (upA y 539 (up1 (y 539) 9 z)) 539 8 = k := by rw [upA_eq, up1_ne (by omega), y8]
  have e9 : (upA y 539 (up1 (y 539) 9 z)) 539 9 = z := by rw [upA_eq, up1_eq]
  have r9 : RJ v (upA y 539 (up1 (y 539) 9 z)) := y1.u1 (by omega)
  have s1 : isS c → 35 ≤ c ∧ c ≤ 62 := SGL_bd
  have k11 : ¬ ((B k = 60 ∨ B k = 62) ∧ k + 1 < n ∧ B ((k + 1 : Nat)) = 61) → jW bX2_nextToken (g, d + 4, 0, 0, Q) 11 [some (vR 539), some (vI c), l2] [] (upA y 539 (up1 (y 539) 9 z), T) 0 0 := by
    intro q
    refine tw_nt_11 hT (r9.pv hV) (hQ _ r9 ?_)
    by_cases cs : isS c
    · rw [if_pos cs] at hz
      have sb := s1 cs
      refine R2.mk (st := c) (nu := 0) (nx := k + 1) hp ?_ (hR.j r9 e7 (by omega)) e8 ?_ (fun q => by omega) (fun q => by rw [e9] at q; omega) (by omega)
      · unfold tkA
        rw [hp, if_pos hk, if_neg hL, if_neg hD, if_neg q, ← hc, if_pos cs]
      · rw [e9]
        exact ⟨fun _ => by omega, fun _ => by omega, fun _ => by omega, fun _ => by omega, fun _ => by omega, fun _ => by omega, fun _ => hz⟩
    · rw [if_neg cs] at hz
      refine R2.mk (st := 302) (nu := 0) (nx := k + 1) hp ?_ (hR.j r9 e7 (by omega)) e8 ?_ (fun q => by omega) (fun q => by rw [e9] at q; omega) (by omega)
      · unfold tkA
        rw [hp, if_pos hk, if_neg hL, if_neg hD, if_neg q, ← hc, if_neg cs]
      · rw [e9]
        exact ⟨fun _ => by omega, fun _ => by omega, fun _ => by omega, fun _ => Or.inl hz, fun _ => by omega, fun _ => by omega, fun _ => by omega⟩
  have k9 : (c = 60 ∨ c = 62) → jW bX2_nextToken (g, d + 4, 0, 0, Q) 9 [some (vR 539), some (vI c), l2] [] (upA y 539 (up1 (y 539) 9 z), T) 0 0 := by
    intro q
    have hVz := r9.pv hV
    have hRz := hR.j r9 e7 (by omega)
    generalize upA y 539 (up1 (y 539) 9 z) = x at *
    refine jW_step ?_
    simp (disch := (first | decide | omega)) only [bX2_nextToken, jxs, hps, jtsw, jlsw, List.length_cons, List.length_nil, true_and, and_true, true_implies, false_implies, implies_true, not_true_eq_false, not_false_eq_true, false_and, and_false, if_true, if_false, or_true, true_or, or_false, false_or, Classical.not_not, and_self, Int.reduceAdd, Int.reduceMul, Int.reduceSub, Int.reduceNeg, Int.reduceLT, Int.reduceLE, Int.reduceEq, Int.reduceNe, Int.reduceToNat, Nat.reduceAdd, Nat.reduceMul, Nat.reduceSub, Nat.reduceLeDiff, Nat.reduceLT, Nat.reduceEqDiff, reduceIte, Nat.zero_le, Nat.le_refl, Nat.add_zero, Nat.zero_add, twT hT, twV hVz, e7]
    refine ⟨0, 0, ⟨by omega, by omega⟩, tw_byteAt (d := d + 3) hT hVz ⟨hRz, by omega⟩ ?_⟩
    simp (disch := (first | decide | omega)) only [jxs, hps, jtsw, jlsw, List.length_cons, List.length_nil, true_and, and_true, true_implies, false_implies, implies_true, not_true_eq_false, not_false_eq_true, false_and, and_false, if_true, if_false, or_true, true_or, or_false, false_or, Classical.not_not, and_self, Int.reduceAdd, Int.reduceMul, Int.reduceSub, Int.reduceNeg, Int.reduceLT, Int.reduceLE, Int.reduceEq, Int.reduceNe, Int.reduceToNat, Nat.reduceAdd, Nat.reduceMul, Nat.reduceSub, Nat.reduceLeDiff, Nat.reduceLT, Nat.reduceEqDiff, reduceIte, Nat.zero_le, Nat.le_refl, Nat.add_zero, Nat.zero_add, twT hT, twV hVz, e7]
    refine ⟨fun h => ?_, fun h => ?_⟩
    · refine k11 (fun q2 => h ?_)
      unfold bya
      rw [if_pos q2.2.1]
      exact q2.2.2
    · have hb : k + 1 < n ∧ B ((k + 1 : Nat)) = 61 := by
        unfold bya at h
        by_cases q2 : k + 1 < n
        · rw [if_pos q2] at h
          exact ⟨q2, h⟩
        · rw [if_neg q2] at h
          omega
      (repeat (refine And.intro (by (first | omega | assumption | trivial | (simp only [inI]; omega) | (simp only [inL]; omega) | (refine jb_01) | (exact jb_in))) ?_))
      have fin : ∀ z2, z2 = (if c = 60 then (4 : Int) else 5) → jW bX2_nextToken (g, d + 4, 0, 0, Q) 10 [some (vR 539), some (vI c), l2] [vI z2, vR 539] (upA x 539 (up1 (x 539) 7 (((k + 1 : Nat) : Int) + 1)), T) 0 0 := by
        intro z2 hz2
        have r10 : RJ v (upA x 539 (up1 (x 539) 7 (((k + 1 : Nat) : Int) + 1))) := r9.u1 (by omega)
        have hV2 := r10.pv hV
        have r11 : RJ v (upA x 539 (up1 (up1 (x 539) 7 (((k + 1 : Nat) : Int) + 1)) 9 z2)) := r9.u2 (by omega) (by omega)
        have hV3 := r11.pv hV
        have E7 : (upA x 539 (up1 (up1 (x 539) 7 (((k + 1 : Nat) : Int) + 1)) 9 z2)) 539 7 = ((k + 2 : Nat) : Int) := by rw [upA_eq, up1_ne (by omega), up1_eq]; omega
        have E8 : (upA x 539 (up1 (up1 (x 539) 7 (((k + 1 : Nat) : Int) + 1)) 9 z2)) 539 8 = k := by rw [upA_eq, up1_ne (by omega), up1_ne (by omega), e8]
        have E9 : (upA x 539 (up1 (up1 (x 539) 7 (((k + 1 : Nat) : Int) + 1)) 9 z2)) 539 9 = z2 := by rw [upA_eq, up1_eq]
        refine jW_step ?_
        simp (disch := (first | decide | omega)) only [bX2_nextToken, jxs, hps, jtsw, jlsw, List.length_cons, List.length_nil, true_and, and_true, true_implies, false_implies, implies_true, not_true_eq_false, not_false_eq_true, false_and, and_false, if_true, if_false, or_true, true_or, or_false, false_or, Classical.not_not, and_self, Int.reduceAdd, Int.reduceMul, Int.reduceSub, Int.reduceNeg, Int.reduceLT, Int.reduceLE, Int.reduceEq, Int.reduceNe, Int.reduceToNat, Nat.reduceAdd, Nat.reduceMul, Nat.reduceSub, Nat.reduceLeDiff, Nat.reduceLT, Nat.reduceEqDiff, reduceIte, Nat.zero_le, Nat.le_refl, Nat.add_zero, Nat.zero_add, twT hT, twV hV2]
        (repeat (refine And.intro (by (first | omega | assumption | trivial | (simp only [inI]; omega) | (simp only [inL]; omega) | (refine jb_01) | (exact jb_in))) ?_))
        refine tw_nt_11 hT hV3 (hQ _ r11 (R2.mk (st := if c = 60 then 303 else 304) (nu := 0) (nx := k + 2) hp ?_ (hR.j r11 E7 (by omega)) E8 ?_ (fun q => by split at q <;> omega) (fun q => by rw [E9, hz2] at q; split at q <;> omega) (by omega)))
        · unfold tkA
          rw [hp, if_pos hk, if_neg hL, if_neg hD, if_pos ⟨by omega, hb⟩, ← hc]
        · rw [E9, hz2]
          by_cases c6 : c = 60
          · rw [if_pos c6, if_pos c6]
            exact ⟨fun _ => by omega, fun _ => by omega, fun _ => by omega, fun _ => by omega, fun _ => rfl, fun _ => by omega, fun _ => by omega⟩
          · rw [if_neg c6, if_neg c6]
            exact ⟨fun _ => by omega, fun _ => by omega, fun _ => by omega, fun _ => by omega, fun _ => by omega, fun _ => rfl, fun _ => by omega⟩
      (repeat (refine And.intro (by (first | omega | assumption | trivial | (simp only [inI]; omega) | (simp only [inL]; omega) | (refine jb_01) | (exact jb_in))) ?_))
      refine ⟨fun h6 => ?_, fun h6 => ?_⟩
      · exact fin 5 (by rw [if_neg h6])
      · exact fin 4 (by rw [if_pos (by omega)])
  refine jW_step ?_
  simp (disch := (first | decide | omega)) only [bX2_nextToken, jxs, hps, jtsw, jlsw, List.length_cons, List.length_nil, true_and, and_true, true_implies, false_implies, implies_true, not_true_eq_false, not_false_eq_true, false_and, and_false, if_true, if_false, or_true, true_or, or_false, false_or, Classical.not_not, and_self, Int.reduceAdd, Int.reduceMul, Int.reduceSub, Int.reduceNeg, Int.reduceLT, Int.reduceLE, Int.reduceEq, Int.reduceNe, Int.reduceToNat, Nat.reduceAdd, Nat.reduceMul, Nat.reduceSub, Nat.reduceLeDiff, Nat.reduceLT, Nat.reduceEqDiff, reduceIte, Nat.zero_le, Nat.le_refl, Nat.add_zero, Nat.zero_add, twT hT, twV hVy]
  (repeat (refine And.intro (by (first | omega | assumption | trivial | (simp only [inI]; omega) | (simp only [inL]; omega) | (refine jb_01) | (exact jb_in))) ?_))
  refine ⟨fun h => ?_, fun h => ?_⟩
  · exact k9 (Or.inl h)
  · refine ⟨fun h2 => ?_, fun h2 => ?_⟩
    · exact k11 (fun q => by omega)
    · exact k9 (Or.inr (by omega))
theorem tw_nt_6 {k b : Nat} {v y : Int → Int → Int} {c z : Int} {st : List jjV} (hb : (b = 6 ∧ st = [] ∧ z = 1) ∨ (b = 7 ∧ st = [vI z])) (hT : PT T) (hV : PV v) (hR : R2N v B n k) (hk : k < n) (hc : c = B k) (hp : pl B n k = k) (hL : ¬ isL (B k)) (hD : ¬ isD (B k)) (hz : z = if isS c then 1 else 0) (y1 : RJ v y) (y7 : y 539 7 = (k : Int) + 1) (y8 : y 539 8 = k)
    (hQ : ∀ w, RJ v w → R2 w B n k → Q (.inl none) (w, T)) : jW bX2_nextToken (g, d + 4, 0, 0, Q) b [some (vR 539), some (vI c), none] st (y, T) 0 0 := by
  have k7 : ∀ z : Int, z = (if isS c then 1 else 0) → jW bX2_nextToken (g, d + 4, 0, 0, Q) 7 [some (vR 539), some (vI c), none] [vI z] (y, T) 0 0 := by
    intro z hz
    have hVy := y1.pv hV
    refine jW_step ?_
    simp (disch := (first | decide | omega)) only [bX2_nextToken, jxs, hps, jtsw, jlsw, List.length_cons, List.length_nil, true_and, and_true, true_implies, false_implies, implies_true, not_true_eq_false, not_false_eq_true, false_and, and_false, if_true, if_false, or_true, true_or, or_false, false_or, Classical.not_not, and_self, Int.reduceAdd, Int.reduceMul, Int.reduceSub, Int.reduceNeg, Int.reduceLT, Int.reduceLE, Int.reduceEq, Int.reduceNe, Int.reduceToNat, Nat.reduceAdd, Nat.reduceMul, Nat.reduceSub, Nat.reduceLeDiff, Nat.reduceLT, Nat.reduceEqDiff, reduceIte, Nat.zero_le, Nat.le_refl, Nat.add_zero, Nat.zero_add, twT hT, twV hVy]
    by_cases cs : isS c
    · rw [if_pos cs] at hz
      (first | refine ⟨fun h9 => (by exfalso; omega), fun _ => ?_⟩ | intro _)
      exact tw_nt_8 hT hV hR hk hc hp hL hD (by rw [if_pos cs]) y1 y7 y8 hQ
    · rw [if_neg cs] at hz
      (try refine ⟨fun _ => ?_, fun h9 => (by exfalso; omega)⟩)
      exact tw_nt_8 hT hV hR hk hc hp hL hD (by rw [if_neg cs]) y1 y7 y8 hQ
  rcases hb with ⟨e1, e2, e3⟩ | ⟨e1, e2⟩
  · subst e1 e2 e3
    have hVy := y1.pv hV
    refine jW_step ?_
    simp (disch := (first | decide | omega)) only [bX2_nextToken, jxs, hps, jtsw, jlsw, List.length_cons, List.length_nil, true_and, and_true, true_implies, false_implies, implies_true, not_true_eq_false, not_false_eq_true, false_and, and_false, if_true, if_false, or_true, true_or, or_false, false_or, Classical.not_not, and_self, Int.reduceAdd, Int.reduceMul, Int.reduceSub, Int.reduceNeg, Int.reduceLT, Int.reduceLE, Int.reduceEq, Int.reduceNe, Int.reduceToNat, Nat.reduceAdd, Nat.reduceMul, Nat.reduceSub, Nat.reduceLeDiff, Nat.reduceLT, Nat.reduceEqDiff, reduceIte, Nat.zero_le, Nat.le_refl, Nat.add_zero, Nat.zero_add, twT hT, twV hVy]
    exact k7 1 hz
  · subst e1 e2
    exact k7 z hz
theorem tw_nt_0 : ∀ (f k : Nat) (v : Int → Int → Int), n - k = f → PT T → PV v → R2N v B n k → (∀ w, RJ v w → R2 w B n k → Q (.inl none) (w, T)) → jW bX2_nextToken (g, d + 4, 0, 0, Q) 0 [some (vR 539), none, none] [] (v, T) 0 0
  | f, k, v, hf, hT, hV, hR, hQ => by
    have h7 := hR.1.2
    have hk := hR.2.1
    have k1 : (k < n ∧ (B k = 32 ∨ B k = 10)) → jW bX2_nextToken (g, d + 4, 0, 0, Q) 1 [some (vR 539), none, none] [] (v, T) 0 0 := by
      intro q
      obtain ⟨f', rfl⟩ : ∃ f', f = f' + 1 := ⟨f - 1, by omega⟩
      have u1 : RJ v (upA v 539 (up1 (v 539) 7 ((k : Int) + 1))) := RJ.rf.u1 (by omega)
      have e7 : (upA v 539 (up1 (v 539) 7 ((k : Int) + 1))) 539 7 = ((k + 1 : Nat) : Int) := by rw [upA_eq, up1_eq]; omega
      have hr := tw_nt_0 f' (k + 1) _ (by omega) hT (u1.pv hV) (hR.j u1 e7 (by omega)) (fun w r1 r2 => hQ w (u1.tr r1) (R2.ws q r2))
      refine jW_step ?_
      simp (disch := (first | decide | omega)) only [bX2_nextToken, jxs, hps, jtsw, jlsw, List.length_cons, List.length_nil, true_and, and_true, true_implies, false_implies, implies_true, not_true_eq_false, not_false_eq_true, false_and, and_false, if_true, if_false, or_true, true_or, or_false, false_or, Classical.not_not, and_self, Int.reduceAdd, Int.reduceMul, Int.reduceSub, Int.reduceNeg, Int.reduceLT, Int.reduceLE, Int.reduceEq, Int.reduceNe, Int.reduceToNat, Nat.reduceAdd, Nat.reduceMul, Nat.reduceSub, Nat.reduceLeDiff, Nat.reduceLT, Nat.reduceEqDiff, reduceIte, Nat.zero_le, Nat.le_refl, Nat.add_zero, Nat.zero_add, twT hT, twV hV, h7]
      (repeat (refine And.intro (by (first | omega | assumption | trivial | (simp only [inI]; omega) | (simp only [inL]; omega) | (refine jb_01) | (exact jb_in))) ?_))
      exact hr
    have eb : k < n → bya B n k = B k := fun q => by unfold bya; rw [if_pos q]
    have en : ¬ k < n → bya B n k = -1 := fun q => by unfold bya; rw [if_neg q]
    have hnn : k < n → 0 ≤ B k := fun q => (hR.2.2 k q).2.1
    refine jW_step ?_
    simp (disch := (first | decide | omega)) only [bX2_nextToken, jxs, hps, jtsw, jlsw, List.length_cons, List.length_nil, true_and, and_true, true_implies, false_implies, implies_true, not_true_eq_false, not_false_eq_true, false_and, and_false, if_true, if_false, or_true, true_or, or_false, false_or, Classical.not_not, and_self, Int.reduceAdd, Int.reduceMul, Int.reduceSub, Int.reduceNeg, Int.reduceLT, Int.reduceLE, Int.reduceEq, Int.reduceNe, Int.reduceToNat, Nat.reduceAdd, Nat.reduceMul, Nat.reduceSub, Nat.reduceLeDiff, Nat.reduceLT, Nat.reduceEqDiff, reduceIte, Nat.zero_le, Nat.le_refl, Nat.add_zero, Nat.zero_add, twT hT, twV hV, h7]
    refine ⟨0, 0, ⟨by omega, by omega⟩, tw_byteAt (d := d + 3) hT hV ⟨hR, hk.2⟩ ?_⟩
    simp (disch := (first | decide | omega)) only [jxs, hps, jtsw, jlsw, List.length_cons, List.length_nil, true_and, and_true, true_implies, false_implies, implies_true, not_true_eq_false, not_false_eq_true, false_and, and_false, if_true, if_false, or_true, true_or, or_false, false_or, Classical.not_not, and_self, Int.reduceAdd, Int.reduceMul, Int.reduceSub, Int.reduceNeg, Int.reduceLT, Int.reduceLE, Int.reduceEq, Int.reduceNe, Int.reduceToNat, Nat.reduceAdd, Nat.reduceMul, Nat.reduceSub, Nat.reduceLeDiff, Nat.reduceLT, Nat.reduceEqDiff, reduceIte, Nat.zero_le, Nat.le_refl, Nat.add_zero, Nat.zero_add, twT hT, twV hV, h7]
    refine ⟨fun h => ?_, fun h => ?_⟩
    · refine k1 ?_
      by_cases q : k < n
      · rw [eb q] at h; exact ⟨q, Or.inl h⟩
      · rw [en q] at h; omega
    · refine ⟨0, 0, ⟨by omega, by omega⟩, tw_byteAt (d := d + 3) hT hV ⟨hR, hk.2⟩ ?_⟩
      simp (disch := (first | decide | omega)) only [jxs, hps, jtsw, jlsw, List.length_cons, List.length_nil, true_and, and_true, true_implies, false_implies, implies_true, not_true_eq_false, not_false_eq_true, false_and, and_false, if_true, if_false, or_true, true_or, or_false, false_or, Classical.not_not, and_self, Int.reduceAdd, Int.reduceMul, Int.reduceSub, Int.reduceNeg, Int.reduceLT, Int.reduceLE, Int.reduceEq, Int.reduceNe, Int.reduceToNat, Nat.reduceAdd, Nat.reduceMul, Nat.reduceSub, Nat.reduceLeDiff, Nat.reduceLT, Nat.reduceEqDiff, reduceIte, Nat.zero_le, Nat.le_refl, Nat.add_zero, Nat.zero_add, twT hT, twV hV, h7]
      refine ⟨fun h2 => ?_, fun h2 => ?_⟩
      · have hp : pl B n k = k := pl_at (fun q => by have := eb q.1; omega)
        have y1 : RJ v (upA v 539 (up1 (v 539) 8 (k : Int))) := RJ.rf.u1 (by omega)
        have y7 : (upA v 539 (up1 (v 539) 8 (k : Int))) 539 7 = (k : Int) := by rw [upA_eq, up1_ne (by omega)]; exact h7
        have y8 : (upA v 539 (up1 (v 539) 8 (k : Int))) 539 8 = (k : Int) := by rw [upA_eq, up1_eq]
        (repeat (refine And.intro (by (first | omega | assumption | trivial | (simp only [inI]; omega) | (simp only [inL]; omega) | (refine jb_01) | (exact jb_in))) ?_))
        generalize upA v 539 (up1 (v 539) 8 (k : Int)) = y at *
        have hVy := y1.pv hV
        have hRy := hR.j y1 y7 hk.2
        refine ⟨0, 0, ⟨by omega, by omega⟩, tw_byteAt (d := d + 3) hT hVy ⟨hRy, hk.2⟩ ?_⟩
        simp (disch := (first | decide | omega)) only [jxs, hps, jtsw, jlsw, List.length_cons, List.length_nil, true_and, and_true, true_implies, false_implies, implies_true, not_true_eq_false, not_false_eq_true, false_and, and_false, if_true, if_false, or_true, true_or, or_false, false_or, Classical.not_not, and_self, Int.reduceAdd, Int.reduceMul, Int.reduceSub, Int.reduceNeg, Int.reduceLT, Int.reduceLE, Int.reduceEq, Int.reduceNe, Int.reduceToNat, Nat.reduceAdd, Nat.reduceMul, Nat.reduceSub, Nat.reduceLeDiff, Nat.reduceLT, Nat.reduceEqDiff, reduceIte, Nat.zero_le, Nat.le_refl, Nat.add_zero, Nat.zero_add, twT hT, twV hVy, y7]
        have h300 := hk.1
        by_cases hkn : k < n
        · have ebk := eb hkn
          have hbb := hR.2.2 k hkn
          rw [ebk]
          (try refine ⟨fun _ => ?_, fun h9 => (by exfalso; omega)⟩)
          refine ⟨0, 0, ⟨by omega, by omega⟩, tw_isDigit (d := d + 2) hT hVy trivial ?_⟩
          simp (disch := (first | decide | omega)) only [jxs, hps, jtsw, jlsw, List.length_cons, List.length_nil, true_and, and_true, true_implies, false_implies, implies_true, not_true_eq_false, not_false_eq_true, false_and, and_false, if_true, if_false, or_true, true_or, or_false, false_or, Classical.not_not, and_self, Int.reduceAdd, Int.reduceMul, Int.reduceSub, Int.reduceNeg, Int.reduceLT, Int.reduceLE, Int.reduceEq, Int.reduceNe, Int.reduceToNat, Nat.reduceAdd, Nat.reduceMul, Nat.reduceSub, Nat.reduceLeDiff, Nat.reduceLT, Nat.reduceEqDiff, reduceIte, Nat.zero_le, Nat.le_refl, Nat.add_zero, Nat.zero_add, twT hT, twV hVy, y7]
          refine ⟨fun hD => ?_, fun hD => ?_⟩
          · refine ⟨0, 0, ⟨by omega, by omega⟩, tw_isLetter (d := d + 2) hT hVy trivial ?_⟩
            simp (disch := (first | decide | omega)) only [jxs, hps, jtsw, jlsw, List.length_cons, List.length_nil, true_and, and_true, true_implies, false_implies, implies_true, not_true_eq_false, not_false_eq_true, false_and, and_false, if_true, if_false, or_true, true_or, or_false, false_or, Classical.not_not, and_self, Int.reduceAdd, Int.reduceMul, Int.reduceSub, Int.reduceNeg, Int.reduceLT, Int.reduceLE, Int.reduceEq, Int.reduceNe, Int.reduceToNat, Nat.reduceAdd, Nat.reduceMul, Nat.reduceSub, Nat.reduceLeDiff, Nat.reduceLT, Nat.reduceEqDiff, reduceIte, Nat.zero_le, Nat.le_refl, Nat.add_zero, Nat.zero_add, twT hT, twV hVy, y7]
            refine ⟨fun hL => ?_, fun hL => ?_⟩
            · have hL' : ¬ isL (B k) := hL
              have k6 : (B k = 60 ∨ B k = 62 ∨ B k = 61 ∨ B k = 35 ∨ B k = 43 ∨ B k = 45 ∨ B k = 42 ∨ B k = 47 ∨ B k = 40 ∨ B k = 41 ∨ B k = 59) → jW bX2_nextToken (g, d + 4, 0, 0, Q) 6 [some (vR 539), some (vI (B k)), none] [] (upA y 539 (up1 (y 539) 7 ((k : Int) + 1)), T) 0 0 := fun q =>
                tw_nt_6 (z := 1) (Or.inl ⟨rfl, rfl, rfl⟩) hT hV hR hkn rfl hp hL' hD (by rw [if_pos (SGL_ok q)]) (y1.u1 (by omega)) (by rw [upA_eq, up1_eq]) (by rw [upA_eq, up1_ne (by omega)]; exact y8) hQ
              (repeat (refine And.intro (by (first | omega | assumption | trivial | (simp only [inI]; omega) | (simp only [inL]; omega) | (refine jb_01) | (exact jb_in))) ?_))
              refine ⟨fun q => k6 (by omega), fun n60 => ?_⟩
              refine ⟨fun q => k6 (by omega), fun n62 => ?_⟩
              refine ⟨fun q => k6 (by omega), fun n61 => ?_⟩
              refine ⟨fun q => k6 (by omega), fun n35 => ?_⟩
              refine ⟨fun q => k6 (by omega), fun n43 => ?_⟩
              refine ⟨fun q => k6 (by omega), fun n45 => ?_⟩
              refine ⟨fun q => k6 (by omega), fun n42 => ?_⟩
              refine ⟨fun q => k6 (by omega), fun n47 => ?_⟩
              refine ⟨fun q => k6 (by omega), fun n40 => ?_⟩
              refine ⟨fun q => k6 (by omega), fun n41 => ?_⟩
              refine ⟨fun n59 => ?_, fun q => k6 (by omega)⟩
              exact tw_nt_6 (z := 0) (Or.inr ⟨rfl, rfl⟩) hT hV hR hkn rfl hp hL' hD (by rw [if_neg (SGL_no (by omega))]) (y1.u1 (by omega)) (by rw [upA_eq, up1_eq]) (by rw [upA_eq, up1_ne (by omega)]; exact y8) hQ
            · have hL' : isL (B k) := hL
              have lb := leF_bd (B := B) (n := n) (n - k) k
              have r4 : RJ v (upA y 539 (up1 (up1 (y 539) 9 2) 11 0)) := y1.u2 (by omega) (by omega)
              have E7 : (upA y 539 (up1 (up1 (y 539) 9 2) 11 0)) 539 7 = (k : Int) := by rw [upA_eq, up1_ne (by omega), up1_ne (by omega)]; exact y7
              have E8 : (upA y 539 (up1 (up1 (y 539) 9 2) 11 0)) 539 8 = (k : Int) := by rw [upA_eq, up1_ne (by omega), up1_ne (by omega)]; exact y8
              have E9 : (upA y 539 (up1 (up1 (y 539) 9 2) 11 0)) 539 9 = 2 := by rw [upA_eq, up1_ne (by omega), up1_eq]
              have E11 : (upA y 539 (up1 (up1 (y 539) 9 2) 11 0)) 539 11 = 0 := by rw [upA_eq, up1_eq]
              (repeat (refine And.intro (by (first | omega | assumption | trivial | (simp only [inI]; omega) | (simp only [inL]; omega) | (refine jb_01) | (exact jb_in))) ?_))
              refine tw_nt_4 (p := k) (n - k) k _ rfl hT (r4.pv hV) (hR.j r4 E7 hk.2) E8 (Nat.le_refl _) (fun i i0 i1 => by omega) (fun _ => by rw [E11]; unfold bl; rw [Nat.sub_self]; rfl) ?_
              intro u u1 u2 u3 u4 u5 u6
              refine hQ u (r4.tr u1) (R2.mk (st := wdF B k (leF B n (n - k) k) 29) (nu := 0) (nx := leF B n (n - k) k) hp ?_ (hR.j (r4.tr u1) u2 (lb.2 hk.2)) (u5.trans E8) ?_ (fun q => ?_) (fun _ j hj => ?_) hk.2)
              · unfold tkA
                rw [hp, if_pos hkn, if_pos hL']
              · have w := wdF_bd (B := B) (p := k) (e := leF B n (n - k) k) 29
                rw [u6, E9]
                exact ⟨fun _ => by omega, fun _ => by omega, fun _ => rfl, fun _ => Or.inr rfl, fun _ => by omega, fun _ => by omega, fun _ => by omega⟩
              · have w := wdF_bd (B := B) (p := k) (e := leF B n (n - k) k) 29
                omega
              · refine wd_word lb.1 hj (fun i i0 i1 => ?_) u3 u4
                have := leF_all _ _ i i0 i1
                unfold isL at this
                omega
          · have hD' : isD (B k) := hD
            have hLn : ¬ isL (B k) := fun q => by unfold isL at q; unfold isD at hD'; omega
            have r4 : RJ v (upA y 539 (up1 (up1 (y 539) 9 1) 10 0)) := y1.u2 (by omega) (by omega)
            have E7 : (upA y 539 (up1 (up1 (y 539) 9 1) 10 0)) 539 7 = (k : Int) := by rw [upA_eq, up1_ne (by omega), up1_ne (by omega)]; exact y7
            have E8 : (upA y 539 (up1 (up1 (y 539) 9 1) 10 0)) 539 8 = (k : Int) := by rw [upA_eq, up1_ne (by omega), up1_ne (by omega)]; exact y8
            have E9 : (upA y 539 (up1 (up1 (y 539) 9 1) 10 0)) 539 9 = 1 := by rw [upA_eq, up1_ne (by omega), up1_eq]
            have E10 : (upA y 539 (up1 (up1 (y 539) 9 1) 10 0)) 539 10 = 0 := by rw [upA_eq, up1_eq]
            have db := diF_bd (B := B) (n := n) (n - k) k 0 (by omega)
            (repeat (refine And.intro (by (first | omega | assumption | trivial | (simp only [inI]; omega) | (simp only [inL]; omega) | (refine jb_01) | (exact jb_in))) ?_))
            refine tw_nt_2 (n - k) k 0 _ rfl hT (r4.pv hV) (hR.j r4 E7 hk.2) ⟨by rw [E10]; rfl, by omega, by omega⟩ ?_
            intro u u1 u2 u3 u4 u5 u6
            refine hQ u (r4.tr u1) (R2.mk (st := 300) (nu := (diF B n (n - k) k 0).2) (nx := (diF B n (n - k) k 0).1) hp ?_ (hR.j (r4.tr u1) u2 (db.1.2 hk.2)) (u5.trans E8) ?_ (fun _ => ⟨u3, u4⟩) (fun q => by rw [u6, E9] at q; omega) hk.2)
            · unfold tkA
              rw [hp, if_pos hkn, if_neg hLn, if_pos hD']
            · rw [u6, E9]
              exact ⟨fun _ => by omega, fun _ => rfl, fun _ => by omega, fun _ => by omega, fun _ => by omega, fun _ => by omega, fun _ => by omega⟩
        · rw [en hkn]
          (first | refine ⟨fun h9 => (by exfalso; omega), fun _ => ?_⟩ | intro _)
          have r4 : RJ v (upA y 539 (up1 (y 539) 9 0)) := y1.u1 (by omega)
          (repeat (refine And.intro (by (first | omega | assumption | trivial | (simp only [inI]; omega) | (simp only [inL]; omega) | (refine jb_01) | (exact jb_in))) ?_))
          refine tw_nt_11 hT (r4.pv hV) (hQ _ r4 (R2.mk (st := 301) (nu := 0) (nx := k) hp ?_ (hR.j r4 (by rw [upA_eq, up1_ne (by omega)]; exact y7) hk.2) (by rw [upA_eq, up1_ne (by omega)]; exact y8) ?_ (fun q => by omega) (fun q => by rw [upA_eq, up1_eq] at q; omega) hk.2))
          · unfold tkA
            rw [hp, if_neg hkn]
          · rw [upA_eq, up1_eq]
            exact ⟨fun _ => rfl, fun _ => by omega, fun _ => by omega, fun _ => by omega, fun _ => by omega, fun _ => by omega, fun _ => by omega⟩
      · refine k1 ?_
        by_cases q : k < n
        · rw [eb q] at h2; exact ⟨q, Or.inr (by omega)⟩
        · rw [en q] at h2; omega
end TG
