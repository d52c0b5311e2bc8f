/-! ===== the reference: the next token ===== -/
set_option maxRecDepth 100000
/-- only the token's fields differ -/
def RJ (v w : Int → Int → Int) : Prop := (∀ a, a ≠ 539 → w a = v a) ∧ ∀ j, (j < 7 ∨ 11 < j) → w 539 j = v 539 j
theorem RJ.rf {v : Int → Int → Int} : RJ v v := ⟨fun _ _ => rfl, fun _ _ => rfl⟩
theorem RJ.tr {u v w : Int → Int → Int} (h : RJ u v) (h2 : RJ v w) : RJ u w := ⟨fun a ha => (h2.1 a ha).trans (h.1 a ha), fun j hj => (h2.2 j hj).trans (h.2 j hj)⟩
theorem RJ.up {v w : Int → Int → Int} {f : Int → Int} (h : RJ v w) (hf : ∀ j, (j < 7 ∨ 11 < j) → f j = w 539 j) : RJ v (upA w 539 f) := ⟨fun a ha => (upA_ne ha).trans (h.1 a ha), fun j hj => by rw [upA_eq, hf j hj, h.2 j hj]⟩
theorem RJ.u1 {v w : Int → Int → Int} {k z : Int} (h : RJ v w) (hk : 7 ≤ k ∧ k ≤ 11) : RJ v (upA w 539 (up1 (w 539) k z)) := h.up (fun j hj => up1_ne (by omega))
theorem RJ.u2 {v w : Int → Int → Int} {k z k2 z2 : Int} (h : RJ v w) (hk : 7 ≤ k ∧ k ≤ 11) (hk2 : 7 ≤ k2 ∧ k2 ≤ 11) : RJ v (upA w 539 (up1 (up1 (w 539) k z) k2 z2)) := h.up (fun j hj => (up1_ne (by omega)).trans (up1_ne (by omega)))
theorem pvJ : ∀ q ∈ pvL, ¬ (q.1 = 539 ∧ 7 ≤ q.2.1 ∧ q.2.1 ≤ 11) := by decide +kernel
theorem RJ.pv {v w : Int → Int → Int} (h : RJ v w) (hV : PV v) : PV w := hV.fr2 (fun q hq => by
  by_cases e : q.1 = 539
  · have := pvJ q hq
    rw [e]
    exact h.2 _ (by omega)
  · rw [h.1 _ e])
theorem R2N.j {v w : Int → Int → Int} {B : Int → Int} {n k k' : Nat} (h : R2N v B n k) (q : RJ v w) (e : w 539 7 = k') (hk : k' ≤ n) : R2N w B n k' := by
  obtain ⟨⟨h1, h2⟩, ⟨h3, h4⟩, h5⟩ := h
  exact ⟨⟨by rw [q.2 4 (by omega)]; exact h1, e⟩, ⟨h3, hk⟩, fun i hi => by rw [q.1 543 (by decide)]; exact h5 i hi⟩
theorem bya_D {B : Int → Int} {n k : Nat} : isD (bya B n k) ↔ (k < n ∧ isD (B k)) := by
  unfold bya isD
  split <;> omega
theorem bya_L {B : Int → Int} {n k : Nat} : isL (bya B n k) ↔ (k < n ∧ isL (B k)) := by
  unfold bya isL
  split <;> omega
/-- letters in a row -/
def bl (B : Int → Int) (p e : Nat) : List Int := (List.range (e - p)).map (fun i => B ((p + i : Nat)))
theorem bl_s {B : Int → Int} {p k : Nat} (h : p ≤ k) : bl B p (k + 1) = bl B p k ++ [B k] := by
  unfold bl
  rw [show k + 1 - p = (k - p) + 1 by omega, List.range_succ, List.map_append]
  simp only [List.map_cons, List.map_nil]
  rw [show p + (k - p) = k by omega]
theorem bl_len {B : Int → Int} {p e : Nat} : (bl B p e).length = e - p := by unfold bl; rw [List.length_map, List.length_range]
theorem pkF_lt : ∀ (l : List Int) (a : Int), (∀ c ∈ l, 0 ≤ c ∧ c < 256) → 0 ≤ a → 0 ≤ pkF a l ∧ pkF a l < (a + 1) * 256 ^ l.length
  | [], a, _, h => by
    unfold pkF
    simp only [List.length_nil, Int.pow_zero]
    omega
  | c :: l, a, hl, h => by
    have hc := hl c (List.mem_cons_self)
    have := pkF_lt l (256 * a + c) (fun d hd => hl d (List.mem_cons_of_mem _ hd)) (by omega)
    unfold pkF
    refine ⟨this.1, Int.lt_of_lt_of_le this.2 ?_⟩
    rw [List.length_cons, Int.pow_succ]
    have e : (a + 1) * (256 ^ l.length * 256) = (a + 1) * 256 * 256 ^ l.length := by rw [Int.mul_comm (256 ^ l.length) 256, Int.mul_assoc]
    rw [e]
    exact Int.mul_le_mul_of_nonneg_right (by omega) (Int.pow_nonneg (by omega))
section TG
variable {g : jjG} {d : Nat} {T : jjT} {Q : jjQ} {B : Int → Int} {n : Nat} {l1 l2 : Option jjV}
theorem tw_nt_11 {w : Int → Int → Int} (hT : PT T) (hV : PV w) (hQ : Q (.inl none) (w, T)) : jW bX2_nextToken (g, d + 4, 0, 0, Q) 11 [some (vR 539), l1, l2] [] (w, T) 0 0 := by
  refine jW_step ?_
  simp (disch := (first | decide | omega)) only [bX2_nextToken, jxs, hps, jtsw, jlsw, List.length_cons, List.length_nil, true_and, and_true, true_implies, false_implies, implies_true, not_true_eq_false, not_false_eq_true, false_and, and_false, if_true, if_false, or_true, true_or, or_false, false_or, Classical.not_not, and_self, Int.reduceAdd, Int.reduceMul, Int.reduceSub, Int.reduceNeg, Int.reduceLT, Int.reduceLE, Int.reduceEq, Int.reduceNe, Int.reduceToNat, Nat.reduceAdd, Nat.reduceMul, Nat.reduceSub, Nat.reduceLeDiff, Nat.reduceLT, Nat.reduceEqDiff, reduceIte, Nat.zero_le, Nat.le_refl, Nat.add_zero, Nat.zero_add, twT hT, twV hV]
  (repeat (refine And.intro (by (first | omega | assumption | trivial | (simp only [inI]; omega) | (simp only [inL]; omega) | (refine jb_01) | (exact jb_in))) ?_))
  exact hQ
/-- digits -/
theorem tw_nt_2 : ∀ (f k : Nat) (x : Int) (v : Int → Int → Int), n - k = f → PT T → PV v → R2N v B n k → (m9 (v 539 10) = x ∧ 0 ≤ v 539 10 ∧ v 539 10 ≤ 999999) → (∀ u, RJ v u → u 539 7 = (diF B n f k x).1 → m9 (u 539 10) = (diF B n f k x).2 → (0 ≤ u 539 10 ∧ u 539 10 ≤ 999999) → u 539 8 = v 539 8 → u 539 9 = v 539 9 → Q (.inl none) (u, T)) → jW bX2_nextToken (g, d + 4, 0, 0, Q) 2 [some (vR 539), l1, l2] [] (v, T) 0 0
  | f, k, x, v, hf, hT, hV, hR, hx, hQ => by
    have h7 := hR.1.2
    have hk := hR.2.1
    have k11 : ¬ (k < n ∧ isD (B k)) → jW bX2_nextToken (g, d + 4, 0, 0, Q) 11 [some (vR 539), l1, l2] [] (v, T) 0 0 := by
      intro q
      refine tw_nt_11 hT hV (hQ v RJ.rf ?_ ?_ hx.2 rfl rfl)
      · cases f with
        | zero => exact h7
        | succ f => unfold diF; rw [if_neg q]; exact h7
      · cases f with
        | zero => exact hx.1
        | succ f => unfold diF; rw [if_neg q]; exact hx.1
    refine jW_step ?_
    simp (disch := (first | decide | omega)) only [bX2_nextToken, jxs, hps, jtsw, jlsw, List.length_cons, List.length_nil, true_and, and_true, true_implies, false_implies, implies_true, not_true_eq_false, not_false_eq_true, false_and, and_false, if_true, if_false, or_true, true_or, or_false, false_or, Classical.not_not, and_self, Int.reduceAdd, Int.reduceMul, Int.reduceSub, Int.reduceNeg, Int.reduceLT, Int.reduceLE, Int.reduceEq, Int.reduceNe, Int.reduceToNat, Nat.reduceAdd, Nat.reduceMul, Nat.reduceSub, Nat.reduceLeDiff, Nat.reduceLT, Nat.reduceEqDiff, reduceIte, Nat.zero_le, Nat.le_refl, Nat.add_zero, Nat.zero_add, twT hT, twV hV, h7]
    refine ⟨0, 0, ⟨by omega, by omega⟩, tw_byteAt (d := d + 3) hT hV ⟨hR, hk.2⟩ ?_⟩
    simp (disch := (first | decide | omega)) only [jxs, hps, jtsw, jlsw, List.length_cons, List.length_nil, true_and, and_true, true_implies, false_implies, implies_true, not_true_eq_false, not_false_eq_true, false_and, and_false, if_true, if_false, or_true, true_or, or_false, false_or, Classical.not_not, and_self, Int.reduceAdd, Int.reduceMul, Int.reduceSub, Int.reduceNeg, Int.reduceLT, Int.reduceLE, Int.reduceEq, Int.reduceNe, Int.reduceToNat, Nat.reduceAdd, Nat.reduceMul, Nat.reduceSub, Nat.reduceLeDiff, Nat.reduceLT, Nat.reduceEqDiff, reduceIte, Nat.zero_le, Nat.le_refl, Nat.add_zero, Nat.zero_add, twT hT, twV hV]
    refine ⟨0, 0, ⟨by omega, by omega⟩, tw_isDigit (d := d + 2) hT hV trivial ?_⟩
    simp (disch := (first | decide | omega)) only [jxs, hps, jtsw, jlsw, List.length_cons, List.length_nil, true_and, and_true, true_implies, false_implies, implies_true, not_true_eq_false, not_false_eq_true, false_and, and_false, if_true, if_false, or_true, true_or, or_false, false_or, Classical.not_not, and_self, Int.reduceAdd, Int.reduceMul, Int.reduceSub, Int.reduceNeg, Int.reduceLT, Int.reduceLE, Int.reduceEq, Int.reduceNe, Int.reduceToNat, Nat.reduceAdd, Nat.reduceMul, Nat.reduceSub, Nat.reduceLeDiff, Nat.reduceLT, Nat.reduceEqDiff, reduceIte, Nat.zero_le, Nat.le_refl, Nat.add_zero, Nat.zero_add, twT hT, twV hV, h7]
    refine ⟨fun h => ?_, fun h => ?_⟩
    · exact k11 (fun q => h (bya_D.2 q))
    · have hd : k < n ∧ isD (B k) := bya_D.1 h
      obtain ⟨f', rfl⟩ : ∃ f', f = f' + 1 := ⟨f - 1, by omega⟩
      have hb := hR.2.2 k hd.1
      have eb : bya B n k = B k := by unfold bya; rw [if_pos hd.1]
      have hd2 : 48 ≤ B k ∧ B k ≤ 57 := hd.2
      unfold diF at hQ
      rw [if_pos hd] at hQ
      have k3 : ∀ y : Int → Int → Int, RJ v y → y 539 7 = k → (m9 (y 539 10) = m9 (10 * x + B k - 48) ∧ 0 ≤ y 539 10 ∧ y 539 10 ≤ 999999) → y 539 8 = v 539 8 → y 539 9 = v 539 9 → jW bX2_nextToken (g, d + 4, 0, 0, Q) 3 [some (vR 539), l1, l2] [] (y, T) 0 0 := by
        intro y y1 y2 y3 y4 y5
        have hVy := y1.pv hV
        have u1 : RJ v (upA y 539 (up1 (y 539) 7 ((k : Int) + 1))) := y1.u1 (by omega)
        have e7 : (upA y 539 (up1 (y 539) 7 ((k : Int) + 1))) 539 7 = ((k + 1 : Nat) : Int) := by rw [upA_eq, up1_eq]; omega
        have e10 : (upA y 539 (up1 (y 539) 7 ((k : Int) + 1))) 539 10 = y 539 10 := by rw [upA_eq, up1_ne (by omega)]
        have e8 : (upA y 539 (up1 (y 539) 7 ((k : Int) + 1))) 539 8 = y 539 8 := by rw [upA_eq, up1_ne (by omega)]
        have e9 : (upA y 539 (up1 (y 539) 7 ((k : Int) + 1))) 539 9 = y 539 9 := by rw [upA_eq, up1_ne (by omega)]
        have hr := tw_nt_2 f' (k + 1) (m9 (10 * x + B k - 48)) (upA y 539 (up1 (y 539) 7 ((k : Int) + 1))) (by omega) hT (u1.pv hV) (hR.j u1 e7 (by omega)) (by rw [e10]; exact y3) (fun u r1 r2 r3 r4 r5 r6 => hQ u (u1.tr r1) r2 r3 r4 (r5.trans (e8.trans y4)) (r6.trans (e9.trans y5)))
        refine jW_step ?_
        simp (disch := (first | decide | omega)) only [bX2_nextToken, jxs, hps, jtsw, jlsw, List.length_cons, List.length_nil, true_and, and_true, true_implies, false_implies, implies_true, not_true_eq_false, not_false_eq_true, false_and, and_false, if_true, if_false, or_true, true_or, or_false, false_or, Classical.not_not, and_self, Int.reduceAdd, Int.reduceMul, Int.reduceSub, Int.reduceNeg, Int.reduceLT, Int.reduceLE, Int.reduceEq, Int.reduceNe, Int.reduceToNat, Nat.reduceAdd, Nat.reduceMul, Nat.reduceSub, Nat.reduceLeDiff, Nat.reduceLT, Nat.reduceEqDiff, reduceIte, Nat.zero_le, Nat.le_refl, Nat.add_zero, Nat.zero_add, twT hT, twV hVy, y2]
        (repeat (refine And.intro (by (first | omega | assumption | trivial | (simp only [inI]; omega) | (simp only [inL]; omega) | (refine jb_01) | (exact jb_in))) ?_))
        exact hr
      refine ⟨fun c => ?_, fun c => ?_⟩
      · refine k3 v RJ.rf h7 ⟨?_, hx.2⟩ rfl rfl
        rw [← hx.1]
        unfold m9
        rw [if_neg (by omega), if_neg (by omega)]
      · (repeat (refine And.intro (by (first | omega | assumption | trivial | (simp only [inI]; omega) | (simp only [inL]; omega) | (refine jb_01) | (exact jb_in))) ?_))
        refine ⟨0, 0, ⟨by omega, by omega⟩, tw_byteAt (d := d + 3) hT hV ⟨hR, hk.2⟩ ?_⟩
        simp (disch := (first | decide | omega)) only [jxs, hps, jtsw, jlsw, List.length_cons, List.length_nil, true_and, and_true, true_implies, false_implies, implies_true, not_true_eq_false, not_false_eq_true, false_and, and_false, if_true, if_false, or_true, true_or, or_false, false_or, Classical.not_not, and_self, Int.reduceAdd, Int.reduceMul, Int.reduceSub, Int.reduceNeg, Int.reduceLT, Int.reduceLE, Int.reduceEq, Int.reduceNe, Int.reduceToNat, Nat.reduceAdd, Nat.reduceMul, Nat.reduceSub, Nat.reduceLeDiff, Nat.reduceLT, Nat.reduceEqDiff, reduceIte, Nat.zero_le, Nat.le_refl, Nat.add_zero, Nat.zero_add, twT hT, twV hV]
        rw [eb]
        (repeat (refine And.intro (by (first | omega | assumption | trivial | (simp only [inI]; omega) | (simp only [inL]; omega) | (refine jb_01) | (exact jb_in))) ?_))
        refine k3 _ (RJ.rf.u1 (by omega)) ?_ ⟨?_, ?_⟩ ?_ ?_
        · rw [upA_eq, up1_ne (by omega)]; exact h7
        · rw [upA_eq, up1_eq, ← hx.1]
          unfold m9
          by_cases c2 : v 539 10 < 99999
          · rw [if_pos c2]
          · rw [if_neg c2, if_neg (by omega), if_neg (by omega)]
        · rw [upA_eq, up1_eq]; omega
        · rw [upA_eq, up1_ne (by omega)]
        · rw [upA_eq, up1_ne (by omega)]
/-- letters -/
theorem tw_nt_4 {p : Nat} : ∀ (f k : Nat) (v : Int → Int → Int), n - k = f → PT T → PV v → R2N v B n k → v 539 8 = p → p ≤ k → (∀ i : Nat, p ≤ i → i < k → byc (B i)) → (k ≤ p + 7 → v 539 11 = pk (bl B p k)) → (∀ u, RJ v u → u 539 7 = leF B n f k → (leF B n f k ≤ p + 7 → u 539 11 = pk (bl B p (leF B n f k))) → (p + 7 < leF B n f k → u 539 11 = 0) → u 539 8 = v 539 8 → u 539 9 = v 539 9 → Q (.inl none) (u, T)) → jW bX2_nextToken (g, d + 4, 0, 0, Q) 4 [some (vR 539), l1, l2] [] (v, T) 0 0
  | f, k, v, hf, hT, hV, hR, hp, hpk, hby, hw, hQ => by
    have h7 := hR.1.2
    have hk := hR.2.1
    refine jW_step ?_
    simp (disch := (first | decide | omega)) only [bX2_nextToken, jxs, hps, jtsw, jlsw, List.length_cons, List.length_nil, true_and, and_true, true_implies, false_implies, implies_true, not_true_eq_false, not_false_eq_true, false_and, and_false, if_true, if_false, or_true, true_or, or_false, false_or, Classical.not_not, and_self, Int.reduceAdd, Int.reduceMul, Int.reduceSub, Int.reduceNeg, Int.reduceLT, Int.reduceLE, Int.reduceEq, Int.reduceNe, Int.reduceToNat, Nat.reduceAdd, Nat.reduceMul, Nat.reduceSub, Nat.reduceLeDiff, Nat.reduceLT, Nat.reduceEqDiff, reduceIte, Nat.zero_le, Nat.le_refl, Nat.add_zero, Nat.zero_add, twT hT, twV hV, h7]
    refine ⟨0, 0, ⟨by omega, by omega⟩, tw_byteAt (d := d + 3) hT hV ⟨hR, hk.2⟩ ?_⟩
    simp (disch := (first | decide | omega)) only [jxs, hps, jtsw, jlsw, List.length_cons, List.length_nil, true_and, and_true, true_implies, false_implies, implies_true, not_true_eq_false, not_false_eq_true, false_and, and_false, if_true, if_false, or_true, true_or, or_false, false_or, Classical.not_not, and_self, Int.reduceAdd, Int.reduceMul, Int.reduceSub, Int.reduceNeg, Int.reduceLT, Int.reduceLE, Int.reduceEq, Int.reduceNe, Int.reduceToNat, Nat.reduceAdd, Nat.reduceMul, Nat.reduceSub, Nat.reduceLeDiff, Nat.reduceLT, Nat.reduceEqDiff, reduceIte, Nat.zero_le, Nat.le_refl, Nat.add_zero, Nat.zero_add, twT hT, twV hV]
    refine ⟨0, 0, ⟨by omega, by omega⟩, tw_isLetter (d := d + 2) hT hV trivial ?_⟩
    simp (disch := (first | decide | omega)) only [jxs, hps, jtsw, jlsw, List.length_cons, List.length_nil, true_and, and_true, true_implies, false_implies, implies_true, not_true_eq_false, not_false_eq_true, false_and, and_false, if_true, if_false, or_true, true_or, or_false, false_or, Classical.not_not, and_self, Int.reduceAdd, Int.reduceMul, Int.reduceSub, Int.reduceNeg, Int.reduceLT, Int.reduceLE, Int.reduceEq, Int.reduceNe, Int.reduceToNat, Nat.reduceAdd, Nat.reduceMul, Nat.reduceSub, Nat.reduceLeDiff, Nat.reduceLT, Nat.reduceEqDiff, reduceIte, Nat.zero_le, Nat.le_refl, Nat.add_zero, Nat.zero_add, twT hT, twV hV, h7, hp]
    refine ⟨fun h => ?_, fun h => ?_⟩
    · have e0 : leF B n f k = k := by
        cases f with
        | zero => rfl
        | succ f => unfold leF; rw [if_neg (fun q => h (bya_L.2 q))]
      rw [e0] at hQ
      (repeat (refine And.intro (by (first | omega | assumption | trivial | (simp only [inI]; omega) | (simp only [inL]; omega) | (refine jb_01) | (exact jb_in))) ?_))
      refine ⟨fun c => ?_, fun c => ?_⟩
      · exact tw_nt_11 hT hV (hQ v RJ.rf h7 hw (fun q => by omega) rfl rfl)
      · (repeat (refine And.intro (by (first | omega | assumption | trivial | (simp only [inI]; omega) | (simp only [inL]; omega) | (refine jb_01) | (exact jb_in))) ?_))
        have q := RJ.u1 (RJ.rf (v := v)) (k := 11) (z := 0) (by omega)
        refine tw_nt_11 hT (q.pv hV) (hQ _ q ?_ (fun q => by omega) (fun _ => ?_) ?_ ?_)
        · rw [upA_eq, up1_ne (by omega)]; exact h7
        · rw [upA_eq, up1_eq]
        · rw [upA_eq, up1_ne (by omega)]
        · rw [upA_eq, up1_ne (by omega)]
    · have hd : k < n ∧ isL (B k) := bya_L.1 h
      obtain ⟨f', rfl⟩ : ∃ f', f = f' + 1 := ⟨f - 1, by omega⟩
      have hb := hR.2.2 k hd.1
      have eb : bya B n k = B k := by unfold bya; rw [if_pos hd.1]
      unfold leF at hQ
      rw [if_pos hd] at hQ
      have k5 : ∀ y : Int → Int → Int, RJ v y → y 539 7 = k → (k + 1 ≤ p + 7 → y 539 11 = pk (bl B p (k + 1))) → y 539 8 = v 539 8 → y 539 9 = v 539 9 → jW bX2_nextToken (g, d + 4, 0, 0, Q) 5 [some (vR 539), l1, l2] [] (y, T) 0 0 := by
        intro y y1 y2 y3 y4 y5
        have hVy := y1.pv hV
        have u1 : RJ v (upA y 539 (up1 (y 539) 7 ((k : Int) + 1))) := y1.u1 (by omega)
        have e7 : (upA y 539 (up1 (y 539) 7 ((k : Int) + 1))) 539 7 = ((k + 1 : Nat) : Int) := by rw [upA_eq, up1_eq]; omega
        have e11 : (upA y 539 (up1 (y 539) 7 ((k : Int) + 1))) 539 11 = y 539 11 := by rw [upA_eq, up1_ne (by omega)]
        have e8 : (upA y 539 (up1 (y 539) 7 ((k : Int) + 1))) 539 8 = y 539 8 := by rw [upA_eq, up1_ne (by omega)]
        have e9 : (upA y 539 (up1 (y 539) 7 ((k : Int) + 1))) 539 9 = y 539 9 := by rw [upA_eq, up1_ne (by omega)]
        have hr := tw_nt_4 (p := p) f' (k + 1) (upA y 539 (up1 (y 539) 7 ((k : Int) + 1))) (by omega) hT (u1.pv hV) (hR.j u1 e7 (by omega)) (e8.trans (y4.trans hp)) (by omega) (fun i i0 i1 => by
          by_cases c : i = k
          · subst c; exact ⟨hb.2.1, by omega⟩
          · exact hby i i0 (by omega)) (fun q => e11.trans (y3 q)) (fun u r1 r2 r3 r4 r5 r6 => hQ u (u1.tr r1) r2 r3 r4 (r5.trans (e8.trans y4)) (r6.trans (e9.trans y5)))
        refine jW_step ?_
        simp (disch := (first | decide | omega)) only [bX2_nextToken, jxs, hps, jtsw, jlsw, List.length_cons, List.length_nil, true_and, and_true, true_implies, false_implies, implies_true, not_true_eq_false, not_false_eq_true, false_and, and_false, if_true, if_false, or_true, true_or, or_false, false_or, Classical.not_not, and_self, Int.reduceAdd, Int.reduceMul, Int.reduceSub, Int.reduceNeg, Int.reduceLT, Int.reduceLE, Int.reduceEq, Int.reduceNe, Int.reduceToNat, Nat.reduceAdd, Nat.reduceMul, Nat.reduceSub, Nat.reduceLeDiff, Nat.reduceLT, Nat.reduceEqDiff, reduceIte, Nat.zero_le, Nat.le_refl, Nat.add_zero, Nat.zero_add, twT hT, twV hVy, y2]
        (repeat (refine And.intro (by (first | omega | assumption | trivial | (simp only [inI]; omega) | (simp only [inL]; omega) | (refine jb_01) | (exact jb_in))) ?_))
        exact hr
      (repeat (refine And.intro (by (first | omega | assumption | trivial | (simp only [inI]; omega) | (simp only [inL]; omega) | (refine jb_01) | (exact jb_in))) ?_))
      refine ⟨fun c => ?_, fun c => ?_⟩
      · exact k5 v RJ.rf h7 (fun q => by omega) rfl rfl
      · have hwk := hw (by omega)
        have hlt := pkF_lt (bl B p k) 0 (fun c hc => by
          unfold bl at hc
          obtain ⟨i, hi, e⟩ := List.mem_map.1 hc
          rw [List.mem_range] at hi
          rw [← e]
          exact hby (p + i) (by omega) (by omega)) (Int.le_refl _)
        have h48 : (256 : Int) ^ (bl B p k).length ≤ 281474976710656 := by
          rw [bl_len]
          have : (256 : Nat) ^ (k - p) ≤ 256 ^ 6 := Nat.pow_le_pow_right (by omega) (by omega)
          have e : ((256 : Int) ^ (k - p)) = ((256 ^ (k - p) : Nat) : Int) := (Int.natCast_pow 256 (k - p)).symm
          rw [e]
          omega
        have hx : 0 ≤ pk (bl B p k) ∧ pk (bl B p k) < 281474976710656 := by
          unfold pk
          omega
        (repeat (refine And.intro (by (first | omega | assumption | trivial | (simp only [inI]; omega) | (simp only [inL]; omega) | (refine jb_01) | (exact jb_in))) ?_))
        refine ⟨0, 0, ⟨by omega, by omega⟩, tw_byteAt (d := d + 3) hT hV ⟨hR, hk.2⟩ ?_⟩
        simp (disch := (first | decide | omega)) only [jxs, hps, jtsw, jlsw, List.length_cons, List.length_nil, true_and, and_true, true_implies, false_implies, implies_true, not_true_eq_false, not_false_eq_true, false_and, and_false, if_true, if_false, or_true, true_or, or_false, false_or, Classical.not_not, and_self, Int.reduceAdd, Int.reduceMul, Int.reduceSub, Int.reduceNeg, Int.reduceLT, Int.reduceLE, Int.reduceEq, Int.reduceNe, Int.reduceToNat, Nat.reduceAdd, Nat.reduceMul, Nat.reduceSub, Nat.reduceLeDiff, Nat.reduceLT, Nat.reduceEqDiff, reduceIte, Nat.zero_le, Nat.le_refl, Nat.add_zero, Nat.zero_add, twT hT, twV hV]
        rw [eb, hwk, jsh8 hx (by omega) ⟨hb.2.1, by omega⟩]
        (repeat (refine And.intro (by (first | omega | assumption | trivial | (simp only [inI]; omega) | (simp only [inL]; omega) | (refine jb_01) | (exact jb_in))) ?_))
        refine k5 _ (RJ.rf.u1 (by omega)) ?_ (fun _ => ?_) ?_ ?_
        · rw [upA_eq, up1_ne (by omega)]; exact h7
        · rw [upA_eq, up1_eq, bl_s hpk]
          exact (pkF_app _ _ _).symm
        · rw [upA_eq, up1_ne (by omega)]
        · rw [upA_eq, up1_ne (by omega)]
end TG
