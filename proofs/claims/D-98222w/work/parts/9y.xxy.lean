/-! ===== the class: where orders end, calm orders ===== -/
-- MODE X
set_option maxRecDepth 100000
theorem clmF_el {c el w : Int → Int} {m : Int} (hw : ∀ i, 0 ≤ i → i < m → 0 ≤ w i ∧ w i < 10) : ∀ (n : Nat) (p : Int), 0 ≤ p → clmF c (fun i => el (w i)) m n p = clmF (tbE c el) w m n p
  | 0, _, _ => rfl
  | n + 1, p, hp => by
    unfold clmF
    by_cases h : m ≤ p + 1
    · rw [if_pos h, if_pos h]
    · have b := hw (p + 1) (by omega) (by omega)
      rw [if_neg h, if_neg h, tbE_at b, clmF_el hw n (p + 1) (by omega)]
theorem swp_el {el w : Int → Int} {p : Int} : swp (fun i => el (w i)) p = fun i => el (swp w p i) := by
  funext i
  unfold swp up1
  by_cases a : i = p + 1
  · rw [if_pos a, if_pos a]
  · rw [if_neg a, if_neg a]
    by_cases b : i = p
    · rw [if_pos b, if_pos b]
    · rw [if_neg b, if_neg b]
theorem nitL_el {c el : Int → Int} {m : Int} : ∀ (n : Nat) (p : Int) (w : Int → Int), 0 ≤ p → RN w m 10 → nitL c m n p (fun i => el (w i)) = fun i => el (nitL (tbE c el) m n p w i)
  | 0, _, _, _, _ => rfl
  | n + 1, p, w, hp, hw => by
    unfold nitL
    by_cases h : m ≤ p + 1
    · rw [if_pos h, if_pos h]
    · have b := hw (p + 1) (by omega) (by omega)
      rw [if_neg h, if_neg h, tbE_at b]
      by_cases q : c (10 * el (w p) + el (w (p + 1))) = 0
      · rw [if_pos q, if_pos q]
        exact nitL_el n (p + 2) w (by omega) hw
      · rw [if_neg q, if_neg q, swp_el]
        exact nitL_el n (p + 2) _ (by omega) (hw.sw ⟨hp, by omega⟩)
theorem dec_RN {m n : Int} (hm : 0 ≤ m ∧ m ≤ 6) (hn : 0 ≤ n ∧ n < fac m) : RN (dec m n) m 10 := fun i i0 i1 => by
  have := (dec_PRM hm hn).1 i i0 i1
  omega
theorem ooA_el {el w : Int → Int} {m n : Int} (hm : 0 ≤ m ∧ m ≤ 6) (hM : MON el m) (hn : 0 ≤ n ∧ n < fac m) (he : EQm m w (fun q => el (dec m n q))) : ooA w m = n := by
  rw [ooA_cg he hm.1, ooA_mon hm.1 hM (dec_PRM hm hn).1, ooA_dec hm hn]
theorem enF_bd {ld cm : Int → Int} {al : Int} (h : LD ld al) : ∀ (n : Nat) (i k : Int), 0 ≤ i → (0 ≤ k ∧ k < al) → -1 ≤ enF ld cm n i k ∧ enF ld cm n i k < al
  | 0, _, k, _, hk => by unfold enF; omega
  | n + 1, i, k, hi, hk => by
    unfold enF
    split
    · exact enF_bd h n (i + 1) _ (by omega) (h.2 (2 * k + i % 2) (by omega) (by omega))
    · omega
theorem enA_bd {ld cm : Int → Int} {al k : Int} (h : LD ld al) (hk : 0 ≤ k ∧ k < al) : -1 ≤ enA ld cm al k ∧ enA ld cm al k < al := enF_bd h _ 0 k (by omega) hk
theorem nvF_bs {ld cm : Int → Int} {al : Int} (h : LD ld al) : ∀ (r : Nat) (k : Int), 0 ≤ k → k + r = al → nvF ld cm al r k = bsF ld cm al (-1) r k
  | 0, _, _, _ => rfl
  | r + 1, k, hk, hr => by
    have b := enA_bd (cm := cm) h (k := k) ⟨hk, by omega⟩
    unfold nvF bsF
    rw [nvF_bs h r (k + 1) (by omega) (by omega)]
    by_cases c : enA ld cm al k < 0
    · rw [if_pos c, if_pos (by omega)]
    · rw [if_neg c, if_neg (by omega)]
section XG
variable {g : jjG} {d : Nat} {T : jjT} {Q : jjQ} {A X : Int → Int} {m : Int} {el : Int → Int}
theorem xw_en_1 (hT : PT T) (hm : 0 ≤ m ∧ m ≤ 6) (hM : MON el m) (hR : RN el m (A 0)) (h0 : 0 ≤ A 0 ∧ A 0 ≤ 10) : ∀ (r : Nat) (i k : Int) (v : Int → Int → Int) (l3 : Option jjV), PV v → CHB (v 523) A X → CHO v m el → EQm m (v 527) (fun q => el (dec m k q)) → (0 ≤ k ∧ k < fac m) → 0 ≤ i → i + r = 2 * fac m + 1 →
    (∀ w, (∀ a, a ≠ 527 → w a = v a) → Q (.inl (some (vI (enF (ldJ (tbE (tbl A X) el) m) (clE (tbE (tbl A X) el) m) r i k)))) (w, T)) →
    jW bX0_endOf (g, d + 7, 0, 0, Q) 1 [some (vR 400), some (vI (2 * fac m)), some (vI i), l3] [] (v, T) 0 0 := by
  have hf := fac_bd hm.2
  intro r
  induction r with
  | zero =>
    intro i k v l3 hV hB hO hE hk hi hr hQ
    unfold enF at hQ
    refine jW_step ?_
    simp (disch := (first | decide | omega)) only [bX0_endOf, jxs, hps, jtsw, jlsw, List.length_cons, List.length_nil, true_and, and_true, true_implies, false_implies, implies_true, not_true_eq_false, not_false_eq_true, false_and, and_false, if_true, if_false, or_true, true_or, or_false, false_or, Classical.not_not, and_self, Int.reduceAdd, Int.reduceMul, Int.reduceSub, Int.reduceNeg, Int.reduceLT, Int.reduceLE, Int.reduceEq, Int.reduceNe, Int.reduceToNat, Nat.reduceAdd, Nat.reduceMul, Nat.reduceSub, Nat.reduceLeDiff, Nat.reduceLT, Nat.reduceEqDiff, reduceIte, Nat.zero_le, Nat.le_refl, Nat.add_zero, Nat.zero_add, xwT hT, xwV hV]
    (try refine ⟨fun _ => ?_, fun h9 => (by exfalso; omega)⟩)
    (repeat (refine And.intro (by (first | omega | assumption | trivial | (simp only [inI]; omega) | (simp only [inL]; omega) | (refine jb_01) | (exact jb_in))) ?_))
    exact hQ v (fun _ _ => rfl)
  | succ r ih =>
    intro i k v l3 hV hB hO hE hk hi hr hQ
    have dr := dec_RN hm hk
    have rn : RN (v 527) m (A 0) := fun j j0 j1 => by
      rw [hE j j0 j1]
      have := (dec_PRM hm hk).1 j j0 j1
      exact hR _ this.1 this.2
    have ec : clmR (tbl A X) (v 527) m = clE (tbE (tbl A X) el) m k := by
      unfold clE clmR
      rw [clmF_cg (N := A 0) (fun _ _ _ _ _ _ => rfl) hE rn 10 0 (by omega)]
      exact clmF_el dr 10 0 (by omega)
    unfold enF at hQ
    refine jW_step ?_
    simp (disch := (first | decide | omega)) only [bX0_endOf, jxs, hps, jtsw, jlsw, List.length_cons, List.length_nil, true_and, and_true, true_implies, false_implies, implies_true, not_true_eq_false, not_false_eq_true, false_and, and_false, if_true, if_false, or_true, true_or, or_false, false_or, Classical.not_not, and_self, Int.reduceAdd, Int.reduceMul, Int.reduceSub, Int.reduceNeg, Int.reduceLT, Int.reduceLE, Int.reduceEq, Int.reduceNe, Int.reduceToNat, Nat.reduceAdd, Nat.reduceMul, Nat.reduceSub, Nat.reduceLeDiff, Nat.reduceLT, Nat.reduceEqDiff, reduceIte, Nat.zero_le, Nat.le_refl, Nat.add_zero, Nat.zero_add, xwT hT, xwV hV, hO.1]
    (first | refine ⟨fun h9 => (by exfalso; omega), fun _ => ?_⟩ | intro _)
    refine ⟨0, 0, ⟨by omega, by omega⟩, xw_isCalm (A := A) (X := X) hT hV h0 ⟨pt_527 hT, by rw [pl_527 hT]; omega⟩ (by omega) hB rn ?_⟩
    rw [ec]
    simp (disch := (first | decide | omega)) only [jxs, hps, jtsw, jlsw, List.length_cons, List.length_nil, true_and, and_true, true_implies, false_implies, implies_true, not_true_eq_false, not_false_eq_true, false_and, and_false, if_true, if_false, or_true, true_or, or_false, false_or, Classical.not_not, and_self, Int.reduceAdd, Int.reduceMul, Int.reduceSub, Int.reduceNeg, Int.reduceLT, Int.reduceLE, Int.reduceEq, Int.reduceNe, Int.reduceToNat, Nat.reduceAdd, Nat.reduceMul, Nat.reduceSub, Nat.reduceLeDiff, Nat.reduceLT, Nat.reduceEqDiff, reduceIte, Nat.zero_le, Nat.le_refl, Nat.add_zero, Nat.zero_add, xwT hT, xwV hV, hO.1]
    refine ⟨fun h => ?_, fun h => ?_⟩
    · rw [if_pos h] at hQ
      (repeat (refine And.intro (by (first | omega | assumption | trivial | (simp only [inI]; omega) | (simp only [inL]; omega) | (refine jb_01) | (exact jb_in))) ?_))
      refine ⟨0, 0, ⟨by omega, by omega⟩, xw_nightOn0 (A := A) (X := X) hT hV h0 ⟨pt_527 hT, by omega, by rw [pl_527 hT]; omega, by decide, by omega⟩ (by omega) hB rn (by omega) ?_⟩
      intro c
      have cg := nitR_cg (kind := i % 2) (c := tbl A X) (c' := tbl A X) (N := A 0) (by omega) (fun _ _ _ _ _ _ => rfl) hE rn
      have en : nitR (tbl A X) m (i % 2) (fun q => el (dec m k q)) = fun q => el (nitR (tbE (tbl A X) el) m (i % 2) (dec m k) q) := nitL_el 6 (i % 2) (dec m k) (by omega) dr
      have pn : PRM (nitR (tbE (tbl A X) el) m (i % 2) (dec m k)) m := PRM.nit 6 (i % 2) _ (by omega) (dec_PRM hm hk)
      have pd := prm_dec hm pn
      have el2 : ldJ (tbE (tbl A X) el) m (2 * k + i % 2) = ooA (nitR (tbE (tbl A X) el) m (i % 2) (dec m k)) m := by
        unfold ldJ ldE
        rw [show (2 * k + i % 2) / 2 = k by omega, show (2 * k + i % 2) % 2 = i % 2 by omega]
      rw [el2] at hQ
      have u27 : (upA v 527 (nitR (tbl A X) m (i % 2) (v 527))) 527 = nitR (tbl A X) m (i % 2) (v 527) := upA_eq
      have uo : ∀ a, a ≠ 527 → (upA v 527 (nitR (tbl A X) m (i % 2) (v 527))) a = v a := fun a ha => upA_ne ha
      have hVu : PV (upA v 527 (nitR (tbl A X) m (i % 2) (v 527))) := hV.A (by decide)
      generalize upA v 527 (nitR (tbl A X) m (i % 2) (v 527)) = u at *
      have hV0 := hV
      have hV := hVu
      simp (disch := (first | decide | omega)) only [jxs, hps, jtsw, jlsw, List.length_cons, List.length_nil, true_and, and_true, true_implies, false_implies, implies_true, not_true_eq_false, not_false_eq_true, false_and, and_false, if_true, if_false, or_true, true_or, or_false, false_or, Classical.not_not, and_self, Int.reduceAdd, Int.reduceMul, Int.reduceSub, Int.reduceNeg, Int.reduceLT, Int.reduceLE, Int.reduceEq, Int.reduceNe, Int.reduceToNat, Nat.reduceAdd, Nat.reduceMul, Nat.reduceSub, Nat.reduceLeDiff, Nat.reduceLT, Nat.reduceEqDiff, reduceIte, Nat.zero_le, Nat.le_refl, Nat.add_zero, Nat.zero_add, xwT hT, xwV hV]
      (repeat (refine And.intro (by (first | omega | assumption | trivial | (simp only [inI]; omega) | (simp only [inL]; omega) | (refine jb_01) | (exact jb_in))) ?_))
      refine ih (i + 1) _ u _ hVu (by rw [uo 523 (by omega)]; exact hB) (hO.fr (by rw [uo 400 (by omega)]) (uo 526 (by omega))) ?_ pd.1 (by omega) (by omega) ?_
      · intro j j0 j1
        rw [u27, cg.1 j j0 j1, en]
        dsimp only
        rw [pd.2 j j0 j1]
      · intro w hw
        exact hQ w (fun a ha => (hw a ha).trans (uo a ha))
    · rw [if_neg h] at hQ
      refine ⟨0, 0, ⟨by omega, by omega⟩, xw_numberOf (d := d + 6) hT hV hO.1 hm ?_⟩
      rw [ooA_el hm hM hk hE]
      simp (disch := (first | decide | omega)) only [jxs, hps, jtsw, jlsw, List.length_cons, List.length_nil, true_and, and_true, true_implies, false_implies, implies_true, not_true_eq_false, not_false_eq_true, false_and, and_false, if_true, if_false, or_true, true_or, or_false, false_or, Classical.not_not, and_self, Int.reduceAdd, Int.reduceMul, Int.reduceSub, Int.reduceNeg, Int.reduceLT, Int.reduceLE, Int.reduceEq, Int.reduceNe, Int.reduceToNat, Nat.reduceAdd, Nat.reduceMul, Nat.reduceSub, Nat.reduceLeDiff, Nat.reduceLT, Nat.reduceEqDiff, reduceIte, Nat.zero_le, Nat.le_refl, Nat.add_zero, Nat.zero_add, xwT hT, xwV hV]
      (repeat (refine And.intro (by (first | omega | assumption | trivial | (simp only [inI]; omega) | (simp only [inL]; omega) | (refine jb_01) | (exact jb_in))) ?_))
      exact hQ v (fun _ _ => rfl)
theorem xw_endOf {k : Int} {v : Int → Int → Int} (hT : PT T) (hV : PV v) (hO : CHO v m el) (hS : (0 ≤ m ∧ m ≤ 6) ∧ MON el m ∧ RN el m (A 0) ∧ (0 ≤ A 0 ∧ A 0 ≤ 10)) (hB : CHB (v 523) A X) (hE : EQm m (v 527) (fun q => el (dec m k q))) (hk : 0 ≤ k ∧ k < fac m)
    (hQ : ∀ w, (∀ a, a ≠ 527 → w a = v a) → Q (.inl (some (vI (enA (ldJ (tbE (tbl A X) el) m) (clE (tbE (tbl A X) el) m) (fac m) k)))) (w, T)) : jmet g (d + 8) 0 0 MX0_endOf [vR 400] (v, T) Q := by
  obtain ⟨hm, hM, hR, h0⟩ := hS
  have hf := fac_bd hm.2
  refine jmet_of (ls := [some (vR 400), none, none, none]) sX0_endOf rfl (by decide +kernel) (by decide) rfl (by simp [jent]) ?_
  refine jW_step ?_
  simp (disch := (first | decide | omega)) only [bX0_endOf, jxs, hps, jtsw, jlsw, List.length_cons, List.length_nil, true_and, and_true, true_implies, false_implies, implies_true, not_true_eq_false, not_false_eq_true, false_and, and_false, if_true, if_false, or_true, true_or, or_false, false_or, Classical.not_not, and_self, Int.reduceAdd, Int.reduceMul, Int.reduceSub, Int.reduceNeg, Int.reduceLT, Int.reduceLE, Int.reduceEq, Int.reduceNe, Int.reduceToNat, Nat.reduceAdd, Nat.reduceMul, Nat.reduceSub, Nat.reduceLeDiff, Nat.reduceLT, Nat.reduceEqDiff, reduceIte, Nat.zero_le, Nat.le_refl, Nat.add_zero, Nat.zero_add, xwT hT, xwV hV, hO.1]
  refine ⟨0, 0, ⟨by omega, by omega⟩, xw_rows hT hV hm ?_⟩
  simp (disch := (first | decide | omega)) only [jxs, hps, jtsw, jlsw, List.length_cons, List.length_nil, true_and, and_true, true_implies, false_implies, implies_true, not_true_eq_false, not_false_eq_true, false_and, and_false, if_true, if_false, or_true, true_or, or_false, false_or, Classical.not_not, and_self, Int.reduceAdd, Int.reduceMul, Int.reduceSub, Int.reduceNeg, Int.reduceLT, Int.reduceLE, Int.reduceEq, Int.reduceNe, Int.reduceToNat, Nat.reduceAdd, Nat.reduceMul, Nat.reduceSub, Nat.reduceLeDiff, Nat.reduceLT, Nat.reduceEqDiff, reduceIte, Nat.zero_le, Nat.le_refl, Nat.add_zero, Nat.zero_add, xwT hT, xwV hV]
  (repeat (refine And.intro (by (first | omega | assumption | trivial | (simp only [inI]; omega) | (simp only [inL]; omega) | (refine jb_01) | (exact jb_in))) ?_))
  exact xw_en_1 hT hm hM hR h0 (2 * fac m + 1).toNat 0 k v _ hV hB hO hE hk (by omega) (by omega) hQ
theorem xw_cn_1 {i : Int} (hT : PT T) (hm : 0 ≤ m ∧ m ≤ 6) (hR : RN el m (A 0)) (h0 : 0 ≤ A 0 ∧ A 0 ≤ 10) : ∀ (r : Nat) (k cn : Int) (v : Int → Int → Int), PV v → CHB (v 523) A X → CHO v m el → v 400 14 = cn → (0 ≤ cn ∧ cn ≤ k) → k + r = fac m →
    (∀ w z, w 400 = up1 (v 400) 14 z → (∀ a, a ≠ 400 → a ≠ 527 → w a = v a) → (i = -1 → z = cn + ccF (clE (tbE (tbl A X) el) m) r k) → (0 ≤ cmF (clE (tbE (tbl A X) el) m) i r k cn → EQm m (w 527) (fun q => el (dec m (cmF (clE (tbE (tbl A X) el) m) i r k cn) q))) → Q (.inl (some (vI (cmF (clE (tbE (tbl A X) el) m) i r k cn)))) (w, T)) →
    jW bX0_calmNumber (g, d + 8, 0, 0, Q) 1 [some (vR 400), some (vI i), some (vI k)] [] (v, T) 0 0 := by
  have hf := fac_bd hm.2
  intro r
  induction r with
  | zero =>
    intro k cn v hV hB hO hv hc hr hQ
    unfold cmF ccF at hQ
    refine jW_step ?_
    simp (disch := (first | decide | omega)) only [bX0_calmNumber, jxs, hps, jtsw, jlsw, List.length_cons, List.length_nil, true_and, and_true, true_implies, false_implies, implies_true, not_true_eq_false, not_false_eq_true, false_and, and_false, if_true, if_false, or_true, true_or, or_false, false_or, Classical.not_not, and_self, Int.reduceAdd, Int.reduceMul, Int.reduceSub, Int.reduceNeg, Int.reduceLT, Int.reduceLE, Int.reduceEq, Int.reduceNe, Int.reduceToNat, Nat.reduceAdd, Nat.reduceMul, Nat.reduceSub, Nat.reduceLeDiff, Nat.reduceLT, Nat.reduceEqDiff, reduceIte, Nat.zero_le, Nat.le_refl, Nat.add_zero, Nat.zero_add, xwT hT, xwV hV, hO.1]
    refine ⟨0, 0, ⟨by omega, by omega⟩, xw_rows hT hV hm ?_⟩
    simp (disch := (first | decide | omega)) only [jxs, hps, jtsw, jlsw, List.length_cons, List.length_nil, true_and, and_true, true_implies, false_implies, implies_true, not_true_eq_false, not_false_eq_true, false_and, and_false, if_true, if_false, or_true, true_or, or_false, false_or, Classical.not_not, and_self, Int.reduceAdd, Int.reduceMul, Int.reduceSub, Int.reduceNeg, Int.reduceLT, Int.reduceLE, Int.reduceEq, Int.reduceNe, Int.reduceToNat, Nat.reduceAdd, Nat.reduceMul, Nat.reduceSub, Nat.reduceLeDiff, Nat.reduceLT, Nat.reduceEqDiff, reduceIte, Nat.zero_le, Nat.le_refl, Nat.add_zero, Nat.zero_add, xwT hT, xwV hV]
    (try refine ⟨fun _ => ?_, fun h9 => (by exfalso; omega)⟩)
    (repeat (refine And.intro (by (first | omega | assumption | trivial | (simp only [inI]; omega) | (simp only [inL]; omega) | (refine jb_01) | (exact jb_in))) ?_))
    exact hQ v cn (by rw [← hv, up1_id]) (fun _ _ _ => rfl) (fun _ => by omega) (fun q => by omega)
  | succ r ih =>
    intro k cn v hV hB hO hv hc hr hQ
    unfold cmF ccF at hQ
    have hk : 0 ≤ k ∧ k < fac m := by omega
    refine jW_step ?_
    simp (disch := (first | decide | omega)) only [bX0_calmNumber, jxs, hps, jtsw, jlsw, List.length_cons, List.length_nil, true_and, and_true, true_implies, false_implies, implies_true, not_true_eq_false, not_false_eq_true, false_and, and_false, if_true, if_false, or_true, true_or, or_false, false_or, Classical.not_not, and_self, Int.reduceAdd, Int.reduceMul, Int.reduceSub, Int.reduceNeg, Int.reduceLT, Int.reduceLE, Int.reduceEq, Int.reduceNe, Int.reduceToNat, Nat.reduceAdd, Nat.reduceMul, Nat.reduceSub, Nat.reduceLeDiff, Nat.reduceLT, Nat.reduceEqDiff, reduceIte, Nat.zero_le, Nat.le_refl, Nat.add_zero, Nat.zero_add, xwT hT, xwV hV, hO.1]
    refine ⟨0, 0, ⟨by omega, by omega⟩, xw_rows hT hV hm ?_⟩
    simp (disch := (first | decide | omega)) only [jxs, hps, jtsw, jlsw, List.length_cons, List.length_nil, true_and, and_true, true_implies, false_implies, implies_true, not_true_eq_false, not_false_eq_true, false_and, and_false, if_true, if_false, or_true, true_or, or_false, false_or, Classical.not_not, and_self, Int.reduceAdd, Int.reduceMul, Int.reduceSub, Int.reduceNeg, Int.reduceLT, Int.reduceLE, Int.reduceEq, Int.reduceNe, Int.reduceToNat, Nat.reduceAdd, Nat.reduceMul, Nat.reduceSub, Nat.reduceLeDiff, Nat.reduceLT, Nat.reduceEqDiff, reduceIte, Nat.zero_le, Nat.le_refl, Nat.add_zero, Nat.zero_add, xwT hT, xwV hV]
    (first | refine ⟨fun h9 => (by exfalso; omega), fun _ => ?_⟩ | intro _)
    refine ⟨0, 0, ⟨by omega, by omega⟩, xw_laysOrder (el := el) hT hV hO ⟨hm, hk⟩ ?_⟩
    intro w w1 w2
    have hVw : PV w := hV.fr (fun a ha => w2 a (fun e => by subst e; revert ha; decide))
    have hOw : CHO w m el := hO.fr (by rw [w2 400 (by omega)]) (w2 526 (by omega))
    have hBw : CHB (w 523) A X := by rw [w2 523 (by omega)]; exact hB
    have hvw : w 400 14 = cn := by rw [w2 400 (by omega)]; exact hv
    have dr := dec_RN hm hk
    have rn : RN (w 527) m (A 0) := fun j j0 j1 => by
      rw [w1 j j0 j1]
      have := (dec_PRM hm hk).1 j j0 j1
      exact hR _ this.1 this.2
    have ec : clmR (tbl A X) (w 527) m = clE (tbE (tbl A X) el) m k := by
      unfold clE clmR
      rw [clmF_cg (N := A 0) (fun _ _ _ _ _ _ => rfl) w1 rn 10 0 (by omega)]
      exact clmF_el dr 10 0 (by omega)
    have hV0 := hV
    have hV := hVw
    simp (disch := (first | decide | omega)) only [jxs, hps, jtsw, jlsw, List.length_cons, List.length_nil, true_and, and_true, true_implies, false_implies, implies_true, not_true_eq_false, not_false_eq_true, false_and, and_false, if_true, if_false, or_true, true_or, or_false, false_or, Classical.not_not, and_self, Int.reduceAdd, Int.reduceMul, Int.reduceSub, Int.reduceNeg, Int.reduceLT, Int.reduceLE, Int.reduceEq, Int.reduceNe, Int.reduceToNat, Nat.reduceAdd, Nat.reduceMul, Nat.reduceSub, Nat.reduceLeDiff, Nat.reduceLT, Nat.reduceEqDiff, reduceIte, Nat.zero_le, Nat.le_refl, Nat.add_zero, Nat.zero_add, xwT hT, xwV hV, hOw.1]
    refine ⟨0, 0, ⟨by omega, by omega⟩, xw_isCalm (A := A) (X := X) hT hV h0 ⟨pt_527 hT, by rw [pl_527 hT]; omega⟩ (by omega) hBw rn ?_⟩
    rw [ec]
    simp (disch := (first | decide | omega)) only [jxs, hps, jtsw, jlsw, List.length_cons, List.length_nil, true_and, and_true, true_implies, false_implies, implies_true, not_true_eq_false, not_false_eq_true, false_and, and_false, if_true, if_false, or_true, true_or, or_false, false_or, Classical.not_not, and_self, Int.reduceAdd, Int.reduceMul, Int.reduceSub, Int.reduceNeg, Int.reduceLT, Int.reduceLE, Int.reduceEq, Int.reduceNe, Int.reduceToNat, Nat.reduceAdd, Nat.reduceMul, Nat.reduceSub, Nat.reduceLeDiff, Nat.reduceLT, Nat.reduceEqDiff, reduceIte, Nat.zero_le, Nat.le_refl, Nat.add_zero, Nat.zero_add, xwT hT, xwV hV, hvw]
    refine ⟨fun h => ?_, fun h => ?_⟩
    · rw [if_neg h, if_neg h] at hQ
      refine ⟨fun h2 => ?_, fun h2 => ?_⟩
      · rw [if_neg h2] at hQ
        (repeat (refine And.intro (by (first | omega | assumption | trivial | (simp only [inI]; omega) | (simp only [inL]; omega) | (refine jb_01) | (exact jb_in))) ?_))
        have hVu : PV (upA w 400 (up1 (w 400) 14 (cn + 1))) := by (first | assumption | (repeat (first | assumption | refine PV.A ?_ (by decide) | refine PV.F ?_ ?_ | refine twR.up ?_ (by decide) | refine PV.r ?_)))
        have u400 : (upA w 400 (up1 (w 400) 14 (cn + 1))) 400 = up1 (v 400) 14 (cn + 1) := by rw [upA_eq, w2 400 (by omega)]
        have uo : ∀ a, a ≠ 400 → (upA w 400 (up1 (w 400) 14 (cn + 1))) a = w a := fun a ha => upA_ne ha
        generalize upA w 400 (up1 (w 400) 14 (cn + 1)) = u at *
        have hV := hVu
        refine jW_step ?_
        simp (disch := (first | decide | omega)) only [bX0_calmNumber, jxs, hps, jtsw, jlsw, List.length_cons, List.length_nil, true_and, and_true, true_implies, false_implies, implies_true, not_true_eq_false, not_false_eq_true, false_and, and_false, if_true, if_false, or_true, true_or, or_false, false_or, Classical.not_not, and_self, Int.reduceAdd, Int.reduceMul, Int.reduceSub, Int.reduceNeg, Int.reduceLT, Int.reduceLE, Int.reduceEq, Int.reduceNe, Int.reduceToNat, Nat.reduceAdd, Nat.reduceMul, Nat.reduceSub, Nat.reduceLeDiff, Nat.reduceLT, Nat.reduceEqDiff, reduceIte, Nat.zero_le, Nat.le_refl, Nat.add_zero, Nat.zero_add, xwT hT, xwV hV]
        (repeat (refine And.intro (by (first | omega | assumption | trivial | (simp only [inI]; omega) | (simp only [inL]; omega) | (refine jb_01) | (exact jb_in))) ?_))
        refine ih (k + 1) (cn + 1) u hVu (by rw [uo 523 (by omega)]; exact hBw) (hOw.fr (by rw [u400, up1_ne (by omega), w2 400 (by omega)]) (uo 526 (by omega))) (by rw [u400, up1_eq]) (by omega) (by omega) ?_
        intro y z y1 y2 y3 y4
        refine hQ y z (by rw [y1, u400, up1_same]) (fun a a1 a2 => by rw [y2 a a1 a2, uo a a1, w2 a a2]) (fun e => by rw [y3 e]; omega) ?_
        intro q
        exact y4 q
      · rw [if_pos (by omega)] at hQ
        (repeat (refine And.intro (by (first | omega | assumption | trivial | (simp only [inI]; omega) | (simp only [inL]; omega) | (refine jb_01) | (exact jb_in))) ?_))
        refine hQ w cn (by rw [w2 400 (by omega), ← hv, up1_id]) (fun a _ a2 => w2 a a2) (fun e => by omega) (fun _ => w1)
    · rw [if_pos (by omega), if_pos (by omega)] at hQ
      refine jW_step ?_
      simp (disch := (first | decide | omega)) only [bX0_calmNumber, jxs, hps, jtsw, jlsw, List.length_cons, List.length_nil, true_and, and_true, true_implies, false_implies, implies_true, not_true_eq_false, not_false_eq_true, false_and, and_false, if_true, if_false, or_true, true_or, or_false, false_or, Classical.not_not, and_self, Int.reduceAdd, Int.reduceMul, Int.reduceSub, Int.reduceNeg, Int.reduceLT, Int.reduceLE, Int.reduceEq, Int.reduceNe, Int.reduceToNat, Nat.reduceAdd, Nat.reduceMul, Nat.reduceSub, Nat.reduceLeDiff, Nat.reduceLT, Nat.reduceEqDiff, reduceIte, Nat.zero_le, Nat.le_refl, Nat.add_zero, Nat.zero_add, xwT hT, xwV hV]
      (repeat (refine And.intro (by (first | omega | assumption | trivial | (simp only [inI]; omega) | (simp only [inL]; omega) | (refine jb_01) | (exact jb_in))) ?_))
      refine ih (k + 1) cn w hVw hBw hOw hvw (by omega) (by omega) ?_
      intro y z y1 y2 y3 y4
      exact hQ y z (by rw [y1, w2 400 (by omega)]) (fun a a1 a2 => by rw [y2 a a1 a2, w2 a a2]) (fun e => by rw [y3 e]; omega) y4
theorem xw_calmNumber {i : Int} {v : Int → Int → Int} (hT : PT T) (hV : PV v) (hO : CHO v m el) (hS : (0 ≤ m ∧ m ≤ 6) ∧ RN el m (A 0) ∧ (0 ≤ A 0 ∧ A 0 ≤ 10)) (hB : CHB (v 523) A X)
    (hQ : ∀ w z, w 400 = up1 (v 400) 14 z → (∀ a, a ≠ 400 → a ≠ 527 → w a = v a) → (i = -1 → z = ccF (clE (tbE (tbl A X) el) m) (fac m).toNat 0) → (0 ≤ cmF (clE (tbE (tbl A X) el) m) i (fac m).toNat 0 0 → EQm m (w 527) (fun q => el (dec m (cmF (clE (tbE (tbl A X) el) m) i (fac m).toNat 0 0) q))) → Q (.inl (some (vI (cmF (clE (tbE (tbl A X) el) m) i (fac m).toNat 0 0)))) (w, T)) : jmet g (d + 9) 0 0 MX0_calmNumber [vR 400, vI i] (v, T) Q := by
  obtain ⟨hm, hR, h0⟩ := hS
  have hf := fac_bd hm.2
  refine jmet_of (ls := [some (vR 400), some (vI i), none]) sX0_calmNumber rfl (by decide +kernel) (by decide) rfl (by simp [jent]) ?_
  refine jW_step ?_
  simp (disch := (first | decide | omega)) only [bX0_calmNumber, jxs, hps, jtsw, jlsw, List.length_cons, List.length_nil, true_and, and_true, true_implies, false_implies, implies_true, not_true_eq_false, not_false_eq_true, false_and, and_false, if_true, if_false, or_true, true_or, or_false, false_or, Classical.not_not, and_self, Int.reduceAdd, Int.reduceMul, Int.reduceSub, Int.reduceNeg, Int.reduceLT, Int.reduceLE, Int.reduceEq, Int.reduceNe, Int.reduceToNat, Nat.reduceAdd, Nat.reduceMul, Nat.reduceSub, Nat.reduceLeDiff, Nat.reduceLT, Nat.reduceEqDiff, reduceIte, Nat.zero_le, Nat.le_refl, Nat.add_zero, Nat.zero_add, xwT hT, xwV hV]
  (repeat (refine And.intro (by (first | omega | assumption | trivial | (simp only [inI]; omega) | (simp only [inL]; omega) | (refine jb_01) | (exact jb_in))) ?_))
  refine xw_cn_1 (A := A) (X := X) (el := el) hT hm hR h0 (fac m).toNat 0 0 _ (by (first | assumption | (repeat (first | assumption | refine PV.A ?_ (by decide) | refine PV.F ?_ ?_ | refine twR.up ?_ (by decide) | refine PV.r ?_)))) (by rw [upA_ne (by omega)]; exact hB) (hO.fr (by rw [upA_eq, up1_ne (by omega)]) (upA_ne (by omega))) (by rw [upA_eq, up1_eq]) (by omega) (by omega) ?_
  rw [upA_eq]
  intro w z w1 w2 w3 w4
  exact hQ w z (by rw [w1, up1_same]) (fun a a1 a2 => by rw [w2 a a1 a2, upA_ne a1]) (fun e => by rw [w3 e, Int.zero_add]) w4
theorem xw_lt_1 {e : Int} (hT : PT T) (hm : 0 ≤ m ∧ m ≤ 6) (hM : MON el m) (hR : RN el m (A 0)) (h0 : 0 ≤ A 0 ∧ A 0 ≤ 10) : ∀ (r : Nat) (k n : Int) (v : Int → Int → Int), PV v → CHB (v 523) A X → CHO v m el → (0 ≤ n ∧ n ≤ k) → k + r = fac m →
    (∀ w, (∀ a, a ≠ 527 → w a = v a) → Q (.inl (some (vI (n + bsF (ldJ (tbE (tbl A X) el) m) (clE (tbE (tbl A X) el) m) (fac m) e r k)))) (w, T)) →
    jW bX0_leadTo (g, d + 8, 0, 0, Q) 1 [some (vR 400), some (vI e), some (vI n), some (vI k)] [] (v, T) 0 0 := by
  have hf := fac_bd hm.2
  intro r
  induction r with
  | zero =>
    intro k n v hV hB hO hn hr hQ
    unfold bsF at hQ
    refine jW_step ?_
    simp (disch := (first | decide | omega)) only [bX0_leadTo, jxs, hps, jtsw, jlsw, List.length_cons, List.length_nil, true_and, and_true, true_implies, false_implies, implies_true, not_true_eq_false, not_false_eq_true, false_and, and_false, if_true, if_false, or_true, true_or, or_false, false_or, Classical.not_not, and_self, Int.reduceAdd, Int.reduceMul, Int.reduceSub, Int.reduceNeg, Int.reduceLT, Int.reduceLE, Int.reduceEq, Int.reduceNe, Int.reduceToNat, Nat.reduceAdd, Nat.reduceMul, Nat.reduceSub, Nat.reduceLeDiff, Nat.reduceLT, Nat.reduceEqDiff, reduceIte, Nat.zero_le, Nat.le_refl, Nat.add_zero, Nat.zero_add, xwT hT, xwV hV, hO.1]
    refine ⟨0, 0, ⟨by omega, by omega⟩, xw_rows hT hV hm ?_⟩
    simp (disch := (first | decide | omega)) only [jxs, hps, jtsw, jlsw, List.length_cons, List.length_nil, true_and, and_true, true_implies, false_implies, implies_true, not_true_eq_false, not_false_eq_true, false_and, and_false, if_true, if_false, or_true, true_or, or_false, false_or, Classical.not_not, and_self, Int.reduceAdd, Int.reduceMul, Int.reduceSub, Int.reduceNeg, Int.reduceLT, Int.reduceLE, Int.reduceEq, Int.reduceNe, Int.reduceToNat, Nat.reduceAdd, Nat.reduceMul, Nat.reduceSub, Nat.reduceLeDiff, Nat.reduceLT, Nat.reduceEqDiff, reduceIte, Nat.zero_le, Nat.le_refl, Nat.add_zero, Nat.zero_add, xwT hT, xwV hV]
    (try refine ⟨fun _ => ?_, fun h9 => (by exfalso; omega)⟩)
    (repeat (refine And.intro (by (first | omega | assumption | trivial | (simp only [inI]; omega) | (simp only [inL]; omega) | (refine jb_01) | (exact jb_in))) ?_))
    have := hQ v (fun _ _ => rfl)
    rwa [Int.add_zero] at this
  | succ r ih =>
    intro k n v hV hB hO hn hr hQ
    unfold bsF at hQ
    have hk : 0 ≤ k ∧ k < fac m := by omega
    refine jW_step ?_
    simp (disch := (first | decide | omega)) only [bX0_leadTo, jxs, hps, jtsw, jlsw, List.length_cons, List.length_nil, true_and, and_true, true_implies, false_implies, implies_true, not_true_eq_false, not_false_eq_true, false_and, and_false, if_true, if_false, or_true, true_or, or_false, false_or, Classical.not_not, and_self, Int.reduceAdd, Int.reduceMul, Int.reduceSub, Int.reduceNeg, Int.reduceLT, Int.reduceLE, Int.reduceEq, Int.reduceNe, Int.reduceToNat, Nat.reduceAdd, Nat.reduceMul, Nat.reduceSub, Nat.reduceLeDiff, Nat.reduceLT, Nat.reduceEqDiff, reduceIte, Nat.zero_le, Nat.le_refl, Nat.add_zero, Nat.zero_add, xwT hT, xwV hV, hO.1]
    refine ⟨0, 0, ⟨by omega, by omega⟩, xw_rows hT hV hm ?_⟩
    simp (disch := (first | decide | omega)) only [jxs, hps, jtsw, jlsw, List.length_cons, List.length_nil, true_and, and_true, true_implies, false_implies, implies_true, not_true_eq_false, not_false_eq_true, false_and, and_false, if_true, if_false, or_true, true_or, or_false, false_or, Classical.not_not, and_self, Int.reduceAdd, Int.reduceMul, Int.reduceSub, Int.reduceNeg, Int.reduceLT, Int.reduceLE, Int.reduceEq, Int.reduceNe, Int.reduceToNat, Nat.reduceAdd, Nat.reduceMul, Nat.reduceSub, Nat.reduceLeDiff, Nat.reduceLT, Nat.reduceEqDiff, reduceIte, Nat.zero_le, Nat.le_refl, Nat.add_zero, Nat.zero_add, xwT hT, xwV hV]
    (first | refine ⟨fun h9 => (by exfalso; omega), fun _ => ?_⟩ | intro _)
    refine ⟨0, 0, ⟨by omega, by omega⟩, xw_laysOrder (el := el) hT hV hO ⟨hm, hk⟩ ?_⟩
    intro w w1 w2
    have hVw : PV w := hV.fr (fun a ha => w2 a (fun e => by subst e; revert ha; decide))
    have hOw : CHO w m el := hO.fr (by rw [w2 400 (by omega)]) (w2 526 (by omega))
    have hBw : CHB (w 523) A X := by rw [w2 523 (by omega)]; exact hB
    have hV0 := hV
    have hV := hVw
    simp (disch := (first | decide | omega)) only [jxs, hps, jtsw, jlsw, List.length_cons, List.length_nil, true_and, and_true, true_implies, false_implies, implies_true, not_true_eq_false, not_false_eq_true, false_and, and_false, if_true, if_false, or_true, true_or, or_false, false_or, Classical.not_not, and_self, Int.reduceAdd, Int.reduceMul, Int.reduceSub, Int.reduceNeg, Int.reduceLT, Int.reduceLE, Int.reduceEq, Int.reduceNe, Int.reduceToNat, Nat.reduceAdd, Nat.reduceMul, Nat.reduceSub, Nat.reduceLeDiff, Nat.reduceLT, Nat.reduceEqDiff, reduceIte, Nat.zero_le, Nat.le_refl, Nat.add_zero, Nat.zero_add, xwT hT, xwV hV]
    refine ⟨0, 0, ⟨by omega, by omega⟩, xw_endOf (A := A) (X := X) (el := el) hT hV hOw ⟨hm, hM, hR, h0⟩ hBw w1 hk ?_⟩
    intro u hu
    have hVu : PV u := hVw.fr (fun a ha => hu a (fun e => by subst e; revert ha; decide))
    have uv : ∀ a, a ≠ 527 → u a = v a := fun a ha => (hu a ha).trans (w2 a ha)
    have k2 : ∀ z, z = (if enA (ldJ (tbE (tbl A X) el) m) (clE (tbE (tbl A X) el) m) (fac m) k = e then (1 : Int) else 0) → jW bX0_leadTo (g, d + 8, 0, 0, Q) 2 [some (vR 400), some (vI e), some (vI n), some (vI k)] [vI z, vI n] (u, T) 0 0 := by
      intro z hz
      have z1 : 0 ≤ z ∧ z ≤ 1 := by rw [hz]; split <;> omega
      rw [← hz] at hQ
      have hV := hVu
      refine jW_step ?_
      simp (disch := (first | decide | omega)) only [bX0_leadTo, jxs, hps, jtsw, jlsw, List.length_cons, List.length_nil, true_and, and_true, true_implies, false_implies, implies_true, not_true_eq_false, not_false_eq_true, false_and, and_false, if_true, if_false, or_true, true_or, or_false, false_or, Classical.not_not, and_self, Int.reduceAdd, Int.reduceMul, Int.reduceSub, Int.reduceNeg, Int.reduceLT, Int.reduceLE, Int.reduceEq, Int.reduceNe, Int.reduceToNat, Nat.reduceAdd, Nat.reduceMul, Nat.reduceSub, Nat.reduceLeDiff, Nat.reduceLT, Nat.reduceEqDiff, reduceIte, Nat.zero_le, Nat.le_refl, Nat.add_zero, Nat.zero_add, xwT hT, xwV hV]
      (repeat (refine And.intro (by (first | omega | assumption | trivial | (simp only [inI]; omega) | (simp only [inL]; omega) | (refine jb_01) | (exact jb_in))) ?_))
      refine ih (k + 1) (n + z) u hVu (by rw [uv 523 (by omega)]; exact hB) (hO.fr (by rw [uv 400 (by omega)]) (uv 526 (by omega))) (by omega) (by omega) ?_
      intro y hy
      rw [show n + z + bsF (ldJ (tbE (tbl A X) el) m) (clE (tbE (tbl A X) el) m) (fac m) e r (k + 1) = n + (z + bsF (ldJ (tbE (tbl A X) el) m) (clE (tbE (tbl A X) el) m) (fac m) e r (k + 1)) by omega]
      exact hQ y (fun a ha => (hy a ha).trans (uv a ha))
    have hV := hVu
    simp (disch := (first | decide | omega)) only [jxs, hps, jtsw, jlsw, List.length_cons, List.length_nil, true_and, and_true, true_implies, false_implies, implies_true, not_true_eq_false, not_false_eq_true, false_and, and_false, if_true, if_false, or_true, true_or, or_false, false_or, Classical.not_not, and_self, Int.reduceAdd, Int.reduceMul, Int.reduceSub, Int.reduceNeg, Int.reduceLT, Int.reduceLE, Int.reduceEq, Int.reduceNe, Int.reduceToNat, Nat.reduceAdd, Nat.reduceMul, Nat.reduceSub, Nat.reduceLeDiff, Nat.reduceLT, Nat.reduceEqDiff, reduceIte, Nat.zero_le, Nat.le_refl, Nat.add_zero, Nat.zero_add, xwT hT, xwV hV]
    refine ⟨fun h => ?_, fun h => ?_⟩
    · exact k2 0 (by rw [if_neg h])
    · exact k2 1 (by rw [if_pos (by omega)])
theorem xw_leadTo {e : Int} {v : Int → Int → Int} (hT : PT T) (hV : PV v) (hO : CHO v m el) (hS : (0 ≤ m ∧ m ≤ 6) ∧ MON el m ∧ RN el m (A 0) ∧ (0 ≤ A 0 ∧ A 0 ≤ 10)) (hB : CHB (v 523) A X)
    (hQ : ∀ w, (∀ a, a ≠ 527 → w a = v a) → Q (.inl (some (vI (bsF (ldJ (tbE (tbl A X) el) m) (clE (tbE (tbl A X) el) m) (fac m) e (fac m).toNat 0)))) (w, T)) : jmet g (d + 9) 0 0 MX0_leadTo [vR 400, vI e] (v, T) Q := by
  obtain ⟨hm, hM, hR, h0⟩ := hS
  have hf := fac_bd hm.2
  refine jmet_of (ls := [some (vR 400), some (vI e), none, none]) sX0_leadTo rfl (by decide +kernel) (by decide) rfl (by simp [jent]) ?_
  refine jW_step ?_
  simp (disch := (first | decide | omega)) only [bX0_leadTo, jxs, hps, jtsw, jlsw, List.length_cons, List.length_nil, true_and, and_true, true_implies, false_implies, implies_true, not_true_eq_false, not_false_eq_true, false_and, and_false, if_true, if_false, or_true, true_or, or_false, false_or, Classical.not_not, and_self, Int.reduceAdd, Int.reduceMul, Int.reduceSub, Int.reduceNeg, Int.reduceLT, Int.reduceLE, Int.reduceEq, Int.reduceNe, Int.reduceToNat, Nat.reduceAdd, Nat.reduceMul, Nat.reduceSub, Nat.reduceLeDiff, Nat.reduceLT, Nat.reduceEqDiff, reduceIte, Nat.zero_le, Nat.le_refl, Nat.add_zero, Nat.zero_add, xwT hT, xwV hV]
  refine xw_lt_1 (A := A) (X := X) (el := el) hT hm hM hR h0 (fac m).toNat 0 0 v hV hB hO (by omega) (by omega) ?_
  rw [Int.zero_add]
  exact hQ
theorem xw_it_1 (hT : PT T) (hm : 0 ≤ m ∧ m ≤ 6) (hM : MON el m) (hR : RN el m (A 0)) (h0 : 0 ≤ A 0 ∧ A 0 ≤ 10) : ∀ (r : Nat) (k : Int) (v : Int → Int → Int), PV v → CHB (v 523) A X → CHO v m el → 0 ≤ k → k + r = fac m →
    (∀ w, (∀ a, a ≠ 527 → w a = v a) → Q (.inl (some (vI (hnF (ldJ (tbE (tbl A X) el) m) (clE (tbE (tbl A X) el) m) (fac m) r k)))) (w, T)) →
    jW bX0_isTrouble (g, d + 8, 0, 0, Q) 1 [some (vR 400), some (vI k)] [] (v, T) 0 0 := by
  have hf := fac_bd hm.2
  intro r
  induction r with
  | zero =>
    intro k v hV hB hO hn hr hQ
    unfold hnF at hQ
    refine jW_step ?_
    simp (disch := (first | decide | omega)) only [bX0_isTrouble, jxs, hps, jtsw, jlsw, List.length_cons, List.length_nil, true_and, and_true, true_implies, false_implies, implies_true, not_true_eq_false, not_false_eq_true, false_and, and_false, if_true, if_false, or_true, true_or, or_false, false_or, Classical.not_not, and_self, Int.reduceAdd, Int.reduceMul, Int.reduceSub, Int.reduceNeg, Int.reduceLT, Int.reduceLE, Int.reduceEq, Int.reduceNe, Int.reduceToNat, Nat.reduceAdd, Nat.reduceMul, Nat.reduceSub, Nat.reduceLeDiff, Nat.reduceLT, Nat.reduceEqDiff, reduceIte, Nat.zero_le, Nat.le_refl, Nat.add_zero, Nat.zero_add, xwT hT, xwV hV, hO.1]
    refine ⟨0, 0, ⟨by omega, by omega⟩, xw_rows hT hV hm ?_⟩
    simp (disch := (first | decide | omega)) only [jxs, hps, jtsw, jlsw, List.length_cons, List.length_nil, true_and, and_true, true_implies, false_implies, implies_true, not_true_eq_false, not_false_eq_true, false_and, and_false, if_true, if_false, or_true, true_or, or_false, false_or, Classical.not_not, and_self, Int.reduceAdd, Int.reduceMul, Int.reduceSub, Int.reduceNeg, Int.reduceLT, Int.reduceLE, Int.reduceEq, Int.reduceNe, Int.reduceToNat, Nat.reduceAdd, Nat.reduceMul, Nat.reduceSub, Nat.reduceLeDiff, Nat.reduceLT, Nat.reduceEqDiff, reduceIte, Nat.zero_le, Nat.le_refl, Nat.add_zero, Nat.zero_add, xwT hT, xwV hV]
    (try refine ⟨fun _ => ?_, fun h9 => (by exfalso; omega)⟩)
    (repeat (refine And.intro (by (first | omega | assumption | trivial | (simp only [inI]; omega) | (simp only [inL]; omega) | (refine jb_01) | (exact jb_in))) ?_))
    exact hQ v (fun _ _ => rfl)
  | succ r ih =>
    intro k v hV hB hO hn hr hQ
    unfold hnF at hQ
    have hk : 0 ≤ k ∧ k < fac m := by omega
    have eb := enA_bd (cm := clE (tbE (tbl A X) el) m) (ldJ_LD (c := tbE (tbl A X) el) hm) hk
    refine jW_step ?_
    simp (disch := (first | decide | omega)) only [bX0_isTrouble, jxs, hps, jtsw, jlsw, List.length_cons, List.length_nil, true_and, and_true, true_implies, false_implies, implies_true, not_true_eq_false, not_false_eq_true, false_and, and_false, if_true, if_false, or_true, true_or, or_false, false_or, Classical.not_not, and_self, Int.reduceAdd, Int.reduceMul, Int.reduceSub, Int.reduceNeg, Int.reduceLT, Int.reduceLE, Int.reduceEq, Int.reduceNe, Int.reduceToNat, Nat.reduceAdd, Nat.reduceMul, Nat.reduceSub, Nat.reduceLeDiff, Nat.reduceLT, Nat.reduceEqDiff, reduceIte, Nat.zero_le, Nat.le_refl, Nat.add_zero, Nat.zero_add, xwT hT, xwV hV, hO.1]
    refine ⟨0, 0, ⟨by omega, by omega⟩, xw_rows hT hV hm ?_⟩
    simp (disch := (first | decide | omega)) only [jxs, hps, jtsw, jlsw, List.length_cons, List.length_nil, true_and, and_true, true_implies, false_implies, implies_true, not_true_eq_false, not_false_eq_true, false_and, and_false, if_true, if_false, or_true, true_or, or_false, false_or, Classical.not_not, and_self, Int.reduceAdd, Int.reduceMul, Int.reduceSub, Int.reduceNeg, Int.reduceLT, Int.reduceLE, Int.reduceEq, Int.reduceNe, Int.reduceToNat, Nat.reduceAdd, Nat.reduceMul, Nat.reduceSub, Nat.reduceLeDiff, Nat.reduceLT, Nat.reduceEqDiff, reduceIte, Nat.zero_le, Nat.le_refl, Nat.add_zero, Nat.zero_add, xwT hT, xwV hV]
    (first | refine ⟨fun h9 => (by exfalso; omega), fun _ => ?_⟩ | intro _)
    refine ⟨0, 0, ⟨by omega, by omega⟩, xw_laysOrder (el := el) hT hV hO ⟨hm, hk⟩ ?_⟩
    intro w w1 w2
    have hVw : PV w := hV.fr (fun a ha => w2 a (fun e => by subst e; revert ha; decide))
    have hOw : CHO w m el := hO.fr (by rw [w2 400 (by omega)]) (w2 526 (by omega))
    have hBw : CHB (w 523) A X := by rw [w2 523 (by omega)]; exact hB
    have hV0 := hV
    have hV := hVw
    simp (disch := (first | decide | omega)) only [jxs, hps, jtsw, jlsw, List.length_cons, List.length_nil, true_and, and_true, true_implies, false_implies, implies_true, not_true_eq_false, not_false_eq_true, false_and, and_false, if_true, if_false, or_true, true_or, or_false, false_or, Classical.not_not, and_self, Int.reduceAdd, Int.reduceMul, Int.reduceSub, Int.reduceNeg, Int.reduceLT, Int.reduceLE, Int.reduceEq, Int.reduceNe, Int.reduceToNat, Nat.reduceAdd, Nat.reduceMul, Nat.reduceSub, Nat.reduceLeDiff, Nat.reduceLT, Nat.reduceEqDiff, reduceIte, Nat.zero_le, Nat.le_refl, Nat.add_zero, Nat.zero_add, xwT hT, xwV hV]
    refine ⟨0, 0, ⟨by omega, by omega⟩, xw_endOf (A := A) (X := X) (el := el) hT hV hOw ⟨hm, hM, hR, h0⟩ hBw w1 hk ?_⟩
    intro u hu
    have hVu : PV u := hVw.fr (fun a ha => hu a (fun e => by subst e; revert ha; decide))
    have uv : ∀ a, a ≠ 527 → u a = v a := fun a ha => (hu a ha).trans (w2 a ha)
    have hV := hVu
    simp (disch := (first | decide | omega)) only [jxs, hps, jtsw, jlsw, List.length_cons, List.length_nil, true_and, and_true, true_implies, false_implies, implies_true, not_true_eq_false, not_false_eq_true, false_and, and_false, if_true, if_false, or_true, true_or, or_false, false_or, Classical.not_not, and_self, Int.reduceAdd, Int.reduceMul, Int.reduceSub, Int.reduceNeg, Int.reduceLT, Int.reduceLE, Int.reduceEq, Int.reduceNe, Int.reduceToNat, Nat.reduceAdd, Nat.reduceMul, Nat.reduceSub, Nat.reduceLeDiff, Nat.reduceLT, Nat.reduceEqDiff, reduceIte, Nat.zero_le, Nat.le_refl, Nat.add_zero, Nat.zero_add, xwT hT, xwV hV]
    refine ⟨fun h => ?_, fun h => ?_⟩
    · rw [if_pos (by omega)] at hQ
      (repeat (refine And.intro (by (first | omega | assumption | trivial | (simp only [inI]; omega) | (simp only [inL]; omega) | (refine jb_01) | (exact jb_in))) ?_))
      refine ih (k + 1) u hVu (by rw [uv 523 (by omega)]; exact hB) (hO.fr (by rw [uv 400 (by omega)]) (uv 526 (by omega))) (by omega) (by omega) ?_
      intro y hy
      exact hQ y (fun a ha => (hy a ha).trans (uv a ha))
    · rw [if_neg (by omega)] at hQ
      (repeat (refine And.intro (by (first | omega | assumption | trivial | (simp only [inI]; omega) | (simp only [inL]; omega) | (refine jb_01) | (exact jb_in))) ?_))
      exact hQ u uv
theorem xw_isTrouble {v : Int → Int → Int} (hT : PT T) (hV : PV v) (hO : CHO v m el) (hS : (0 ≤ m ∧ m ≤ 6) ∧ MON el m ∧ RN el m (A 0) ∧ (0 ≤ A 0 ∧ A 0 ≤ 10)) (hB : CHB (v 523) A X)
    (hQ : ∀ w, (∀ a, a ≠ 527 → w a = v a) → Q (.inl (some (vI (hnF (ldJ (tbE (tbl A X) el) m) (clE (tbE (tbl A X) el) m) (fac m) (fac m).toNat 0)))) (w, T)) : jmet g (d + 9) 0 0 MX0_isTrouble [vR 400] (v, T) Q := by
  obtain ⟨hm, hM, hR, h0⟩ := hS
  have hf := fac_bd hm.2
  refine jmet_of (ls := [some (vR 400), none]) sX0_isTrouble rfl (by decide +kernel) (by decide) rfl (by simp [jent]) ?_
  refine jW_step ?_
  simp (disch := (first | decide | omega)) only [bX0_isTrouble, jxs, hps, jtsw, jlsw, List.length_cons, List.length_nil, true_and, and_true, true_implies, false_implies, implies_true, not_true_eq_false, not_false_eq_true, false_and, and_false, if_true, if_false, or_true, true_or, or_false, false_or, Classical.not_not, and_self, Int.reduceAdd, Int.reduceMul, Int.reduceSub, Int.reduceNeg, Int.reduceLT, Int.reduceLE, Int.reduceEq, Int.reduceNe, Int.reduceToNat, Nat.reduceAdd, Nat.reduceMul, Nat.reduceSub, Nat.reduceLeDiff, Nat.reduceLT, Nat.reduceEqDiff, reduceIte, Nat.zero_le, Nat.le_refl, Nat.add_zero, Nat.zero_add, xwT hT, xwV hV]
  exact xw_it_1 (A := A) (X := X) (el := el) hT hm hM hR h0 (fac m).toNat 0 v hV hB hO (by omega) (by omega) hQ
end XG
