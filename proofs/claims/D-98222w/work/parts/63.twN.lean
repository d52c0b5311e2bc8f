/-! ===== the reference: calm, basin, never ===== -/
set_option maxRecDepth 100000
def ldJ (c : Int → Int) (m j : Int) : Int := ldE c m (j / 2) (j % 2)
theorem FLD.ld {w : Int → Int → Int} {c : Int → Int} {m : Int} (h : FLD w c m (fac m)) : EQm (2 * fac m) (w 552) (ldJ c m) := by
  intro j j0 j1
  have := (h (j / 2) (by omega) (by omega)).1 (j % 2) (by omega) (by omega)
  rw [show 2 * (j / 2) + j % 2 = j by omega] at this
  exact this
theorem FLD.cl {w : Int → Int → Int} {c : Int → Int} {m : Int} (h : FLD w c m (fac m)) : EQm (fac m) (w 553) (clE c m) := fun j j0 j1 => (h j j0 j1).2
theorem ldJ_LD {c : Int → Int} {m : Int} (hm : 0 ≤ m ∧ m ≤ 6) : LD (ldJ c m) (fac m) := by
  have hf := fac_bd hm.2
  refine ⟨by omega, fun j j0 j1 => ?_⟩
  have := (prm_dec hm (PRM.nit (c := c) 6 (j % 2) _ (by omega) (dec_PRM hm (n := j / 2) ⟨by omega, by omega⟩))).1
  exact this
theorem LD.cg {a b : Int → Int} {al : Int} (h : LD a al) (e : EQm (2 * al) b a) : LD b al := ⟨h.1, fun j j0 j1 => by rw [e j j0 j1]; exact h.2 j j0 j1⟩
theorem enF_cg {ld ld' cm cm' : Int → Int} {al : Int} (h1 : EQm (2 * al) ld ld') (h2 : EQm al cm cm') (h3 : LD ld' al) : ∀ (n : Nat) (i k : Int), 0 ≤ i → (0 ≤ k ∧ k < al) → enF ld cm n i k = enF ld' cm' n i k
  | 0, _, _, _, _ => rfl
  | n + 1, i, k, hi, hk => by
    unfold enF
    rw [h2 k hk.1 hk.2, h1 (2 * k + i % 2) (by omega) (by omega)]
    by_cases h : cm' k = 0
    · rw [if_pos h, if_pos h]
      exact enF_cg h1 h2 h3 n (i + 1) _ (by omega) (h3.2 _ (by omega) (by omega))
    · rw [if_neg h, if_neg h]
theorem enA_cg {ld ld' cm cm' : Int → Int} {al k : Int} (h1 : EQm (2 * al) ld ld') (h2 : EQm al cm cm') (h3 : LD ld' al) (hk : 0 ≤ k ∧ k < al) : enA ld cm al k = enA ld' cm' al k := enF_cg h1 h2 h3 _ 0 k (by omega) hk
theorem hnF_cg {ld ld' cm cm' : Int → Int} {al : Int} (h1 : EQm (2 * al) ld ld') (h2 : EQm al cm cm') (h3 : LD ld' al) : ∀ (n : Nat) (k : Int), 0 ≤ k → k + n = al → hnF ld cm al n k = hnF ld' cm' al n k
  | 0, _, _, _ => rfl
  | n + 1, k, hk, hn => by
    unfold hnF
    rw [enA_cg h1 h2 h3 ⟨hk, by omega⟩, hnF_cg h1 h2 h3 n (k + 1) (by omega) (by omega)]
theorem cmF_cg {cm cm' : Int → Int} {i al : Int} (h2 : EQm al cm cm') : ∀ (r : Nat) (k n : Int), 0 ≤ k → k + r = al → cmF cm i r k n = cmF cm' i r k n
  | 0, _, _, _, _ => rfl
  | r + 1, k, n, hk, hr => by
    unfold cmF
    rw [h2 k hk (by omega), cmF_cg h2 r (k + 1) n (by omega) (by omega), cmF_cg h2 r (k + 1) (n + 1) (by omega) (by omega)]
theorem cmF_bd {cm : Int → Int} {i al : Int} : ∀ (r : Nat) (k n : Int), 0 ≤ k → k + r = al → -1 ≤ cmF cm i r k n ∧ cmF cm i r k n < al + (if al = 0 then 1 else 0)
  | 0, k, n, hk, hr => by unfold cmF; split <;> omega
  | r + 1, k, n, hk, hr => by
    have a := cmF_bd (cm := cm) (i := i) r (k + 1) n (by omega) (by omega : k + 1 + r = al)
    have b := cmF_bd (cm := cm) (i := i) r (k + 1) (n + 1) (by omega) (by omega : k + 1 + r = al)
    unfold cmF
    split
    · exact a
    · split
      · split <;> omega
      · exact b
/-- how many are calm; how many lead to one; how many to none -/
def ccF (cm : Int → Int) : Nat → Int → Int
  | 0, _ => 0
  | r + 1, k => (if cm k = 0 then 0 else 1) + ccF cm r (k + 1)
def bsF (ld cm : Int → Int) (al e : Int) : Nat → Int → Int
  | 0, _ => 0
  | r + 1, k => (if enA ld cm al k = e then 1 else 0) + bsF ld cm al e r (k + 1)
def nvF (ld cm : Int → Int) (al : Int) : Nat → Int → Int
  | 0, _ => 0
  | r + 1, k => (if enA ld cm al k < 0 then 1 else 0) + nvF ld cm al r (k + 1)
def clmS (A X : Int → Int) (s i pl : Int) : Int := if i = -1 then ccF (clE (tbS A X s) (elZ (A 0) s).2) (fac (elZ (A 0) s).2).toNat 0 else if 0 ≤ cmF (clE (tbS A X s) (elZ (A 0) s).2) i (fac (elZ (A 0) s).2).toNat 0 0 ∧ (0 ≤ pl ∧ pl ≤ (elZ (A 0) s).2 - 1) then (elZ (A 0) s).1 (dec (elZ (A 0) s).2 (cmF (clE (tbS A X s) (elZ (A 0) s).2) i (fac (elZ (A 0) s).2).toNat 0 0) pl) else -1
def clmA (A X : Int → Int) (s i pl : Int) : Int := if (1 ≤ s ∧ s ≤ 2 ^ (A 0).toNat - 1) ∧ bc s ≤ 6 then (if -1 ≤ i then clmS A X s i pl else -1) else -1
def bsnS (A X : Int → Int) (s i : Int) : Int := if cmF (clE (tbS A X s) (elZ (A 0) s).2) i (fac (elZ (A 0) s).2).toNat 0 0 < 0 then -1 else bsF (ldJ (tbS A X s) (elZ (A 0) s).2) (clE (tbS A X s) (elZ (A 0) s).2) (fac (elZ (A 0) s).2) (cmF (clE (tbS A X s) (elZ (A 0) s).2) i (fac (elZ (A 0) s).2).toNat 0 0) (fac (elZ (A 0) s).2).toNat 0
def bsnA (A X : Int → Int) (s i : Int) : Int := if (1 ≤ s ∧ s ≤ 2 ^ (A 0).toNat - 1) ∧ bc s ≤ 6 then (if 0 ≤ i then bsnS A X s i else -1) else -1
def nvrA (A X : Int → Int) (s : Int) : Int := if (1 ≤ s ∧ s ≤ 2 ^ (A 0).toNat - 1) ∧ bc s ≤ 6 then nvF (ldJ (tbS A X s) (elZ (A 0) s).2) (clE (tbS A X s) (elZ (A 0) s).2) (fac (elZ (A 0) s).2) (fac (elZ (A 0) s).2).toNat 0 else -1
theorem setC_m {N s : Int} (h0 : 0 ≤ N ∧ N ≤ 10) (h : (1 ≤ s ∧ s ≤ 2 ^ N.toNat - 1) ∧ bc s ≤ 6) : inI s ∧ (elZ N s).2 = bc s ∧ (0 ≤ (elZ N s).2 ∧ (elZ N s).2 ≤ 6) := by
  have p := pow_bd h0
  have e := elZ_bc (s := s) h0 (by omega) (by omega)
  have b := elZ_sp (N := N) (s := s) h0.1
  exact ⟨⟨by omega, by omega⟩, e, by omega⟩
section TG
variable {g : jjG} {d : Nat} {T : jjT} {Q : jjQ}
theorem tw_calm_2 {l1 l2 l3 : Int} {v : Int → Int → Int} (hT : PT T) (hV : PV v) (ha : 0 ≤ v 539 35 ∧ v 539 35 ≤ 720) : ∀ (r : Nat) (k n : Int), 0 ≤ k → k + r = v 539 35 → (0 ≤ n ∧ n ≤ k) →
    Q (.inl (some (vI (n + ccF (v 553) r k)))) (v, T) →
    jW bX2_calm (g, d + 8, 0, 0, Q) 2 [some (vR 539), some (vI l1), some (vI l2), some (vI l3), some (vI n), some (vI k)] [] (v, T) 0 0 := by
  intro r
  induction r with
  | zero =>
    intro k n hk hr hn hQ
    unfold ccF at hQ
    refine jW_step ?_
    simp (disch := (first | decide | omega)) only [bX2_calm, jxs, hps, jtsw, jlsw, List.length_cons, List.length_nil, true_and, and_true, true_implies, false_implies, implies_true, not_true_eq_false, not_false_eq_true, false_and, and_false, if_true, if_false, or_true, true_or, or_false, false_or, Classical.not_not, and_self, Int.reduceAdd, Int.reduceMul, Int.reduceSub, Int.reduceNeg, Int.reduceLT, Int.reduceLE, Int.reduceEq, Int.reduceNe, Int.reduceToNat, Nat.reduceAdd, Nat.reduceMul, Nat.reduceSub, Nat.reduceLeDiff, Nat.reduceLT, Nat.reduceEqDiff, reduceIte, Nat.zero_le, Nat.le_refl, Nat.add_zero, Nat.zero_add, twT hT, twV hV]
    (repeat (refine And.intro (by (first | omega | assumption | trivial | (simp only [inI]; omega) | (simp only [inL]; omega) | (refine jb_01) | (exact jb_in))) ?_))
    (try refine ⟨fun _ => ?_, fun h9 => (by exfalso; omega)⟩)
    (repeat (refine And.intro (by (first | omega | assumption | trivial | (simp only [inI]; omega) | (simp only [inL]; omega) | (refine jb_01) | (exact jb_in))) ?_))
    rwa [show n + 0 = n by omega] at hQ
  | succ r ih =>
    intro k n hk hr hn hQ
    unfold ccF at hQ
    have k3 : ∀ z, z = (if v 553 k = 0 then (0 : Int) else 1) → jW bX2_calm (g, d + 8, 0, 0, Q) 3 [some (vR 539), some (vI l1), some (vI l2), some (vI l3), some (vI n), some (vI k)] [vI z, vI n] (v, T) 0 0 := by
      intro z hz
      have z1 : 0 ≤ z ∧ z ≤ 1 := by rw [hz]; split <;> omega
      rw [← hz] at hQ
      refine jW_step ?_
      simp (disch := (first | decide | omega)) only [bX2_calm, jxs, hps, jtsw, jlsw, List.length_cons, List.length_nil, true_and, and_true, true_implies, false_implies, implies_true, not_true_eq_false, not_false_eq_true, false_and, and_false, if_true, if_false, or_true, true_or, or_false, false_or, Classical.not_not, and_self, Int.reduceAdd, Int.reduceMul, Int.reduceSub, Int.reduceNeg, Int.reduceLT, Int.reduceLE, Int.reduceEq, Int.reduceNe, Int.reduceToNat, Nat.reduceAdd, Nat.reduceMul, Nat.reduceSub, Nat.reduceLeDiff, Nat.reduceLT, Nat.reduceEqDiff, reduceIte, Nat.zero_le, Nat.le_refl, Nat.add_zero, Nat.zero_add, twT hT, twV hV]
      (repeat (refine And.intro (by (first | omega | assumption | trivial | (simp only [inI]; omega) | (simp only [inL]; omega) | (refine jb_01) | (exact jb_in))) ?_))
      refine ih (k + 1) (n + z) (by omega) (by omega) (by omega) ?_
      rw [show n + z + ccF (v 553) r (k + 1) = n + (z + ccF (v 553) r (k + 1)) by omega]
      exact hQ
    refine jW_step ?_
    simp (disch := (first | decide | omega)) only [bX2_calm, jxs, hps, jtsw, jlsw, List.length_cons, List.length_nil, true_and, and_true, true_implies, false_implies, implies_true, not_true_eq_false, not_false_eq_true, false_and, and_false, if_true, if_false, or_true, true_or, or_false, false_or, Classical.not_not, and_self, Int.reduceAdd, Int.reduceMul, Int.reduceSub, Int.reduceNeg, Int.reduceLT, Int.reduceLE, Int.reduceEq, Int.reduceNe, Int.reduceToNat, Nat.reduceAdd, Nat.reduceMul, Nat.reduceSub, Nat.reduceLeDiff, Nat.reduceLT, Nat.reduceEqDiff, reduceIte, Nat.zero_le, Nat.le_refl, Nat.add_zero, Nat.zero_add, twT hT, twV hV]
    (repeat (refine And.intro (by (first | omega | assumption | trivial | (simp only [inI]; omega) | (simp only [inL]; omega) | (refine jb_01) | (exact jb_in))) ?_))
    (first | refine ⟨fun h9 => (by exfalso; omega), fun _ => ?_⟩ | intro _)
    (repeat (refine And.intro (by (first | omega | assumption | trivial | (simp only [inI]; omega) | (simp only [inL]; omega) | (refine jb_01) | (exact jb_in))) ?_))
    refine ⟨fun h => ?_, fun h => ?_⟩
    · first | exact k3 1 (by rw [if_neg h]) | exact k3 0 (by rw [if_pos h])
    · first | exact k3 0 (by rw [if_pos (by omega)]) | exact k3 1 (by rw [if_neg (by omega)])
theorem ccF_cg {cm cm' : Int → Int} {al : Int} (h2 : EQm al cm cm') : ∀ (r : Nat) (k : Int), 0 ≤ k → k + r = al → ccF cm r k = ccF cm' r k
  | 0, _, _, _ => rfl
  | r + 1, k, hk, hr => by
    unfold ccF
    rw [h2 k hk (by omega), ccF_cg h2 r (k + 1) (by omega) (by omega)]
theorem tw_calm {v : Int → Int → Int} {s i pl : Int} (hT : PT T) (hV : PV v) (hS : TE v) (hQ : ∀ u, jko v u → Q (.inl (some (vI (clmA (v 540) (v 542) s i pl)))) (u, T)) : jmet g (d + 9) 0 0 MX2_calm [vR 539, vI s, vI i, vI pl] (v, T) Q := by
  have hE := hS
  have h0 := hE.1.1
  unfold clmA at hQ
  refine jmet_of (ls := [some (vR 539), some (vI s), some (vI i), some (vI pl), none, none]) sX2_calm rfl (by decide +kernel) (by decide) rfl (by simp [jent]) ?_
  refine jW_step ?_
  simp (disch := (first | decide | omega)) only [bX2_calm, jxs, hps, jtsw, jlsw, List.length_cons, List.length_nil, true_and, and_true, true_implies, false_implies, implies_true, not_true_eq_false, not_false_eq_true, false_and, and_false, if_true, if_false, or_true, true_or, or_false, false_or, Classical.not_not, and_self, Int.reduceAdd, Int.reduceMul, Int.reduceSub, Int.reduceNeg, Int.reduceLT, Int.reduceLE, Int.reduceEq, Int.reduceNe, Int.reduceToNat, Nat.reduceAdd, Nat.reduceMul, Nat.reduceSub, Nat.reduceLeDiff, Nat.reduceLT, Nat.reduceEqDiff, reduceIte, Nat.zero_le, Nat.le_refl, Nat.add_zero, Nat.zero_add, twT hT, twV hV]
  refine ⟨0, 0, ⟨by omega, by omega⟩, tw_isSet hT hV h0 ⟨fun h => ?_, fun h => ?_⟩⟩
  · unfold setC at h
    rw [if_pos h] at hQ
    have sm := setC_m h0 h
    simp (disch := (first | decide | omega)) only [jxs, hps, jtsw, jlsw, List.length_cons, List.length_nil, true_and, and_true, true_implies, false_implies, implies_true, not_true_eq_false, not_false_eq_true, false_and, and_false, if_true, if_false, or_true, true_or, or_false, false_or, Classical.not_not, and_self, Int.reduceAdd, Int.reduceMul, Int.reduceSub, Int.reduceNeg, Int.reduceLT, Int.reduceLE, Int.reduceEq, Int.reduceNe, Int.reduceToNat, Nat.reduceAdd, Nat.reduceMul, Nat.reduceSub, Nat.reduceLeDiff, Nat.reduceLT, Nat.reduceEqDiff, reduceIte, Nat.zero_le, Nat.le_refl, Nat.add_zero, Nat.zero_add, twT hT, twV hV]
    refine ⟨fun h2 => ?_, fun h2 => ?_⟩
    · rw [if_pos (by omega)] at hQ
      refine ⟨0, 0, ⟨by omega, by omega⟩, tw_laySet hT hV ⟨hE, sm.1, sm.2.2.2⟩ ?_⟩
      intro w hw jw _
      have hVw := jw.pv hV
      unfold clmS at hQ
      have sp := elZ_sp (N := v 540 0) (s := s) h0.1
      have m0 := sm.2.2
      generalize tbS (v 540) (v 542) s = c at *
      generalize (elZ (v 540 0) s).2 = m at *
      generalize (elZ (v 540 0) s).1 = el at *
      have hf := fac_bd m0.2
      obtain ⟨w34, w35, w54, w51, wF⟩ := hw
      have cl := wF.cl
      have hV := hVw
      simp (disch := (first | decide | omega)) only [jxs, hps, jtsw, jlsw, List.length_cons, List.length_nil, true_and, and_true, true_implies, false_implies, implies_true, not_true_eq_false, not_false_eq_true, false_and, and_false, if_true, if_false, or_true, true_or, or_false, false_or, Classical.not_not, and_self, Int.reduceAdd, Int.reduceMul, Int.reduceSub, Int.reduceNeg, Int.reduceLT, Int.reduceLE, Int.reduceEq, Int.reduceNe, Int.reduceToNat, Nat.reduceAdd, Nat.reduceMul, Nat.reduceSub, Nat.reduceLeDiff, Nat.reduceLT, Nat.reduceEqDiff, reduceIte, Nat.zero_le, Nat.le_refl, Nat.add_zero, Nat.zero_add, twT hT, twV hV]
      refine ⟨fun h3 => ?_, fun h3 => ?_⟩
      · rw [if_neg h3] at hQ
        (repeat (refine And.intro (by (first | omega | assumption | trivial | (simp only [inI]; omega) | (simp only [inL]; omega) | (refine jb_01) | (exact jb_in))) ?_))
        refine ⟨0, 0, ⟨by omega, by omega⟩, tw_calmOrder hT hV (by rw [w35]; omega) ?_⟩
        rw [w35, cmF_cg cl (fac m).toNat 0 0 (by omega) (by omega)]
        have kb := cmF_bd (cm := clE c m) (i := i) (al := fac m) (fac m).toNat 0 0 (by omega) (by omega)
        rw [if_neg (show ¬ fac m = 0 by omega)] at kb
        generalize cmF (clE c m) i (fac m).toNat 0 0 = k at *
        simp (disch := (first | decide | omega)) only [jxs, hps, jtsw, jlsw, List.length_cons, List.length_nil, true_and, and_true, true_implies, false_implies, implies_true, not_true_eq_false, not_false_eq_true, false_and, and_false, if_true, if_false, or_true, true_or, or_false, false_or, Classical.not_not, and_self, Int.reduceAdd, Int.reduceMul, Int.reduceSub, Int.reduceNeg, Int.reduceLT, Int.reduceLE, Int.reduceEq, Int.reduceNe, Int.reduceToNat, Nat.reduceAdd, Nat.reduceMul, Nat.reduceSub, Nat.reduceLeDiff, Nat.reduceLT, Nat.reduceEqDiff, reduceIte, Nat.zero_le, Nat.le_refl, Nat.add_zero, Nat.zero_add, twT hT, twV hV]
        refine ⟨fun h4 => ?_, fun h4 => ?_⟩
        · rw [if_neg (by omega)] at hQ
          refine jW_step ?_
          simp (disch := (first | decide | omega)) only [bX2_calm, jxs, hps, jtsw, jlsw, List.length_cons, List.length_nil, true_and, and_true, true_implies, false_implies, implies_true, not_true_eq_false, not_false_eq_true, false_and, and_false, if_true, if_false, or_true, true_or, or_false, false_or, Classical.not_not, and_self, Int.reduceAdd, Int.reduceMul, Int.reduceSub, Int.reduceNeg, Int.reduceLT, Int.reduceLE, Int.reduceEq, Int.reduceNe, Int.reduceToNat, Nat.reduceAdd, Nat.reduceMul, Nat.reduceSub, Nat.reduceLeDiff, Nat.reduceLT, Nat.reduceEqDiff, reduceIte, Nat.zero_le, Nat.le_refl, Nat.add_zero, Nat.zero_add, twT hT, twV hV]
          refine jW_step ?_
          simp (disch := (first | decide | omega)) only [bX2_calm, jxs, hps, jtsw, jlsw, List.length_cons, List.length_nil, true_and, and_true, true_implies, false_implies, implies_true, not_true_eq_false, not_false_eq_true, false_and, and_false, if_true, if_false, or_true, true_or, or_false, false_or, Classical.not_not, and_self, Int.reduceAdd, Int.reduceMul, Int.reduceSub, Int.reduceNeg, Int.reduceLT, Int.reduceLE, Int.reduceEq, Int.reduceNe, Int.reduceToNat, Nat.reduceAdd, Nat.reduceMul, Nat.reduceSub, Nat.reduceLeDiff, Nat.reduceLT, Nat.reduceEqDiff, reduceIte, Nat.zero_le, Nat.le_refl, Nat.add_zero, Nat.zero_add, twT hT, twV hV]
          (repeat (refine And.intro (by (first | omega | assumption | trivial | (simp only [inI]; omega) | (simp only [inL]; omega) | (refine jb_01) | (exact jb_in))) ?_))
          exact hQ w jw
        · (repeat (refine And.intro (by (first | omega | assumption | trivial | (simp only [inI]; omega) | (simp only [inL]; omega) | (refine jb_01) | (exact jb_in))) ?_))
          rw [w34]
          (repeat (refine And.intro (by (first | omega | assumption | trivial | (simp only [inI]; omega) | (simp only [inL]; omega) | (refine jb_01) | (exact jb_in))) ?_))
          refine ⟨0, 0, ⟨by omega, by omega⟩, tw_isIn hT (by (first | assumption | (repeat (first | assumption | refine PV.A ?_ (by decide) | refine PV.F ?_ ?_ | refine twR.up ?_ (by decide) | refine PV.r ?_)))) (by (first | omega | assumption | trivial | (simp only [inI]; omega) | (simp only [inL]; omega) | (refine jb_01) | (exact jb_in))) ?_⟩
          simp (disch := (first | decide | omega)) only [jxs, hps, jtsw, jlsw, List.length_cons, List.length_nil, true_and, and_true, true_implies, false_implies, implies_true, not_true_eq_false, not_false_eq_true, false_and, and_false, if_true, if_false, or_true, true_or, or_false, false_or, Classical.not_not, and_self, Int.reduceAdd, Int.reduceMul, Int.reduceSub, Int.reduceNeg, Int.reduceLT, Int.reduceLE, Int.reduceEq, Int.reduceNe, Int.reduceToNat, Nat.reduceAdd, Nat.reduceMul, Nat.reduceSub, Nat.reduceLeDiff, Nat.reduceLT, Nat.reduceEqDiff, reduceIte, Nat.zero_le, Nat.le_refl, Nat.add_zero, Nat.zero_add, twT hT, twV hV]
          refine ⟨fun h5 => ?_, fun h5 => ?_⟩
          · rw [if_neg (by omega)] at hQ
            refine jW_step ?_
            simp (disch := (first | decide | omega)) only [bX2_calm, jxs, hps, jtsw, jlsw, List.length_cons, List.length_nil, true_and, and_true, true_implies, false_implies, implies_true, not_true_eq_false, not_false_eq_true, false_and, and_false, if_true, if_false, or_true, true_or, or_false, false_or, Classical.not_not, and_self, Int.reduceAdd, Int.reduceMul, Int.reduceSub, Int.reduceNeg, Int.reduceLT, Int.reduceLE, Int.reduceEq, Int.reduceNe, Int.reduceToNat, Nat.reduceAdd, Nat.reduceMul, Nat.reduceSub, Nat.reduceLeDiff, Nat.reduceLT, Nat.reduceEqDiff, reduceIte, Nat.zero_le, Nat.le_refl, Nat.add_zero, Nat.zero_add, twT hT, twV hV]
            refine jW_step ?_
            simp (disch := (first | decide | omega)) only [bX2_calm, jxs, hps, jtsw, jlsw, List.length_cons, List.length_nil, true_and, and_true, true_implies, false_implies, implies_true, not_true_eq_false, not_false_eq_true, false_and, and_false, if_true, if_false, or_true, true_or, or_false, false_or, Classical.not_not, and_self, Int.reduceAdd, Int.reduceMul, Int.reduceSub, Int.reduceNeg, Int.reduceLT, Int.reduceLE, Int.reduceEq, Int.reduceNe, Int.reduceToNat, Nat.reduceAdd, Nat.reduceMul, Nat.reduceSub, Nat.reduceLeDiff, Nat.reduceLT, Nat.reduceEqDiff, reduceIte, Nat.zero_le, Nat.le_refl, Nat.add_zero, Nat.zero_add, twT hT, twV hV]
            (repeat (refine And.intro (by (first | omega | assumption | trivial | (simp only [inI]; omega) | (simp only [inL]; omega) | (refine jb_01) | (exact jb_in))) ?_))
            exact hQ w jw
          · rw [if_pos ⟨by omega, h5⟩] at hQ
            have e1 := w51 k pl (by omega) (by omega) (by omega) (by omega)
            have db := (dec_st m0 (n := k) (p := pl) ⟨by omega, by omega⟩ ⟨by omega, by omega⟩).2.2.1
            have e2 := w54 (dec m k pl) db.1 db.2
            (repeat (refine And.intro (by (first | omega | assumption | trivial | (simp only [inI]; omega) | (simp only [inL]; omega) | (refine jb_01) | (exact jb_in))) ?_))
            rw [e1]
            (repeat (refine And.intro (by (first | omega | assumption | trivial | (simp only [inI]; omega) | (simp only [inL]; omega) | (refine jb_01) | (exact jb_in))) ?_))
            refine jW_step ?_
            simp (disch := (first | decide | omega)) only [bX2_calm, jxs, hps, jtsw, jlsw, List.length_cons, List.length_nil, true_and, and_true, true_implies, false_implies, implies_true, not_true_eq_false, not_false_eq_true, false_and, and_false, if_true, if_false, or_true, true_or, or_false, false_or, Classical.not_not, and_self, Int.reduceAdd, Int.reduceMul, Int.reduceSub, Int.reduceNeg, Int.reduceLT, Int.reduceLE, Int.reduceEq, Int.reduceNe, Int.reduceToNat, Nat.reduceAdd, Nat.reduceMul, Nat.reduceSub, Nat.reduceLeDiff, Nat.reduceLT, Nat.reduceEqDiff, reduceIte, Nat.zero_le, Nat.le_refl, Nat.add_zero, Nat.zero_add, twT hT, twV hV]
            (repeat (refine And.intro (by (first | omega | assumption | trivial | (simp only [inI]; omega) | (simp only [inL]; omega) | (refine jb_01) | (exact jb_in))) ?_))
            rw [e2]
            exact hQ w jw
      · rw [if_pos (by omega)] at hQ
        refine tw_calm_2 hT hV (by rw [w35]; omega) (fac m).toNat 0 0 (by omega) (by rw [w35]; omega) (by omega) ?_
        rw [ccF_cg cl (fac m).toNat 0 (by omega) (by omega), Int.zero_add]
        exact hQ w jw
    · rw [if_neg (by omega)] at hQ
      refine jW_step ?_
      simp (disch := (first | decide | omega)) only [bX2_calm, jxs, hps, jtsw, jlsw, List.length_cons, List.length_nil, true_and, and_true, true_implies, false_implies, implies_true, not_true_eq_false, not_false_eq_true, false_and, and_false, if_true, if_false, or_true, true_or, or_false, false_or, Classical.not_not, and_self, Int.reduceAdd, Int.reduceMul, Int.reduceSub, Int.reduceNeg, Int.reduceLT, Int.reduceLE, Int.reduceEq, Int.reduceNe, Int.reduceToNat, Nat.reduceAdd, Nat.reduceMul, Nat.reduceSub, Nat.reduceLeDiff, Nat.reduceLT, Nat.reduceEqDiff, reduceIte, Nat.zero_le, Nat.le_refl, Nat.add_zero, Nat.zero_add, twT hT, twV hV]
      (repeat (refine And.intro (by (first | omega | assumption | trivial | (simp only [inI]; omega) | (simp only [inL]; omega) | (refine jb_01) | (exact jb_in))) ?_))
      exact hQ v jko.rf
  · unfold setC at h
    rw [if_neg h] at hQ
    simp (disch := (first | decide | omega)) only [jxs, hps, jtsw, jlsw, List.length_cons, List.length_nil, true_and, and_true, true_implies, false_implies, implies_true, not_true_eq_false, not_false_eq_true, false_and, and_false, if_true, if_false, or_true, true_or, or_false, false_or, Classical.not_not, and_self, Int.reduceAdd, Int.reduceMul, Int.reduceSub, Int.reduceNeg, Int.reduceLT, Int.reduceLE, Int.reduceEq, Int.reduceNe, Int.reduceToNat, Nat.reduceAdd, Nat.reduceMul, Nat.reduceSub, Nat.reduceLeDiff, Nat.reduceLT, Nat.reduceEqDiff, reduceIte, Nat.zero_le, Nat.le_refl, Nat.add_zero, Nat.zero_add, twT hT, twV hV]
    refine jW_step ?_
    simp (disch := (first | decide | omega)) only [bX2_calm, jxs, hps, jtsw, jlsw, List.length_cons, List.length_nil, true_and, and_true, true_implies, false_implies, implies_true, not_true_eq_false, not_false_eq_true, false_and, and_false, if_true, if_false, or_true, true_or, or_false, false_or, Classical.not_not, and_self, Int.reduceAdd, Int.reduceMul, Int.reduceSub, Int.reduceNeg, Int.reduceLT, Int.reduceLE, Int.reduceEq, Int.reduceNe, Int.reduceToNat, Nat.reduceAdd, Nat.reduceMul, Nat.reduceSub, Nat.reduceLeDiff, Nat.reduceLT, Nat.reduceEqDiff, reduceIte, Nat.zero_le, Nat.le_refl, Nat.add_zero, Nat.zero_add, twT hT, twV hV]
    (repeat (refine And.intro (by (first | omega | assumption | trivial | (simp only [inI]; omega) | (simp only [inL]; omega) | (refine jb_01) | (exact jb_in))) ?_))
    exact hQ v jko.rf
end TG
