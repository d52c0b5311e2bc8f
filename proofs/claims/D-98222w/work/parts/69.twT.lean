/-! ===== the reference: nudges, whole ===== -/
set_option maxRecDepth 100000
theorem LAID.fr {v w : Int → Int → Int} {m : Int} {el c : Int → Int} (h : LAID v m el c) (h1 : w 539 = v 539) (h2 : w 551 = v 551) (h3 : w 552 = v 552) (h4 : w 553 = v 553) (h5 : w 554 = v 554) : LAID w m el c := by
  unfold LAID FLD
  rw [h1, h2, h3, h4, h5]
  exact h
def ndgS (A : Int → Int) (s b p o q : Int) : Int := ng1 (elZ (A 0) (shsA A s)).1 (A (13 + s)) b p o q (fac (A (13 + s))).toNat 0 (up1 (fun _ => -1) (fstA A s) 0) (up1 (fun _ => 0) 0 (fstA A s)) 1
def ndgA (A : Int → Int) (s b p o q : Int) : Int := if (0 ≤ s ∧ s ≤ 2) ∧ A (13 + s) ≤ 6 ∧ ithP A b s p ∧ (o = -1 ∨ (o ≠ b ∧ ithP A o s q)) then ndgS A s b p o q else -1
theorem INV_0 {m f : Int} (hm : 0 ≤ m ∧ m ≤ 6) (hf : 0 ≤ f ∧ f < fac m) : INV m (up1 (fun _ => -1) f 0) (up1 (fun _ => 0) 0 f) 1 := by
  have z : ∀ n : Nat, cnT (fun _ => (-1 : Int)) n = 0 := by
    intro n
    induction n with
    | zero => rfl
    | succ n ih => unfold cnT; rw [ih]; rfl
  have c := cnT_up (tk := fun _ => (-1 : Int)) (t := f) (z := 0) hf.1 (by decide) (by decide) (fac m).toNat (by omega)
  rw [z] at c
  refine ⟨by rw [c.1]; rfl, fun j j0 j1 => ?_, fun j j0 j1 => ?_⟩
  · rw [show j = 0 by omega, up1_eq, up1_eq]; omega
  · by_cases e : j = f
    · rw [e, up1_eq]; omega
    · rw [up1_ne e]; omega
section TG
variable {g : jjG} {d : Nat} {T : jjT} {Q : jjQ}
theorem tw_ng_4 {l1 l2 l3 l4 l5 l6 al : Int} (hT : PT T) (ha : 0 ≤ al ∧ al ≤ 720) : ∀ (r : Nat) (k : Int) (v : Int → Int → Int), PV v → v 539 35 = al → 0 ≤ k → k + r = al → EQm k (v 557) (fun _ => -1) →
    (∀ w, EQm al (w 557) (fun _ => -1) → (∀ a, a ≠ 557 → w a = v a) → jW bX2_nudges (g, d + 9, 0, 0, Q) 4 [some (vR 539), some (vI l1), some (vI l2), some (vI l3), some (vI l4), some (vI l5), some (vI l6), some (vI al), none, none, none, none] [] (w, T) 0 0) →
    jW bX2_nudges (g, d + 9, 0, 0, Q) 4 [some (vR 539), some (vI l1), some (vI l2), some (vI l3), some (vI l4), some (vI l5), some (vI l6), some (vI k), none, none, none, none] [] (v, T) 0 0 := by
  intro r
  induction r with
  | zero =>
    intro k v hV h35 hk hr he hQ
    have := hQ v (by rwa [show al = k by omega]) (fun _ _ => rfl)
    rwa [show al = k by omega] at this
  | succ r ih =>
    intro k v hV h35 hk hr he hQ
    refine jW_step ?_
    simp (disch := (first | decide | omega)) only [bX2_nudges, jxs, hps, jtsw, jlsw, List.length_cons, List.length_nil, true_and, and_true, true_implies, false_implies, implies_true, not_true_eq_false, not_false_eq_true, false_and, and_false, if_true, if_false, or_true, true_or, or_false, false_or, Classical.not_not, and_self, Int.reduceAdd, Int.reduceMul, Int.reduceSub, Int.reduceNeg, Int.reduceLT, Int.reduceLE, Int.reduceEq, Int.reduceNe, Int.reduceToNat, Nat.reduceAdd, Nat.reduceMul, Nat.reduceSub, Nat.reduceLeDiff, Nat.reduceLT, Nat.reduceEqDiff, reduceIte, Nat.zero_le, Nat.le_refl, Nat.add_zero, Nat.zero_add, twT hT, twV hV, h35]
    (repeat (refine And.intro (by (first | omega | assumption | trivial | (simp only [inI]; omega) | (simp only [inL]; omega) | (refine jb_01) | (exact jb_in))) ?_))
    (first | refine ⟨fun h9 => (by exfalso; omega), fun _ => ?_⟩ | intro _)
    (repeat (refine And.intro (by (first | omega | assumption | trivial | (simp only [inI]; omega) | (simp only [inL]; omega) | (refine jb_01) | (exact jb_in))) ?_))
    refine ih (k + 1) _ (by (first | assumption | (repeat (first | assumption | refine PV.A ?_ (by decide) | refine PV.F ?_ ?_ | refine twR.up ?_ (by decide) | refine PV.r ?_)))) (by rw [upA_ne (by omega)]; exact h35) (by omega) (by omega) ?_ ?_
    · rw [upA_eq]
      intro i i0 i1
      by_cases e : i = k
      · rw [e, up1_eq]
      · rw [up1_ne e]; exact he i i0 (by omega)
    · intro w w1 w2
      exact hQ w w1 (fun a ha => (w2 a ha).trans (upA_ne ha))
theorem tw_ng_5 {l1 b p o q l6 m : Int} {el c : Int → Int} (hT : PT T) (hm : 0 ≤ m ∧ m ≤ 6) (hb : b = -1 ∨ (0 ≤ p ∧ p < m)) (ho : o = -1 ∨ (0 ≤ q ∧ q < m)) : ∀ (r : Nat) (k : Int) (v : Int → Int → Int) (tk qu : Int → Int) (en : Int), PV v → LAID v m el c → 0 ≤ k → k + r = fac m → EQm (fac m) (v 557) tk → EQm en (v 556) qu → INV m tk qu en →
    (∀ u, jko v u → Q (.inl (some (vI (ng1 el m b p o q r k tk qu en)))) (u, T)) →
    jW bX2_nudges (g, d + 9, 0, 0, Q) 5 [some (vR 539), some (vI l1), some (vI b), some (vI p), some (vI o), some (vI q), some (vI l6), some (vI en), some (vI k), none, none, none] [] (v, T) 0 0 := by
  have hf := fac_bd hm.2
  intro r
  induction r with
  | zero =>
    intro k v tk qu en hV hL hk hr ht hq hI hQ
    unfold ng1 at hQ
    have enb := cnT_bd (tk := tk) (fac m).toNat
    have en1 := hI.1
    refine jW_step ?_
    simp (disch := (first | decide | omega)) only [bX2_nudges, jxs, hps, jtsw, jlsw, List.length_cons, List.length_nil, true_and, and_true, true_implies, false_implies, implies_true, not_true_eq_false, not_false_eq_true, false_and, and_false, if_true, if_false, or_true, true_or, or_false, false_or, Classical.not_not, and_self, Int.reduceAdd, Int.reduceMul, Int.reduceSub, Int.reduceNeg, Int.reduceLT, Int.reduceLE, Int.reduceEq, Int.reduceNe, Int.reduceToNat, Nat.reduceAdd, Nat.reduceMul, Nat.reduceSub, Nat.reduceLeDiff, Nat.reduceLT, Nat.reduceEqDiff, reduceIte, Nat.zero_le, Nat.le_refl, Nat.add_zero, Nat.zero_add, twT hT, twV hV]
    (try refine ⟨fun _ => ?_, fun h9 => (by exfalso; omega)⟩)
    (repeat (refine And.intro (by (first | omega | assumption | trivial | (simp only [inI]; omega) | (simp only [inL]; omega) | (refine jb_01) | (exact jb_in))) ?_))
    exact hQ v jko.rf
  | succ r ih =>
    intro k v tk qu en hV hL hk hr ht hq hI hQ
    unfold ng1 at hQ
    have enb := cnT_bd (tk := tk) (fac m).toNat
    have en1 := hI.1
    refine jW_step ?_
    simp (disch := (first | decide | omega)) only [bX2_nudges, jxs, hps, jtsw, jlsw, List.length_cons, List.length_nil, true_and, and_true, true_implies, false_implies, implies_true, not_true_eq_false, not_false_eq_true, false_and, and_false, if_true, if_false, or_true, true_or, or_false, false_or, Classical.not_not, and_self, Int.reduceAdd, Int.reduceMul, Int.reduceSub, Int.reduceNeg, Int.reduceLT, Int.reduceLE, Int.reduceEq, Int.reduceNe, Int.reduceToNat, Nat.reduceAdd, Nat.reduceMul, Nat.reduceSub, Nat.reduceLeDiff, Nat.reduceLT, Nat.reduceEqDiff, reduceIte, Nat.zero_le, Nat.le_refl, Nat.add_zero, Nat.zero_add, twT hT, twV hV]
    refine ⟨fun h => ?_, fun h => ?_⟩
    · rw [if_pos h] at hQ
      (repeat (refine And.intro (by (first | omega | assumption | trivial | (simp only [inI]; omega) | (simp only [inL]; omega) | (refine jb_01) | (exact jb_in))) ?_))
      exact hQ v jko.rf
    · rw [if_neg h] at hQ
      have qk := hI.2.1 k hk (by omega)
      have e1 := hq k hk (by omega)
      have e2 := ht (qu k) qk.1.1 qk.1.2
      have k6 : ¬ ((b = -1 ∨ el (dec m (qu k) p) = b) ∧ (o = -1 ∨ el (dec m (qu k) q) = o)) → jW bX2_nudges (g, d + 9, 0, 0, Q) 6 [some (vR 539), some (vI l1), some (vI b), some (vI p), some (vI o), some (vI q), some (vI l6), some (vI en), some (vI k), some (vI (qu k)), none, none] [] (v, T) 0 0 := by
        intro hh
        rw [if_neg hh] at hQ
        refine jW_step ?_
        simp (disch := (first | decide | omega)) only [bX2_nudges, jxs, hps, jtsw, jlsw, List.length_cons, List.length_nil, true_and, and_true, true_implies, false_implies, implies_true, not_true_eq_false, not_false_eq_true, false_and, and_false, if_true, if_false, or_true, true_or, or_false, false_or, Classical.not_not, and_self, Int.reduceAdd, Int.reduceMul, Int.reduceSub, Int.reduceNeg, Int.reduceLT, Int.reduceLE, Int.reduceEq, Int.reduceNe, Int.reduceToNat, Nat.reduceAdd, Nat.reduceMul, Nat.reduceSub, Nat.reduceLeDiff, Nat.reduceLT, Nat.reduceEqDiff, reduceIte, Nat.zero_le, Nat.le_refl, Nat.add_zero, Nat.zero_add, twT hT, twV hV]
        refine tw_ng_7 hT hm qk.1 ⟨hk, by omega⟩ (m - 1).toNat 0 v tk qu en hV hL.1 hL.2.2.2.1 (by omega) (by omega) (by omega) ht hq hI qk.2 ?_
        intro w w1 w2 w3 w4
        have jw : jko v w := ⟨⟨v 539 34, v 539 35, by rw [up1_id, up1_id]; exact w1 539 (by omega) (by omega) (by omega)⟩, fun a a1 a2 => w1 a (by omega) (by omega) (by omega)⟩
        refine ih (k + 1) w _ _ _ (jw.pv hV) (hL.fr (w1 539 (by omega) (by omega) (by omega)) (w1 551 (by omega) (by omega) (by omega)) (w1 552 (by omega) (by omega) (by omega)) (w1 553 (by omega) (by omega) (by omega)) (w1 554 (by omega) (by omega) (by omega))) (by omega) (by omega) w2 w3 w4 ?_
        intro u hu
        exact hQ u (jw.tr hu)
      (repeat (refine And.intro (by (first | omega | assumption | trivial | (simp only [inI]; omega) | (simp only [inL]; omega) | (refine jb_01) | (exact jb_in))) ?_))
      rw [e1]
      generalize qu k = n at *
      refine ⟨0, 0, ⟨by omega, by omega⟩, tw_isAt hT hV ⟨hL, hm, qk.1, hb⟩ ⟨fun h1 => ?_, fun h1 => ?_⟩⟩
      · simp (disch := (first | decide | omega)) only [jxs, hps, jtsw, jlsw, List.length_cons, List.length_nil, true_and, and_true, true_implies, false_implies, implies_true, not_true_eq_false, not_false_eq_true, false_and, and_false, if_true, if_false, or_true, true_or, or_false, false_or, Classical.not_not, and_self, Int.reduceAdd, Int.reduceMul, Int.reduceSub, Int.reduceNeg, Int.reduceLT, Int.reduceLE, Int.reduceEq, Int.reduceNe, Int.reduceToNat, Nat.reduceAdd, Nat.reduceMul, Nat.reduceSub, Nat.reduceLeDiff, Nat.reduceLT, Nat.reduceEqDiff, reduceIte, Nat.zero_le, Nat.le_refl, Nat.add_zero, Nat.zero_add, twT hT, twV hV]
        refine ⟨0, 0, ⟨by omega, by omega⟩, tw_isAt hT hV ⟨hL, hm, qk.1, ho⟩ ⟨fun h2 => ?_, fun h2 => ?_⟩⟩
        · rw [if_pos ⟨h1, h2⟩] at hQ
          simp (disch := (first | decide | omega)) only [jxs, hps, jtsw, jlsw, List.length_cons, List.length_nil, true_and, and_true, true_implies, false_implies, implies_true, not_true_eq_false, not_false_eq_true, false_and, and_false, if_true, if_false, or_true, true_or, or_false, false_or, Classical.not_not, and_self, Int.reduceAdd, Int.reduceMul, Int.reduceSub, Int.reduceNeg, Int.reduceLT, Int.reduceLE, Int.reduceEq, Int.reduceNe, Int.reduceToNat, Nat.reduceAdd, Nat.reduceMul, Nat.reduceSub, Nat.reduceLeDiff, Nat.reduceLT, Nat.reduceEqDiff, reduceIte, Nat.zero_le, Nat.le_refl, Nat.add_zero, Nat.zero_add, twT hT, twV hV]
          (repeat (refine And.intro (by (first | omega | assumption | trivial | (simp only [inI]; omega) | (simp only [inL]; omega) | (refine jb_01) | (exact jb_in))) ?_))
          rw [e2]
          exact hQ v jko.rf
        · simp (disch := (first | decide | omega)) only [jxs, hps, jtsw, jlsw, List.length_cons, List.length_nil, true_and, and_true, true_implies, false_implies, implies_true, not_true_eq_false, not_false_eq_true, false_and, and_false, if_true, if_false, or_true, true_or, or_false, false_or, Classical.not_not, and_self, Int.reduceAdd, Int.reduceMul, Int.reduceSub, Int.reduceNeg, Int.reduceLT, Int.reduceLE, Int.reduceEq, Int.reduceNe, Int.reduceToNat, Nat.reduceAdd, Nat.reduceMul, Nat.reduceSub, Nat.reduceLeDiff, Nat.reduceLT, Nat.reduceEqDiff, reduceIte, Nat.zero_le, Nat.le_refl, Nat.add_zero, Nat.zero_add, twT hT, twV hV]
          exact k6 (fun hh => h2 hh.2)
      · simp (disch := (first | decide | omega)) only [jxs, hps, jtsw, jlsw, List.length_cons, List.length_nil, true_and, and_true, true_implies, false_implies, implies_true, not_true_eq_false, not_false_eq_true, false_and, and_false, if_true, if_false, or_true, true_or, or_false, false_or, Classical.not_not, and_self, Int.reduceAdd, Int.reduceMul, Int.reduceSub, Int.reduceNeg, Int.reduceLT, Int.reduceLE, Int.reduceEq, Int.reduceNe, Int.reduceToNat, Nat.reduceAdd, Nat.reduceMul, Nat.reduceSub, Nat.reduceLeDiff, Nat.reduceLT, Nat.reduceEqDiff, reduceIte, Nat.zero_le, Nat.le_refl, Nat.add_zero, Nat.zero_add, twT hT, twV hV]
        exact k6 (fun hh => h1 hh.1)
theorem tw_nudges {v : Int → Int → Int} {s b p o q : Int} (hT : PT T) (hV : PV v) (hS : TE v ∧ SH (v 540)) (hQ : ∀ u, jko v u → Q (.inl (some (vI (ndgA (v 540) s b p o q)))) (u, T)) : jmet g (d + 10) 0 0 MX2_nudges [vR 539, vI s, vI b, vI p, vI o, vI q] (v, T) Q := by
  obtain ⟨hE, hH⟩ := hS
  have h0 := hE.1.1
  unfold ndgA at hQ
  refine jmet_of (ls := [some (vR 539), some (vI s), some (vI b), some (vI p), some (vI o), some (vI q), none, none, none, none, none, none]) sX2_nudges rfl (by decide +kernel) (by decide) rfl (by simp [jent]) ?_
  have no : ¬ ((0 ≤ s ∧ s ≤ 2) ∧ v 540 (13 + s) ≤ 6 ∧ ithP (v 540) b s p) → jW bX2_nudges (g, d + 9, 0, 0, Q) 1 [some (vR 539), some (vI s), some (vI b), some (vI p), some (vI o), some (vI q), none, none, none, none, none, none] [] (v, T) 0 0 := by
    intro hh
    rw [if_neg (fun x => hh ⟨x.1, x.2.1, x.2.2.1⟩)] at hQ
    refine jW_step ?_
    simp (disch := (first | decide | omega)) only [bX2_nudges, jxs, hps, jtsw, jlsw, List.length_cons, List.length_nil, true_and, and_true, true_implies, false_implies, implies_true, not_true_eq_false, not_false_eq_true, false_and, and_false, if_true, if_false, or_true, true_or, or_false, false_or, Classical.not_not, and_self, Int.reduceAdd, Int.reduceMul, Int.reduceSub, Int.reduceNeg, Int.reduceLT, Int.reduceLE, Int.reduceEq, Int.reduceNe, Int.reduceToNat, Nat.reduceAdd, Nat.reduceMul, Nat.reduceSub, Nat.reduceLeDiff, Nat.reduceLT, Nat.reduceEqDiff, reduceIte, Nat.zero_le, Nat.le_refl, Nat.add_zero, Nat.zero_add, twT hT, twV hV]
    (repeat (refine And.intro (by (first | omega | assumption | trivial | (simp only [inI]; omega) | (simp only [inL]; omega) | (refine jb_01) | (exact jb_in))) ?_))
    exact hQ v jko.rf
  have no2 : ¬ (o = -1 ∨ (o ≠ b ∧ ithP (v 540) o s q)) → jW bX2_nudges (g, d + 9, 0, 0, Q) 2 [some (vR 539), some (vI s), some (vI b), some (vI p), some (vI o), some (vI q), none, none, none, none, none, none] [] (v, T) 0 0 := by
    intro hh
    rw [if_neg (fun x => hh x.2.2.2)] at hQ
    refine jW_step ?_
    simp (disch := (first | decide | omega)) only [bX2_nudges, jxs, hps, jtsw, jlsw, List.length_cons, List.length_nil, true_and, and_true, true_implies, false_implies, implies_true, not_true_eq_false, not_false_eq_true, false_and, and_false, if_true, if_false, or_true, true_or, or_false, false_or, Classical.not_not, and_self, Int.reduceAdd, Int.reduceMul, Int.reduceSub, Int.reduceNeg, Int.reduceLT, Int.reduceLE, Int.reduceEq, Int.reduceNe, Int.reduceToNat, Nat.reduceAdd, Nat.reduceMul, Nat.reduceSub, Nat.reduceLeDiff, Nat.reduceLT, Nat.reduceEqDiff, reduceIte, Nat.zero_le, Nat.le_refl, Nat.add_zero, Nat.zero_add, twT hT, twV hV]
    (repeat (refine And.intro (by (first | omega | assumption | trivial | (simp only [inI]; omega) | (simp only [inL]; omega) | (refine jb_01) | (exact jb_in))) ?_))
    exact hQ v jko.rf
  have go : ((0 ≤ s ∧ s ≤ 2) ∧ v 540 (13 + s) ≤ 6 ∧ ithP (v 540) b s p ∧ (o = -1 ∨ (o ≠ b ∧ ithP (v 540) o s q))) → jW bX2_nudges (g, d + 9, 0, 0, Q) 3 [some (vR 539), some (vI s), some (vI b), some (vI p), some (vI o), some (vI q), none, none, none, none, none, none] [] (v, T) 0 0 := by
    intro hh
    rw [if_pos hh] at hQ
    obtain ⟨hs, h6, hb, ho⟩ := hh
    have hm := hE.1.2.2.2.2.2.1 (13 + s) (by omega) (by omega)
    have hf := fac_bd h6
    have fd := fst_dec hE.1 hH ⟨hs.1, by omega⟩ h6
    refine jW_step ?_
    simp (disch := (first | decide | omega)) only [bX2_nudges, jxs, hps, jtsw, jlsw, List.length_cons, List.length_nil, true_and, and_true, true_implies, false_implies, implies_true, not_true_eq_false, not_false_eq_true, false_and, and_false, if_true, if_false, or_true, true_or, or_false, false_or, Classical.not_not, and_self, Int.reduceAdd, Int.reduceMul, Int.reduceSub, Int.reduceNeg, Int.reduceLT, Int.reduceLE, Int.reduceEq, Int.reduceNe, Int.reduceToNat, Nat.reduceAdd, Nat.reduceMul, Nat.reduceSub, Nat.reduceLeDiff, Nat.reduceLT, Nat.reduceEqDiff, reduceIte, Nat.zero_le, Nat.le_refl, Nat.add_zero, Nat.zero_add, twT hT, twV hV]
    refine ⟨0, 0, ⟨by omega, by omega⟩, tw_layShelf hT hV ⟨hE, hH, ⟨hs.1, by omega⟩, h6⟩ ?_⟩
    intro w hL hO jw
    have hVw := jw.pv hV
    have hb2 : b = -1 ∨ (0 ≤ p ∧ p < v 540 (13 + s)) := Or.inr (by unfold ithP at hb; omega)
    have ho2 : o = -1 ∨ (0 ≤ q ∧ q < v 540 (13 + s)) := by
      rcases ho with ho | ho
      · exact Or.inl ho
      · exact Or.inr (by unfold ithP at ho; omega)
    unfold ndgS at hQ
    have fb := fd.1
    have I0 := INV_0 ⟨hm.1, h6⟩ fb
    generalize fstA (v 540) s = f0 at *
    generalize (elZ (v 540 0) (shsA (v 540) s)).1 = el at *
    generalize tbS (v 540) (v 542) (shsA (v 540) s) = c at *
    generalize v 540 (13 + s) = m at *
    simp (disch := (first | decide | omega)) only [jxs, hps, jtsw, jlsw, List.length_cons, List.length_nil, true_and, and_true, true_implies, false_implies, implies_true, not_true_eq_false, not_false_eq_true, false_and, and_false, if_true, if_false, or_true, true_or, or_false, false_or, Classical.not_not, and_self, Int.reduceAdd, Int.reduceMul, Int.reduceSub, Int.reduceNeg, Int.reduceLT, Int.reduceLE, Int.reduceEq, Int.reduceNe, Int.reduceToNat, Nat.reduceAdd, Nat.reduceMul, Nat.reduceSub, Nat.reduceLeDiff, Nat.reduceLT, Nat.reduceEqDiff, reduceIte, Nat.zero_le, Nat.le_refl, Nat.add_zero, Nat.zero_add, twT hT, twV hV]
    refine tw_ng_4 hT (al := fac m) (by omega) (fac m).toNat 0 w hVw hL.2.1 (by omega) (by omega) (fun i i0 i1 => by omega) ?_
    intro u u1 u2
    have hVu : PV u := hVw.fr (fun a ha => u2 a (fun e => by subst e; revert ha; decide))
    have u35 : u 539 35 = fac m := by rw [u2 539 (by omega)]; exact hL.2.1
    have hLu : LAID u m el c := hL.fr (u2 539 (by omega)) (u2 551 (by omega)) (u2 552 (by omega)) (u2 553 (by omega)) (u2 554 (by omega))
    have ju : jko w u := ⟨⟨w 539 34, w 539 35, by rw [up1_id, up1_id]; exact u2 539 (by omega)⟩, fun a a1 a2 => u2 a (by omega)⟩
    have hV := hVu
    refine jW_step ?_
    simp (disch := (first | decide | omega)) only [bX2_nudges, jxs, hps, jtsw, jlsw, List.length_cons, List.length_nil, true_and, and_true, true_implies, false_implies, implies_true, not_true_eq_false, not_false_eq_true, false_and, and_false, if_true, if_false, or_true, true_or, or_false, false_or, Classical.not_not, and_self, Int.reduceAdd, Int.reduceMul, Int.reduceSub, Int.reduceNeg, Int.reduceLT, Int.reduceLE, Int.reduceEq, Int.reduceNe, Int.reduceToNat, Nat.reduceAdd, Nat.reduceMul, Nat.reduceSub, Nat.reduceLeDiff, Nat.reduceLT, Nat.reduceEqDiff, reduceIte, Nat.zero_le, Nat.le_refl, Nat.add_zero, Nat.zero_add, twT hT, twV hV, u35]
    (repeat (refine And.intro (by (first | omega | assumption | trivial | (simp only [inI]; omega) | (simp only [inL]; omega) | (refine jb_01) | (exact jb_in))) ?_))
    (try refine ⟨fun _ => ?_, fun h9 => (by exfalso; omega)⟩)
    (repeat (refine And.intro (by (first | omega | assumption | trivial | (simp only [inI]; omega) | (simp only [inL]; omega) | (refine jb_01) | (exact jb_in))) ?_))
    have jy : jko u (upA (upA u 556 (up1 (u 556) 0 f0)) 557 (up1 (u 557) f0 0)) := (jko.up (v := u) (a := 556) (by omega)).tr (jko.up (a := 557) (by omega))
    refine tw_ng_5 (el := el) (c := c) hT ⟨hm.1, h6⟩ hb2 ho2 (fac m).toNat 0 (upA (upA u 556 (up1 (u 556) 0 f0)) 557 (up1 (u 557) f0 0)) (up1 (fun _ => -1) f0 0) (up1 (fun _ => 0) 0 f0) 1 (by (first | assumption | (repeat (first | assumption | refine PV.A ?_ (by decide) | refine PV.F ?_ ?_ | refine twR.up ?_ (by decide) | refine PV.r ?_)))) (hLu.fr (by rw [upA_ne (by omega), upA_ne (by omega)]) (by rw [upA_ne (by omega), upA_ne (by omega)]) (by rw [upA_ne (by omega), upA_ne (by omega)]) (by rw [upA_ne (by omega), upA_ne (by omega)]) (by rw [upA_ne (by omega), upA_ne (by omega)])) (by omega) (by omega) ?_ ?_ I0 ?_
    · rw [upA_eq]
      intro i i0 i1
      by_cases e : i = f0
      · rw [e, up1_eq, up1_eq]
      · rw [up1_ne e, up1_ne e]; exact u1 i i0 i1
    · rw [upA_ne (by omega), upA_eq]
      intro i i0 i1
      rw [show i = 0 by omega, up1_eq, up1_eq]
    · intro y hy
      exact hQ y (((jw.tr ju).tr jy).tr hy)
  refine jW_step ?_
  simp (disch := (first | decide | omega)) only [bX2_nudges, jxs, hps, jtsw, jlsw, List.length_cons, List.length_nil, true_and, and_true, true_implies, false_implies, implies_true, not_true_eq_false, not_false_eq_true, false_and, and_false, if_true, if_false, or_true, true_or, or_false, false_or, Classical.not_not, and_self, Int.reduceAdd, Int.reduceMul, Int.reduceSub, Int.reduceNeg, Int.reduceLT, Int.reduceLE, Int.reduceEq, Int.reduceNe, Int.reduceToNat, Nat.reduceAdd, Nat.reduceMul, Nat.reduceSub, Nat.reduceLeDiff, Nat.reduceLT, Nat.reduceEqDiff, reduceIte, Nat.zero_le, Nat.le_refl, Nat.add_zero, Nat.zero_add, twT hT, twV hV]
  refine ⟨0, 0, ⟨by omega, by omega⟩, tw_isShelf hT (by (first | assumption | (repeat (first | assumption | refine PV.A ?_ (by decide) | refine PV.F ?_ ?_ | refine twR.up ?_ (by decide) | refine PV.r ?_)))) (by (first | omega | assumption | trivial | (simp only [inI]; omega) | (simp only [inL]; omega) | (refine jb_01) | (exact jb_in))) ?_⟩
  simp (disch := (first | decide | omega)) only [jxs, hps, jtsw, jlsw, List.length_cons, List.length_nil, true_and, and_true, true_implies, false_implies, implies_true, not_true_eq_false, not_false_eq_true, false_and, and_false, if_true, if_false, or_true, true_or, or_false, false_or, Classical.not_not, and_self, Int.reduceAdd, Int.reduceMul, Int.reduceSub, Int.reduceNeg, Int.reduceLT, Int.reduceLE, Int.reduceEq, Int.reduceNe, Int.reduceToNat, Nat.reduceAdd, Nat.reduceMul, Nat.reduceSub, Nat.reduceLeDiff, Nat.reduceLT, Nat.reduceEqDiff, reduceIte, Nat.zero_le, Nat.le_refl, Nat.add_zero, Nat.zero_add, twT hT, twV hV]
  refine ⟨fun h => ?_, fun h => ?_⟩
  · exact no (fun x => h x.1)
  · have hm := hE.1.2.2.2.2.2.1 (13 + s) (by omega) (by omega)
    (repeat (refine And.intro (by (first | omega | assumption | trivial | (simp only [inI]; omega) | (simp only [inL]; omega) | (refine jb_01) | (exact jb_in))) ?_))
    refine ⟨fun h2 => ?_, fun h2 => ?_⟩
    · exact no (fun x => by omega)
    · refine ⟨0, 0, ⟨by omega, by omega⟩, tw_isThere hT hV hE ⟨fun h3 => ?_, fun h3 => ?_⟩⟩
      · simp (disch := (first | decide | omega)) only [jxs, hps, jtsw, jlsw, List.length_cons, List.length_nil, true_and, and_true, true_implies, false_implies, implies_true, not_true_eq_false, not_false_eq_true, false_and, and_false, if_true, if_false, or_true, true_or, or_false, false_or, Classical.not_not, and_self, Int.reduceAdd, Int.reduceMul, Int.reduceSub, Int.reduceNeg, Int.reduceLT, Int.reduceLE, Int.reduceEq, Int.reduceNe, Int.reduceToNat, Nat.reduceAdd, Nat.reduceMul, Nat.reduceSub, Nat.reduceLeDiff, Nat.reduceLT, Nat.reduceEqDiff, reduceIte, Nat.zero_le, Nat.le_refl, Nat.add_zero, Nat.zero_add, twT hT, twV hV]
        refine ⟨fun h4 => ?_, fun h4 => ?_⟩
        · exact go ⟨h, by omega, h3, Or.inl h4⟩
        · refine ⟨fun h5 => ?_, fun h5 => ?_⟩
          · exact no2 (fun x => by rcases x with x | x; exact h4 x; exact x.1 h5)
          · refine ⟨0, 0, ⟨by omega, by omega⟩, tw_isThere hT hV hE ⟨fun h6 => ?_, fun h6 => ?_⟩⟩
            · simp (disch := (first | decide | omega)) only [jxs, hps, jtsw, jlsw, List.length_cons, List.length_nil, true_and, and_true, true_implies, false_implies, implies_true, not_true_eq_false, not_false_eq_true, false_and, and_false, if_true, if_false, or_true, true_or, or_false, false_or, Classical.not_not, and_self, Int.reduceAdd, Int.reduceMul, Int.reduceSub, Int.reduceNeg, Int.reduceLT, Int.reduceLE, Int.reduceEq, Int.reduceNe, Int.reduceToNat, Nat.reduceAdd, Nat.reduceMul, Nat.reduceSub, Nat.reduceLeDiff, Nat.reduceLT, Nat.reduceEqDiff, reduceIte, Nat.zero_le, Nat.le_refl, Nat.add_zero, Nat.zero_add, twT hT, twV hV]
              exact go ⟨h, by omega, h3, Or.inr ⟨h5, h6⟩⟩
            · simp (disch := (first | decide | omega)) only [jxs, hps, jtsw, jlsw, List.length_cons, List.length_nil, true_and, and_true, true_implies, false_implies, implies_true, not_true_eq_false, not_false_eq_true, false_and, and_false, if_true, if_false, or_true, true_or, or_false, false_or, Classical.not_not, and_self, Int.reduceAdd, Int.reduceMul, Int.reduceSub, Int.reduceNeg, Int.reduceLT, Int.reduceLE, Int.reduceEq, Int.reduceNe, Int.reduceToNat, Nat.reduceAdd, Nat.reduceMul, Nat.reduceSub, Nat.reduceLeDiff, Nat.reduceLT, Nat.reduceEqDiff, reduceIte, Nat.zero_le, Nat.le_refl, Nat.add_zero, Nat.zero_add, twT hT, twV hV]
              exact no2 (fun x => by rcases x with x | x; exact h4 x; exact h6 x.2)
      · simp (disch := (first | decide | omega)) only [jxs, hps, jtsw, jlsw, List.length_cons, List.length_nil, true_and, and_true, true_implies, false_implies, implies_true, not_true_eq_false, not_false_eq_true, false_and, and_false, if_true, if_false, or_true, true_or, or_false, false_or, Classical.not_not, and_self, Int.reduceAdd, Int.reduceMul, Int.reduceSub, Int.reduceNeg, Int.reduceLT, Int.reduceLE, Int.reduceEq, Int.reduceNe, Int.reduceToNat, Nat.reduceAdd, Nat.reduceMul, Nat.reduceSub, Nat.reduceLeDiff, Nat.reduceLT, Nat.reduceEqDiff, reduceIte, Nat.zero_le, Nat.le_refl, Nat.add_zero, Nat.zero_add, twT hT, twV hV]
        exact no (fun x => h3 x.2.2)
end TG
