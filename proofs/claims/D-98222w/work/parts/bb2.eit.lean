/-! ===== the class: questions joined by or ===== -/
-- MODE N
set_option maxRecDepth 100000
section XG
variable {g : jjG} {d : Nat} {Q : jjQ} {tk : Int} {B : Int → Int} {n k0 : Nat} {o kd : Int} {T : jjT} {v : Int → Int → Int}
theorem xw_either_1 {pf : Nat → pR} {fu mc ms : Nat} (hs : SpT g tk B n kd MX3_both pf o fu (d + 13) 9 90) (hG : ∀ k, k ≤ n → GP n k (pf k)) (htk : 562 ≤ tk ∧ tk < T.2) : ∀ (f k : Nat) (acc : List (Int × Int)) (w : Int → Int → Int) (T' : jjT) (m c : Nat) (cs : Nat → List (Int × Int)) (nc ns : Nat), n < f + k → GRT tk v T w T' → TKS w T' tk B n k o kd → GLS w T' T.2 ((m : Int) + 1) c → TLS w T' T.2 fu cs (m + 1) → acc = alc cs 22 m → (10 ≤ c ∧ (c ≤ 10 ∨ 2 * c ≤ 3 * (m + 1))) → m + k0 < k →
    (nc + 1 + 24 * (eR n (chnL B n pf 212 212 (fun _ => 22) f k acc) - k) ≤ mc) → (ns + 82 + 160 * (eR n (chnL B n pf 212 212 (fun _ => 22) f k acc) - k) + 200 * m ≤ ms + 8 * c) → qTR Q v T tk B n o kd (fu + 1) (chnL B n pf 212 212 (fun _ => 22) f k acc) →
    jW bX3_either (g, d + 13, mc, ms, Q) 1 [some (vR tk), some (vR T.2)] [] (w, T') nc ns := by
  intro f
  induction f with
  | zero =>
    intro k acc w T' m c cs nc ns hf hGR hS
    have := hS.2.2.2.2
    omega
  | succ f ih =>
    intro k acc w T' m c cs nc ns hf hGR hS hC hEL ha hcm hmk hnc hns hQ
    obtain ⟨⟨t0, t2, t3, h2⟩, ⟨f3, f4, f6, f7⟩, ⟨hk, hn⟩, hO, f5⟩ := hS.st
    have tL := hC.1.1
    have ele := hC.1.2.2.2.2
    have elc := hC.2.1
    dsimp only at ele tL
    rw [elc] at ele
    unfold chnL at hnc hns hQ
    by_cases hop : stT B n k = 212
    · rw [if_pos (Or.inl hop)] at hnc hns hQ
      have nl := nx_lt (B := B) hk (by omega)
      have hg := hG (nxT B n k) nl.2
      refine jW_step ?_
      simp (disch := (first | decide | omega)) only [bX3_either, jxs, hps, jtsw, jlsw, List.length_cons, List.length_nil, true_and, and_true, true_implies, false_implies, implies_true, not_true_eq_false, not_false_eq_true, false_and, and_false, if_true, if_false, or_true, true_or, or_false, false_or, Classical.not_not, and_self, Int.reduceAdd, Int.reduceMul, Int.reduceSub, Int.reduceNeg, Int.reduceLT, Int.reduceLE, Int.reduceEq, Int.reduceNe, Int.reduceToNat, Nat.reduceAdd, Nat.reduceMul, Nat.reduceSub, Nat.reduceLeDiff, Nat.reduceLT, Nat.reduceEqDiff, reduceIte, Nat.zero_le, Nat.le_refl, Nat.add_zero, Nat.zero_add, t0, f4]
      (first | refine ⟨fun h9 => (by exfalso; omega), fun _ => ?_⟩ | intro _)
      refine ⟨0, 0, ⟨by omega, by omega⟩, xw_next (d := d + 7) hS.nx ?_⟩
      intro w1 e1 hS1
      have g1 : GRT tk w T' w1 T' := GRT.of e1
      obtain ⟨hE1, hC1, eL1⟩ := hEL.gr hC g1 htk
      simp (disch := (first | decide | omega)) only [jxs, hps, jtsw, jlsw, List.length_cons, List.length_nil, true_and, and_true, true_implies, false_implies, implies_true, not_true_eq_false, not_false_eq_true, false_and, and_false, if_true, if_false, or_true, true_or, or_false, false_or, Classical.not_not, and_self, Int.reduceAdd, Int.reduceMul, Int.reduceSub, Int.reduceNeg, Int.reduceLT, Int.reduceLE, Int.reduceEq, Int.reduceNe, Int.reduceToNat, Nat.reduceAdd, Nat.reduceMul, Nat.reduceSub, Nat.reduceLeDiff, Nat.reduceLT, Nat.reduceEqDiff, reduceIte, Nat.zero_le, Nat.le_refl, Nat.add_zero, Nat.zero_add, t0]
      refine ⟨cC n 9 (pf (nxT B n k)) (nxT B n k), cS n 90 (pf (nxT B n k)) (nxT B n k), ?_⟩
      have sp := fun Q => hs (nxT B n k) w1 T' Q hS1
      revert hnc hns hQ sp hg
      cases pf (nxT B n k) with
      | inl e =>
        intro hnc hns hQ hg sp
        have hnc' : nc + 1 + 24 * (n + 1 - k) ≤ mc := hnc
        have hns' : ns + 82 + 160 * (n + 1 - k) + 200 * m ≤ ms + 8 * c := hns
        have ec : cC n 9 (.inl e) (nxT B n k) = 24 * (n + 1 - nxT B n k) - 9 := rfl
        have es : cS n 90 (.inl e) (nxT B n k) = 160 * (n + 1 - nxT B n k) - 90 := rfl
        refine ⟨⟨by omega, by omega⟩, sp _ ⟨fun ff pp hfp => ?_, fun x hx => (by cases hx)⟩⟩
        cases hfp
        intro w2 T2 a q1 q2 q3 q4 q5
        simp (disch := (first | decide | omega)) only [jxs, hps, jtsw, jlsw, List.length_cons, List.length_nil, true_and, and_true, true_implies, false_implies, implies_true, not_true_eq_false, not_false_eq_true, false_and, and_false, if_true, if_false, or_true, true_or, or_false, false_or, Classical.not_not, and_self, Int.reduceAdd, Int.reduceMul, Int.reduceSub, Int.reduceNeg, Int.reduceLT, Int.reduceLE, Int.reduceEq, Int.reduceNe, Int.reduceToNat, Nat.reduceAdd, Nat.reduceMul, Nat.reduceSub, Nat.reduceLeDiff, Nat.reduceLT, Nat.reduceEqDiff, reduceIte, Nat.zero_le, Nat.le_refl, Nat.add_zero, Nat.zero_add]
        exact ⟨by omega, by omega, hQ.1 _ _ rfl w2 T2 a ((hGR.tr g1).tr q1) q2 q3 q4 q5⟩
      | inr x =>
        intro hnc hns hQ hg sp
        have gx := hg x rfl
        have rg := chn_ge (B := B) (oc := fun _ => 22) (o1 := 212) (o2 := 212) ⟨by decide, by decide⟩ hG f x.2 (acc ++ (x.1 ++ [(22, 0)])) gx.2.1
        dsimp only at hnc hns hQ
        generalize hR2 : chnL B n pf 212 212 (fun _ => 22) f x.2 (acc ++ (x.1 ++ [(22, 0)])) = R2 at *
        have ec : cC n 9 (.inr x) (nxT B n k) = 24 * (x.2 - nxT B n k) - 9 := rfl
        have es : cS n 90 (.inr x) (nxT B n k) = 160 * (x.2 - nxT B n k) - 90 := rfl
        refine ⟨⟨by omega, by omega⟩, sp _ ⟨fun ff pp hfp => (by cases hfp), fun x' hx => ?_⟩⟩
        cases hx
        intro w2 T2 a g2 hS2 V2
        obtain ⟨hE2, hC2, eL2⟩ := hE1.gr hC1 g2 htk
        have h22 := hS2.st.1.2.2.2
        have tL2 := hC2.1.1
        have lT := hC1.1.1.2.1
        have lE := hC1.1.2.2.2.1.2.1
        have lE2 := hC2.1.2.2.2.1.2.1
        dsimp only at tL2 lT lE lE2
        have gb : gcp (c : Int) = (gcN c : Int) := gcN_eq
        simp (disch := (first | decide | omega)) only [jxs, hps, jtsw, jlsw, List.length_cons, List.length_nil, true_and, and_true, true_implies, false_implies, implies_true, not_true_eq_false, not_false_eq_true, false_and, and_false, if_true, if_false, or_true, true_or, or_false, false_or, Classical.not_not, and_self, Int.reduceAdd, Int.reduceMul, Int.reduceSub, Int.reduceNeg, Int.reduceLT, Int.reduceLE, Int.reduceEq, Int.reduceNe, Int.reduceToNat, Nat.reduceAdd, Nat.reduceMul, Nat.reduceSub, Nat.reduceLeDiff, Nat.reduceLT, Nat.reduceEqDiff, reduceIte, Nat.zero_le, Nat.le_refl, Nat.add_zero, Nat.zero_add, tL2]
        generalize cC n 9 (.inr x) (nxT B n k) = c1 at *
        generalize cS n 90 (.inr x) (nxT B n k) = s1 at *
        have hgc : m + 1 = c → gcN c + 8 * c ≤ 8 * gcN c := fun _ => by unfold gcN; split <;> omega
        have hgd : m + 1 = c → 10 ≤ gcN c ∧ 2 * gcN c ≤ 3 * (m + 1) := fun q => by unfold gcN; split <;> omega
        refine ⟨if m + 1 = c then 1 else 0, if m + 1 = c then gcN c else 0, ⟨?_, ?_⟩, xj_add (d := d + 2) hC2 (V2.at.2.sub (by decide)) h22 (by omega) (fun q => ?_) ?_⟩
        · split <;> omega
        · split
          · rename_i q
            have := hgc q
            omega
          · omega
        · have q' : m + 1 = c := by omega
          rw [if_pos q', if_pos q', gb]
          omega
        intro y T3 y1 y2 y3 y4 y5 y6 y7
        have ty2 := hGR.tr (g1.tr g2)
        have fe : ∀ b, 0 < b → b < T2.2 → fzL w2 T.2 b → fzL y T.2 b ∧ y b = w2 b := fun b b0 b1 b2 => ⟨by unfold fzL at b2 ⊢; omega, y3 b b0 b1 (by unfold fzL at b2; omega) (by unfold fzL at b2; omega)⟩
        have ecc : (if ((m : Int) + 1) = (c : Int) then gcp (c : Int) else (c : Int)) = ((if m + 1 = c then gcN c else c : Nat) : Int) := by
          by_cases q : m + 1 = c
          · rw [if_pos (by omega), if_pos q]; exact gb
          · rw [if_neg (by omega), if_neg q]
        rw [ecc] at y4
        simp (disch := (first | decide | omega)) only [jxs, hps, jtsw, jlsw, List.length_cons, List.length_nil, true_and, and_true, true_implies, false_implies, implies_true, not_true_eq_false, not_false_eq_true, false_and, and_false, if_true, if_false, or_true, true_or, or_false, false_or, Classical.not_not, and_self, Int.reduceAdd, Int.reduceMul, Int.reduceSub, Int.reduceNeg, Int.reduceLT, Int.reduceLE, Int.reduceEq, Int.reduceNe, Int.reduceToNat, Nat.reduceAdd, Nat.reduceMul, Nat.reduceSub, Nat.reduceLeDiff, Nat.reduceLT, Nat.reduceEqDiff, reduceIte, Nat.zero_le, Nat.le_refl, Nat.add_zero, Nat.zero_add]
        have lo : ∀ b, 0 < b → b < T.2 → y b = w2 b := fun b b0 b1 => y3 b b0 (by have := ty2.1; omega) (by omega) (by have := hE2.1; omega)
        refine ih x.2 (acc ++ (x.1 ++ [(22, 0)])) y T3 (m + 1) (if m + 1 = c then gcN c else c) (fun i => if i = m + 1 then x.1 else cs i) _ _ (by omega) ⟨by have := ty2.1; omega, fun b b0 b1 => (y2 b b0 (by have := ty2.1; omega)).trans (ty2.2.1 b b0 b1), fun b b0 b1 b2 => (lo b b0 b1).trans (ty2.2.2 b b0 b1 b2)⟩ (hS2.fr (fun b b0 b1 => lo b b0 (by omega)) y2 y1 (lo tk (by omega) (by omega))) y4 ⟨?_, fun i hi => ?_⟩ ?_ ?_ (by omega) ?_ ?_ ?_
        · have z1 := hE2.1
          have z2 := tL2.2.1
          omega
        · show TRP (fzL y T.2) y T3 fu (aGet (y, T3) T.2 i) (if i = m + 1 then x.1 else cs i)
          by_cases q : i = m + 1
          · rw [q]
            have y7' : aGet (y, T3) T.2 ((m + 1 : Nat) : Int) = a := y7
            rw [y7', if_pos rfl]
            refine V2.mo (fun b b0 b1 b2 => ?_) y2 y1
            have fz : fzL w2 T.2 b := by
              rw [← eL2] at lE
              have tg := (hGR.tr g1).1
              unfold nwP at b2
              unfold fzL
              omega
            exact fe b b0 b1 fz
          · rw [if_neg q, y6 i (by omega) (by omega)]
            exact (hE2.2 i (by omega)).mo fe y2 y1
        · rw [ha]
          have ee : alc (fun i => if i = m + 1 then x.1 else cs i) 22 (m + 1) = alc (fun i => if i = m + 1 then x.1 else cs i) 22 m ++ ((if m + 1 = m + 1 then x.1 else cs (m + 1)) ++ [(22, 0)]) := rfl
          rw [ee, if_pos rfl, alc_cg (cs := cs) (cs' := fun i => if i = m + 1 then x.1 else cs i) m (fun i hi => (if_neg (by omega)).symm)]
        · by_cases q : m + 1 = c
          · rw [if_pos q]
            have := hgd q
            omega
          · rw [if_neg q]
            omega
        · rw [hR2]
          by_cases q : m + 1 = c
          · rw [if_pos q]; omega
          · rw [if_neg q]; omega
        · rw [hR2]
          by_cases q : m + 1 = c
          · rw [if_pos q, if_pos q]
            have := hgc q
            omega
          · rw [if_neg q, if_neg q]; omega
        · rw [hR2]
          exact hQ
    · rw [if_neg (fun q => hop (q.elim id id))] at hnc hns hQ
      have hnc' : nc + 1 + 24 * (k - k) ≤ mc := hnc
      have hns' : ns + 82 + 160 * (k - k) + 200 * m ≤ ms + 8 * c := hns
      refine jW_step ?_
      simp (disch := (first | decide | omega)) only [bX3_either, jxs, hps, jtsw, jlsw, List.length_cons, List.length_nil, true_and, and_true, true_implies, false_implies, implies_true, not_true_eq_false, not_false_eq_true, false_and, and_false, if_true, if_false, or_true, true_or, or_false, false_or, Classical.not_not, and_self, Int.reduceAdd, Int.reduceMul, Int.reduceSub, Int.reduceNeg, Int.reduceLT, Int.reduceLE, Int.reduceEq, Int.reduceNe, Int.reduceToNat, Nat.reduceAdd, Nat.reduceMul, Nat.reduceSub, Nat.reduceLeDiff, Nat.reduceLT, Nat.reduceEqDiff, reduceIte, Nat.zero_le, Nat.le_refl, Nat.add_zero, Nat.zero_add, t0, f4, tL]
      (try refine ⟨fun _ => ?_, fun h9 => (by exfalso; omega)⟩)
      refine ⟨0, 0, ⟨by omega, by omega⟩, xj_size (d := d + 12) hC.1 ?_⟩
      have k2 : ∀ (w : Int → Int → Int) (T' : jjT) (a : Int) (nc ns : Nat), nc ≤ mc → ns ≤ ms → GRT tk v T w T' → TKS w T' tk B n k o kd → TRP (nwP T.2) w T' (fu + 1) a acc → jW bX3_either (g, d + 13, mc, ms, Q) 2 [some (vR tk), some (vR T.2)] [vR a] (w, T') nc ns := by
        intro w T' a nc ns b1 b2 z1 z2 z3
        refine jW_step ?_
        simp (disch := (first | decide | omega)) only [bX3_either, jxs, hps, jtsw, jlsw, List.length_cons, List.length_nil, true_and, and_true, true_implies, false_implies, implies_true, not_true_eq_false, not_false_eq_true, false_and, and_false, if_true, if_false, or_true, true_or, or_false, false_or, Classical.not_not, and_self, Int.reduceAdd, Int.reduceMul, Int.reduceSub, Int.reduceNeg, Int.reduceLT, Int.reduceLE, Int.reduceEq, Int.reduceNe, Int.reduceToNat, Nat.reduceAdd, Nat.reduceMul, Nat.reduceSub, Nat.reduceLeDiff, Nat.reduceLT, Nat.reduceEqDiff, reduceIte, Nat.zero_le, Nat.le_refl, Nat.add_zero, Nat.zero_add]
        exact ⟨b1, b2, hQ.2 _ rfl w T' a z1 z2 z3⟩
      have mvv : ∀ (a : Int) (c : List (Int × Int)), TRP (fzL w T.2) w T' fu a c → TRP (nwP T.2) w T' fu a c := fun a c q => q.mo (fun b b0 b1 b2 => ⟨by unfold fzL at b2; unfold nwP; omega, rfl⟩) (fun _ _ _ => rfl) (Int.le_refl _)
      simp (disch := (first | decide | omega)) only [jxs, hps, jtsw, jlsw, List.length_cons, List.length_nil, true_and, and_true, true_implies, false_implies, implies_true, not_true_eq_false, not_false_eq_true, false_and, and_false, if_true, if_false, or_true, true_or, or_false, false_or, Classical.not_not, and_self, Int.reduceAdd, Int.reduceMul, Int.reduceSub, Int.reduceNeg, Int.reduceLT, Int.reduceLE, Int.reduceEq, Int.reduceNe, Int.reduceToNat, Nat.reduceAdd, Nat.reduceMul, Nat.reduceSub, Nat.reduceLeDiff, Nat.reduceLT, Nat.reduceEqDiff, reduceIte, Nat.zero_le, Nat.le_refl, Nat.add_zero, Nat.zero_add]
      refine ⟨fun h1 => ?_, fun h1 => ?_⟩
      · have tA : jok (nt T' 12 2) T'.2 12 := nt_ok (by omega)
        have gN : GRT tk w T' (upA w T'.2 (fun _ => 0)) (nt T' 12 2) := GRT.nt
        have lL := hC.1.1.2.1
        dsimp only at lL
        simp (disch := (first | decide | omega)) only [jxs, hps, jtsw, jlsw, List.length_cons, List.length_nil, true_and, and_true, true_implies, false_implies, implies_true, not_true_eq_false, not_false_eq_true, false_and, and_false, if_true, if_false, or_true, true_or, or_false, false_or, Classical.not_not, and_self, Int.reduceAdd, Int.reduceMul, Int.reduceSub, Int.reduceNeg, Int.reduceLT, Int.reduceLE, Int.reduceEq, Int.reduceNe, Int.reduceToNat, Nat.reduceAdd, Nat.reduceMul, Nat.reduceSub, Nat.reduceLeDiff, Nat.reduceLT, Nat.reduceEqDiff, reduceIte, Nat.zero_le, Nat.le_refl, Nat.add_zero, Nat.zero_add, jnew_eq, nt_2]
        refine ⟨⟨by omega, by omega⟩, ?_⟩
        (repeat (refine And.intro (by (first | omega | assumption | trivial | (simp only [inI]; omega) | (simp only [inL]; omega) | (refine jb_01) | (exact jb_in))) ?_))
        refine ⟨0, 0, ⟨by omega, by omega⟩, xj_all (d := d + 10) tA h2 (by decide) ?_⟩
        rw [upA_eq, upA_same]
        simp (disch := (first | decide | omega)) only [jxs, hps, jtsw, jlsw, List.length_cons, List.length_nil, true_and, and_true, true_implies, false_implies, implies_true, not_true_eq_false, not_false_eq_true, false_and, and_false, if_true, if_false, or_true, true_or, or_false, false_or, Classical.not_not, and_self, Int.reduceAdd, Int.reduceMul, Int.reduceSub, Int.reduceNeg, Int.reduceLT, Int.reduceLE, Int.reduceEq, Int.reduceNe, Int.reduceToNat, Nat.reduceAdd, Nat.reduceMul, Nat.reduceSub, Nat.reduceLeDiff, Nat.reduceLT, Nat.reduceEqDiff, reduceIte, Nat.zero_le, Nat.le_refl, Nat.add_zero, Nat.zero_add]
        have gF : GRT tk w T' (upA w T'.2 (up1 (up1 (fun _ => 0) 0 0) 1 T.2)) (nt T' 12 2) := GRT.nt
        have gT := hGR.1
        obtain ⟨hEF, hCF, eLF⟩ := hEL.gr hC gF htk
        refine k2 _ _ _ _ _ (by omega) (by omega) (hGR.tr gF) (hS.gr gF (upA_ne (by omega))) ?_
        unfold TRP TR
        have e0 : (upA w T'.2 (up1 (up1 (fun _ => 0) 0 0) 1 T.2)) T'.2 0 = 0 := by rw [upA_eq, up1_ne (by decide), up1_eq]
        have e1 : (upA w T'.2 (up1 (up1 (fun _ => 0) 0 0) 1 T.2)) T'.2 1 = T.2 := by rw [upA_eq, up1_eq]
        refine ⟨Or.inr h2, Or.inr (Or.inr ⟨(rsH_in (h := (_, _)) (Or.inr gT) tA).1, m, cs, ?_, fun i hi => ?_, ?_, ?_⟩)⟩
        · show zLst (rsH (nwP T.2) (_, _)) ((upA w T'.2 (up1 (up1 (fun _ => 0) 0 0) 1 T.2)) T'.2 1) _
          rw [e1]
          exact rsH_ls hCF.z (Or.inr (Int.le_refl _)) (by have := hEF.1; unfold nwP; omega)
        · show TR (rsH (nwP T.2) (_, _)) fu (aGet (_, _) ((upA w T'.2 (up1 (up1 (fun _ => 0) 0 0) 1 T.2)) T'.2 1) i) (cs i)
          rw [e1]
          exact (hEF.2 i hi).mo (fun b b0 b1 b2 => ⟨by unfold fzL at b2; unfold nwP; omega, rfl⟩) (fun _ _ _ => rfl) (Int.le_refl _)
        · show (upA w T'.2 (up1 (up1 (fun _ => 0) 0 0) 1 T.2)) T'.2 0 = 0 ∨ (upA w T'.2 (up1 (up1 (fun _ => 0) 0 0) 1 T.2)) T'.2 0 = 1
          rw [e0]
          decide
        · show acc = alc cs (if (upA w T'.2 (up1 (up1 (fun _ => 0) 0 0) 1 T.2)) T'.2 0 = 0 then 22 else 21) m
          rw [e0, ha]
          rfl
      · have m0 : m = 0 := by omega
        subst m0
        have z0 := hEL.2 0 (by omega)
        simp (disch := (first | decide | omega)) only [jxs, hps, jtsw, jlsw, List.length_cons, List.length_nil, true_and, and_true, true_implies, false_implies, implies_true, not_true_eq_false, not_false_eq_true, false_and, and_false, if_true, if_false, or_true, true_or, or_false, false_or, Classical.not_not, and_self, Int.reduceAdd, Int.reduceMul, Int.reduceSub, Int.reduceNeg, Int.reduceLT, Int.reduceLE, Int.reduceEq, Int.reduceNe, Int.reduceToNat, Nat.reduceAdd, Nat.reduceMul, Nat.reduceSub, Nat.reduceLeDiff, Nat.reduceLT, Nat.reduceEqDiff, reduceIte, Nat.zero_le, Nat.le_refl, Nat.add_zero, Nat.zero_add, tL]
        refine ⟨0, 0, ⟨by omega, by omega⟩, xj_get (d := d + 10) (k := 0) hC.1 (by omega) ?_⟩
        have zz : aGet (w, T') T.2 0 = aGet (w, T') T.2 ((0 : Nat) : Int) := rfl
        rw [zz]
        have ja : aGet (w, T') T.2 ((0 : Nat) : Int) = 0 ∨ jisA T' (aGet (w, T') T.2 ((0 : Nat) : Int)) [6, 11, 12] := Or.inr z0.at.2
        simp (disch := (first | decide | omega)) only [jxs, hps, jtsw, jlsw, List.length_cons, List.length_nil, true_and, and_true, true_implies, false_implies, implies_true, not_true_eq_false, not_false_eq_true, false_and, and_false, if_true, if_false, or_true, true_or, or_false, false_or, Classical.not_not, and_self, Int.reduceAdd, Int.reduceMul, Int.reduceSub, Int.reduceNeg, Int.reduceLT, Int.reduceLE, Int.reduceEq, Int.reduceNe, Int.reduceToNat, Nat.reduceAdd, Nat.reduceMul, Nat.reduceSub, Nat.reduceLeDiff, Nat.reduceLT, Nat.reduceEqDiff, reduceIte, Nat.zero_le, Nat.le_refl, Nat.add_zero, Nat.zero_add]
        refine ⟨ja, k2 w T' _ _ _ (by omega) (by omega) hGR hS ?_⟩
        rw [ha]
        exact (mvv _ _ z0).up (by omega)
theorem xw_either {pf : Nat → pR} {fu : Nat} (hs : SpT g tk B n kd MX3_both pf o fu (d + 13) 9 90) (hG : ∀ k, k ≤ n → GP n k (pf k)) : SpT g tk B n kd MX3_either (chP B n pf 212 212 (fun _ => 22)) o (fu + 1) (d + 14) 6 70 := by
  intro k v T Q hS hQ
  obtain ⟨⟨t0, t2, t3, h2⟩, ⟨f3, f4, f6, f7⟩, ⟨hk, hn⟩, hO, f5⟩ := hS.st
  have hg := hG k hk
  have tL : jok (nt T 14 3) T.2 14 := nt_ok (by omega)
  have tk1 : ∀ c n, jok (nt T c n) tk 3 := fun _ _ => jok_nt t0
  generalize hmc : cC n 6 (chP B n pf 212 212 (fun _ => 22) k) k = mc
  generalize hms : cS n 70 (chP B n pf 212 212 (fun _ => 22) k) k = ms
  have bud : 1 ≤ mc ∧ 3 ≤ ms := by
    unfold chP at hmc hms
    revert hmc hms hg
    cases pf k with
    | inl e =>
      intro hg hmc hms
      have hmc' : 24 * (n + 1 - k) - 6 = mc := hmc
      have hms' : 160 * (n + 1 - k) - 70 = ms := hms
      omega
    | inr x =>
      intro hg hmc hms
      have gx := hg x rfl
      have rg := chn_ge (B := B) (oc := fun _ => 22) (o1 := 212) (o2 := 212) ⟨by decide, by decide⟩ hG (n + 1) x.2 x.1 gx.2.1
      have hmc' : 24 * (eR n (chnL B n pf 212 212 (fun _ => 22) (n + 1) x.2 x.1) - k) - 6 = mc := hmc
      have hms' : 160 * (eR n (chnL B n pf 212 212 (fun _ => 22) (n + 1) x.2 x.1) - k) - 70 = ms := hms
      omega
  refine jmet_of (ls := [some (vR tk), none]) sX3_either rfl (by decide +kernel) (by decide) rfl (by simp [jent]) ?_
  refine jW_step ?_
  simp (disch := (first | decide | omega)) only [bX3_either, jxs, hps, jtsw, jlsw, List.length_cons, List.length_nil, true_and, and_true, true_implies, false_implies, implies_true, not_true_eq_false, not_false_eq_true, false_and, and_false, if_true, if_false, or_true, true_or, or_false, false_or, Classical.not_not, and_self, Int.reduceAdd, Int.reduceMul, Int.reduceSub, Int.reduceNeg, Int.reduceLT, Int.reduceLE, Int.reduceEq, Int.reduceNe, Int.reduceToNat, Nat.reduceAdd, Nat.reduceMul, Nat.reduceSub, Nat.reduceLeDiff, Nat.reduceLT, Nat.reduceEqDiff, reduceIte, Nat.zero_le, Nat.le_refl, Nat.add_zero, Nat.zero_add, jnew_eq, nt_2]
  (repeat (refine And.intro (by (first | omega | assumption | trivial | (simp only [inI]; omega) | (simp only [inL]; omega) | (refine jb_01) | (exact jb_in))) ?_))
  refine ⟨0, 0, ⟨by omega, by omega⟩, xj_linit (d := d + 8) tL h2 ?_⟩
  rw [upA_eq, upA_same]
  have gN : GRT tk v T (upA v T.2 (up1 (up1 (fun _ => 0) 0 0) 1 7)) (nt T 14 3) := GRT.nt
  have hSN := hS.gr gN (upA_ne (by omega))
  have hCN : GLS (upA v T.2 (up1 (up1 (fun _ => 0) 0 0) 1 7)) (nt T 14 3) T.2 0 0 := by
    have o1 : jok (nt T 14 3) 7 (-8) := jok_nt hO.2.2.2.2.1
    have o2 : jln (nt T 14 3) 7 = 0 := by rw [jln_nt hO.2.2.2.2.1]; exact hO.2.2.2.2.2
    refine ⟨⟨tL, ?_, by omega, ?_, ?_⟩, ?_, h2, Or.inl ⟨rfl, ?_⟩, ?_, by omega, by omega⟩ <;> (try dsimp only) <;> simp (disch := (first | decide | omega)) only [upA_ne, upA_eq, up1_eq, up1_ne, o1, o2] <;> (try omega)
  have e7 : (upA v T.2 (up1 (up1 (fun _ => 0) 0 0) 1 7)) T.2 1 = 7 := by rw [upA_eq, up1_eq]
  simp (disch := (first | decide | omega)) only [jxs, hps, jtsw, jlsw, List.length_cons, List.length_nil, true_and, and_true, true_implies, false_implies, implies_true, not_true_eq_false, not_false_eq_true, false_and, and_false, if_true, if_false, or_true, true_or, or_false, false_or, Classical.not_not, and_self, Int.reduceAdd, Int.reduceMul, Int.reduceSub, Int.reduceNeg, Int.reduceLT, Int.reduceLE, Int.reduceEq, Int.reduceNe, Int.reduceToNat, Nat.reduceAdd, Nat.reduceMul, Nat.reduceSub, Nat.reduceLeDiff, Nat.reduceLT, Nat.reduceEqDiff, reduceIte, Nat.zero_le, Nat.le_refl, Nat.add_zero, Nat.zero_add, tk1]
  generalize upA v T.2 (up1 (up1 (fun _ => 0) 0 0) 1 7) = u at *
  unfold chP at hmc hms hQ
  have sp := fun Q => hs k u (nt T 14 3) Q hSN
  revert hmc hms hQ sp hg
  cases pf k with
  | inl e =>
    intro hQ hg hmc hms sp
    have ec : cC n 9 (.inl e) k = 24 * (n + 1 - k) - 9 := rfl
    have es : cS n 90 (.inl e) k = 160 * (n + 1 - k) - 90 := rfl
    have hmc' : 24 * (n + 1 - k) - 6 = mc := hmc
    have hms' : 160 * (n + 1 - k) - 70 = ms := hms
    refine ⟨cC n 9 (.inl e) k, cS n 90 (.inl e) k, ⟨by omega, by omega⟩, sp _ ⟨fun ff pp hfp => ?_, fun x hx => (by cases hx)⟩⟩
    cases hfp
    intro w2 T2 a q1 q2 q3 q4 q5
    simp (disch := (first | decide | omega)) only [jxs, hps, jtsw, jlsw, List.length_cons, List.length_nil, true_and, and_true, true_implies, false_implies, implies_true, not_true_eq_false, not_false_eq_true, false_and, and_false, if_true, if_false, or_true, true_or, or_false, false_or, Classical.not_not, and_self, Int.reduceAdd, Int.reduceMul, Int.reduceSub, Int.reduceNeg, Int.reduceLT, Int.reduceLE, Int.reduceEq, Int.reduceNe, Int.reduceToNat, Nat.reduceAdd, Nat.reduceMul, Nat.reduceSub, Nat.reduceLeDiff, Nat.reduceLT, Nat.reduceEqDiff, reduceIte, Nat.zero_le, Nat.le_refl, Nat.add_zero, Nat.zero_add]
    exact ⟨by omega, by omega, hQ.1 _ _ rfl w2 T2 a (gN.tr q1) q2 q3 q4 q5⟩
  | inr x =>
    intro hQ hg hmc hms sp
    have gx := hg x rfl
    have rg := chn_ge (B := B) (oc := fun _ => 22) (o1 := 212) (o2 := 212) ⟨by decide, by decide⟩ hG (n + 1) x.2 x.1 gx.2.1
    dsimp only at hmc hms hQ
    have ec : cC n 9 (.inr x) k = 24 * (x.2 - k) - 9 := rfl
    have es : cS n 90 (.inr x) k = 160 * (x.2 - k) - 90 := rfl
    have hmc' : 24 * (eR n (chnL B n pf 212 212 (fun _ => 22) (n + 1) x.2 x.1) - k) - 6 = mc := hmc
    have hms' : 160 * (eR n (chnL B n pf 212 212 (fun _ => 22) (n + 1) x.2 x.1) - k) - 70 = ms := hms
    clear hmc hms
    refine ⟨cC n 9 (.inr x) k, cS n 90 (.inr x) k, ⟨by omega, by omega⟩, sp _ ⟨fun ff pp hfp => (by cases hfp), fun x' hx => ?_⟩⟩
    cases hx
    intro w1 T1 a g1 hS1 V1
    have eL1 : w1 T.2 = u T.2 := g1.2.2 T.2 tL.1 tL.2.1 (by omega)
    have hC1 := hCN.fr eL1 g1.2.1 g1.1
    have tL1 := g1.ok tL
    have h12 := hS1.st.1.2.2.2
    have g1n : T.2 + 1 ≤ T1.2 := g1.1
    simp (disch := (first | decide | omega)) only [jxs, hps, jtsw, jlsw, List.length_cons, List.length_nil, true_and, and_true, true_implies, false_implies, implies_true, not_true_eq_false, not_false_eq_true, false_and, and_false, if_true, if_false, or_true, true_or, or_false, false_or, Classical.not_not, and_self, Int.reduceAdd, Int.reduceMul, Int.reduceSub, Int.reduceNeg, Int.reduceLT, Int.reduceLE, Int.reduceEq, Int.reduceNe, Int.reduceToNat, Nat.reduceAdd, Nat.reduceMul, Nat.reduceSub, Nat.reduceLeDiff, Nat.reduceLT, Nat.reduceEqDiff, reduceIte, Nat.zero_le, Nat.le_refl, Nat.add_zero, Nat.zero_add, tL1]
    generalize cC n 9 (.inr x) k = c1 at *
    generalize cS n 90 (.inr x) k = s1 at *
    refine ⟨1, 10, ⟨by omega, by omega⟩, xj_add (d := d + 2) hC1 (V1.at.2.sub (by decide)) h12 (by omega) (fun _ => ⟨Nat.le_refl _, by decide⟩) ?_⟩
    intro y T3 y1 y2 y3 y4 y5 y6 y7
    rw [eL1, e7] at y3 y5
    have lo : ∀ b, 0 < b → b < T.2 → y b = w1 b := fun b b0 b1 => y3 b b0 (by omega) (by omega) (by omega)
    simp (disch := (first | decide | omega)) only [jxs, hps, jtsw, jlsw, List.length_cons, List.length_nil, true_and, and_true, true_implies, false_implies, implies_true, not_true_eq_false, not_false_eq_true, false_and, and_false, if_true, if_false, or_true, true_or, or_false, false_or, Classical.not_not, and_self, Int.reduceAdd, Int.reduceMul, Int.reduceSub, Int.reduceNeg, Int.reduceLT, Int.reduceLE, Int.reduceEq, Int.reduceNe, Int.reduceToNat, Nat.reduceAdd, Nat.reduceMul, Nat.reduceSub, Nat.reduceLeDiff, Nat.reduceLT, Nat.reduceEqDiff, reduceIte, Nat.zero_le, Nat.le_refl, Nat.add_zero, Nat.zero_add]
    refine xw_either_1 (k0 := k) (fu := fu) (T := T) (v := v) (pf := pf) hs hG ⟨t2, t3⟩ (n + 1) x.2 x.1 y T3 0 10 (fun _ => x.1) _ _ (by omega) ⟨by omega, fun b b0 b1 => (y2 b b0 (by omega)).trans ((gN.tr g1).2.1 b b0 b1), fun b b0 b1 b2 => (lo b b0 b1).trans ((gN.tr g1).2.2 b b0 b1 b2)⟩ (hS1.fr (fun b b0 b1 => lo b b0 (by omega)) y2 y1 (lo tk (by omega) (by omega))) y4 ⟨by omega, fun i hi => ?_⟩ rfl (by omega) (by omega) (by omega) (by omega) hQ
    have i0 : i = 0 := by omega
    subst i0
    have y7' : aGet (y, T3) T.2 ((0 : Nat) : Int) = a := y7
    rw [y7']
    have zz : (nt T 14 3).2 = T.2 + 1 := rfl
    rw [zz] at V1
    refine V1.mo (fun b b0 b1 b2 => ⟨?_, y3 b b0 b1 (by unfold nwP at b2; omega) (by unfold nwP at b2; omega)⟩) y2 y1
    unfold nwP at b2
    unfold fzL
    omega
end XG
