/-! ===== the class: sums read ===== -/
-- MODE N
set_option maxRecDepth 100000
section XG
variable {g : jjG} {d : Nat} {Q : jjQ} {tk : Int} {B : Int → Int} {n k0 : Nat} {o kd : Int} {T : jjT} {v : Int → Int → Int}
theorem xw_sum_1 {pf : Nat → pR} {fu mc ms : Nat} (hs : SpV g tk B n kd MX3_product pf o fu (d + 13) 18 130) (hG : ∀ k, k ≤ n → GP n k (pf k)) (htk : 562 ≤ tk ∧ tk < T.2) : ∀ (f k : Nat) (acc : List (Int × Int)) (w : Int → Int → Int) (T' : jjT) (m c : Nat) (L1 L2 : Int) (cs : Nat → List (Int × Int)) (op : Nat → Int) (nc ns : Nat) (l2 : Option jjV), n < f + k → GRT tk v T w T' → TKS w T' tk B n k o kd → CHN w T' T.2 L1 L2 m c → ELS w T' T.2 L1 L2 fu cs op m 43 45 → acc = chc cs (fun i => sgo (op i)) m → ((m = 0 ∧ c = 0) ∨ (1 ≤ m ∧ (c ≤ 10 ∨ 2 * c ≤ 3 * m))) → m + k0 < k →
    (nc + 24 * (eR n (chnL B n pf 43 45 sgo f k acc) - k) ≤ mc) → (ns + 160 * (eR n (chnL B n pf 43 45 sgo f k acc) - k) + 200 * m ≤ ms + 8 * c) → qVR Q v T tk B n o kd (fu + 1) (chnL B n pf 43 45 sgo f k acc) →
    jW bX3_sum (g, d + 13, mc, ms, Q) 1 [some (vR tk), some (vR T.2), l2] [] (w, T') nc ns := by
  intro f
  induction f with
  | zero =>
    intro k acc w T' m c L1 L2 cs op nc ns l2 hf hGR hS
    have := hS.2.2.2.2
    omega
  | succ f ih =>
    intro k acc w T' m c L1 L2 cs op nc ns l2 hf hGR hS hC hEL ha hcm hmk hnc hns hQ
    obtain ⟨⟨t0, t2, t3, h2⟩, ⟨f3, f4, f6, f7⟩, ⟨hk, hn⟩, hO, f5⟩ := hS.st
    have tX := hC.1
    have ele := hC.2.2.2.1.1.2.2.2.2
    have elc := hC.2.2.2.1.2.1
    dsimp only at ele
    rw [elc] at ele
    unfold chnL at hnc hns hQ
    by_cases hop : stT B n k = 43 ∨ stT B n k = 45
    · rw [if_pos hop] at hnc hns hQ
      have nl := nx_lt (B := B) hk (by omega)
      have hg := hG (nxT B n k) nl.2
      have k2 : jW bX3_sum (g, d + 13, mc, ms, Q) 2 [some (vR tk), some (vR T.2), l2] [] (w, T') nc ns := by
        have hbud : nc ≤ mc ∧ ns ≤ ms := ⟨by omega, by omega⟩
        refine jW_step ?_
        simp (disch := (first | decide | omega)) only [bX3_sum, jxs, hps, jtsw, jlsw, List.length_cons, List.length_nil, true_and, and_true, true_implies, false_implies, implies_true, not_true_eq_false, not_false_eq_true, false_and, and_false, if_true, if_false, or_true, true_or, or_false, false_or, Classical.not_not, and_self, Int.reduceAdd, Int.reduceMul, Int.reduceSub, Int.reduceNeg, Int.reduceLT, Int.reduceLE, Int.reduceEq, Int.reduceNe, Int.reduceToNat, Nat.reduceAdd, Nat.reduceMul, Nat.reduceSub, Nat.reduceLeDiff, Nat.reduceLT, Nat.reduceEqDiff, reduceIte, Nat.zero_le, Nat.le_refl, Nat.add_zero, Nat.zero_add, t0, f4]
        refine ⟨0, 0, ⟨by omega, by omega⟩, xw_next (d := d + 7) hS.nx ?_⟩
        intro w1 e1 hS1
        have g1 : GRT tk w T' w1 T' := GRT.of e1
        have hC1 := (hC.gr g1 htk.2).1
        have hE1 := hEL.gr hC g1 htk
        simp (disch := (first | decide | omega)) only [jxs, hps, jtsw, jlsw, List.length_cons, List.length_nil, true_and, and_true, true_implies, false_implies, implies_true, not_true_eq_false, not_false_eq_true, false_and, and_false, if_true, if_false, or_true, true_or, or_false, false_or, Classical.not_not, and_self, Int.reduceAdd, Int.reduceMul, Int.reduceSub, Int.reduceNeg, Int.reduceLT, Int.reduceLE, Int.reduceEq, Int.reduceNe, Int.reduceToNat, Nat.reduceAdd, Nat.reduceMul, Nat.reduceSub, Nat.reduceLeDiff, Nat.reduceLT, Nat.reduceEqDiff, reduceIte, Nat.zero_le, Nat.le_refl, Nat.add_zero, Nat.zero_add, t0]
        refine ⟨cC n 18 (pf (nxT B n k)) (nxT B n k), cS n 130 (pf (nxT B n k)) (nxT B n k), ?_⟩
        rcases hr : pf (nxT B n k) with e | x
        · rw [hr] at hnc hns hQ
          have hnc' : nc + 24 * (n + 1 - k) ≤ mc := hnc
          have hns' : ns + 160 * (n + 1 - k) + 200 * m ≤ ms + 8 * c := hns
          have ec : cC n 18 (.inl e) (nxT B n k) = 24 * (n + 1 - nxT B n k) - 18 := rfl
          have es : cS n 130 (.inl e) (nxT B n k) = 160 * (n + 1 - nxT B n k) - 130 := rfl
          have sp := hs (nxT B n k) w1 T' (jres (g, d + 13, mc, ms, Q) (ji_callV (g, d + 13, mc, ms, Q) MX7_add 7 3 (ji_goto (jW bX3_sum (g, d + 13, mc, ms, Q) 1))) [some (vR tk), some (vR T.2), some (vI (stT B n k))] [vI (stT B n k), vR T.2] (nc + cC n 18 (.inl e) (nxT B n k)) (ns + cS n 130 (.inl e) (nxT B n k))) hS1
          rw [hr] at sp
          refine ⟨⟨by omega, by omega⟩, sp ⟨fun ff pp hfp => ?_, fun x hx => by cases hx⟩⟩
          cases hfp
          intro w2 T2 a q1 q2 q3 q4 q5
          simp (disch := (first | decide | omega)) only [jxs, hps, jtsw, jlsw, List.length_cons, List.length_nil, true_and, and_true, true_implies, false_implies, implies_true, not_true_eq_false, not_false_eq_true, false_and, and_false, if_true, if_false, or_true, true_or, or_false, false_or, Classical.not_not, and_self, Int.reduceAdd, Int.reduceMul, Int.reduceSub, Int.reduceNeg, Int.reduceLT, Int.reduceLE, Int.reduceEq, Int.reduceNe, Int.reduceToNat, Nat.reduceAdd, Nat.reduceMul, Nat.reduceSub, Nat.reduceLeDiff, Nat.reduceLT, Nat.reduceEqDiff, reduceIte, Nat.zero_le, Nat.le_refl, Nat.add_zero, Nat.zero_add]
          exact ⟨by omega, by omega, hQ.1 _ _ rfl w2 T2 a ((hGR.tr g1).tr q1) q2 q3 q4 q5⟩
        · rw [hr] at hnc hns hQ hg
          have gx := hg x rfl
          have rg := chn_ge (B := B) (oc := sgo) (o1 := 43) (o2 := 45) ⟨by decide, by decide⟩ hG f x.2 (acc ++ (x.1 ++ [(sgo (stT B n k), 0)])) gx.2.1
          dsimp only at hnc hns hQ
          generalize hR2 : chnL B n pf 43 45 sgo f x.2 (acc ++ (x.1 ++ [(sgo (stT B n k), 0)])) = R2 at *
          have ec : cC n 18 (.inr x) (nxT B n k) = 24 * (x.2 - nxT B n k) - 18 := rfl
          have es : cS n 130 (.inr x) (nxT B n k) = 160 * (x.2 - nxT B n k) - 130 := rfl
          have sp := hs (nxT B n k) w1 T' (jres (g, d + 13, mc, ms, Q) (ji_callV (g, d + 13, mc, ms, Q) MX7_add 7 3 (ji_goto (jW bX3_sum (g, d + 13, mc, ms, Q) 1))) [some (vR tk), some (vR T.2), some (vI (stT B n k))] [vI (stT B n k), vR T.2] (nc + cC n 18 (.inr x) (nxT B n k)) (ns + cS n 130 (.inr x) (nxT B n k))) hS1
          rw [hr] at sp
          refine ⟨⟨by omega, by omega⟩, sp ⟨fun ff pp hfp => (by cases hfp), fun x' hx => ?_⟩⟩
          cases hx
          intro w2 T2 a g2 hS2 V2
          have hC2 := (hC1.gr g2 htk.2).1
          have hE2 := hE1.gr hC1 g2 htk
          have hO2 := hS2.st.2.2.2.1
          have h22 := hS2.st.1.2.2.2
          have tX2 := hC2.1
          have lT := hC1.2.2.2.1.1.1.2.1
          have lT2 := hC1.2.2.2.2.1.1.1.2.1
          have lE1 := hC2.2.2.2.1.1.2.2.2.1.2.1
          dsimp only at lT lT2 lE1
          have eL := (hC1.gr g2 htk.2).2
          simp (disch := (first | decide | omega)) only [jxs, hps, jtsw, jlsw, List.length_cons, List.length_nil, true_and, and_true, true_implies, false_implies, implies_true, not_true_eq_false, not_false_eq_true, false_and, and_false, if_true, if_false, or_true, true_or, or_false, false_or, Classical.not_not, and_self, Int.reduceAdd, Int.reduceMul, Int.reduceSub, Int.reduceNeg, Int.reduceLT, Int.reduceLE, Int.reduceEq, Int.reduceNe, Int.reduceToNat, Nat.reduceAdd, Nat.reduceMul, Nat.reduceSub, Nat.reduceLeDiff, Nat.reduceLT, Nat.reduceEqDiff, reduceIte, Nat.zero_le, Nat.le_refl, Nat.add_zero, Nat.zero_add, tX2]
          generalize cC n 18 (.inr x) (nxT B n k) = c1 at *
          generalize cS n 130 (.inr x) (nxT B n k) = s1 at *
          have elg := hC.2.2.2.1.2.2.2.1
          have hgc : m = c → 2 * gcN c + 8 * c ≤ 8 * gcN c := fun _ => by unfold gcN; split <;> omega
          have hgd : m = c → gcN c ≤ 10 ∨ 2 * gcN c ≤ 3 * m := fun q => by unfold gcN; split <;> omega
          refine ⟨if m = c then 2 else 0, if m = c then 2 * gcN c else 0, ⟨?_, ?_⟩, xw_chAdd (d := d + 1) hC2 hO2 h22 V2.at.2 (by omega) (by omega) (fun q => ?_) ?_⟩
          · split <;> omega
          · split
            · rename_i q
              have := hgc q
              omega
            · omega
          · have q' : m = c := by omega
            rw [if_pos q', if_pos q']
            omega
          intro y T3 y1 y2 y3 y4 y5 y6 y7 y8 y9
          have ty2 := hGR.tr (g1.tr g2)
          have fx2 := hC2.2.2.1
          have fe : ∀ b, 0 < b → b < T2.2 → fzC w2 T.2 L1 L2 b → fzC y T.2 L1 L2 b ∧ y b = w2 b := fun b b0 b1 b2 => ⟨by unfold fzC at b2 ⊢; omega, y3 b b0 b1 (Or.inl b2)⟩
          have eX : y T.2 = w2 T.2 := y3 T.2 tX2.1 tX2.2.1 (Or.inr (Int.le_refl _))
          have ecc : (if (m : Int) = (c : Int) then gcN c else c) = (if m = c then gcN c else c) := by
            by_cases q : m = c
            · rw [if_pos (by omega), if_pos q]
            · rw [if_neg (by omega), if_neg q]
          rw [ecc] at y4
          simp (disch := (first | decide | omega)) only [jxs, hps, jtsw, jlsw, List.length_cons, List.length_nil, true_and, and_true, true_implies, false_implies, implies_true, not_true_eq_false, not_false_eq_true, false_and, and_false, if_true, if_false, or_true, true_or, or_false, false_or, Classical.not_not, and_self, Int.reduceAdd, Int.reduceMul, Int.reduceSub, Int.reduceNeg, Int.reduceLT, Int.reduceLE, Int.reduceEq, Int.reduceNe, Int.reduceToNat, Nat.reduceAdd, Nat.reduceMul, Nat.reduceSub, Nat.reduceLeDiff, Nat.reduceLT, Nat.reduceEqDiff, reduceIte, Nat.zero_le, Nat.le_refl, Nat.add_zero, Nat.zero_add]
          refine ih x.2 (acc ++ (x.1 ++ [(sgo (stT B n k), 0)])) y T3 (m + 1) (if m = c then gcN c else c) L1 L2 (fun i => if i = m + 1 then x.1 else cs i) (fun i => if i = m then stT B n k else op i) _ _ _ (by omega) ⟨by have := ty2.1; omega, fun b b0 b1 => (y2 b b0 (by have := ty2.1; omega)).trans (ty2.2.1 b b0 b1), fun b b0 b1 b2 => (y3 b b0 (by have := ty2.1; omega) (Or.inr (by omega))).trans (ty2.2.2 b b0 b1 b2)⟩ (hS2.fr (fun b b0 b1 => y3 b b0 (by omega) (Or.inr (by omega))) y2 y1 (y3 tk (by omega) (by have := hS2.st.1.2.2.1; omega) (Or.inr (by omega)))) y4 ?_ ?_ ?_ (by omega) ?_ ?_ ?_
          · refine ⟨?_, fun i hi => ?_⟩
            · rw [eX]
              have z := hE2.1.mo fe y2 y1
              dsimp only
              rw [if_neg (by omega)]
              exact z
            · dsimp only
              by_cases q : i = m
              · rw [q, if_pos rfl, if_pos rfl, y8, y9]
                have ob := hO2.2.2.2.1.2.2 (stT B n k + 128) (by omega) (by omega)
                refine ⟨V2.mo (fun b b0 b1 b2 => ?_) y2 y1, ⟨⟨ob.1.1, by have := ob.1.2.1; omega, by rw [y2 _ ob.1.1 ob.1.2.1]; exact ob.1.2.2⟩, ob.2.1, ?_⟩, hop⟩
                · have fz : fzC w2 T.2 L1 L2 b := by
                    have ef := hC1.2.2.2.1.1.2.2.2.1.2.1
                    have ef2 := hC1.2.2.2.2.1.1.2.2.2.1.2.1
                    dsimp only at ef ef2
                    rw [← eL.2.1] at ef
                    rw [← eL.2.2] at ef2
                    have tg := (hGR.tr g1).1
                    unfold nwP at b2
                    unfold fzC
                    omega
                  exact fe b b0 b1 fz
                · rw [y3 _ ob.1.1 ob.1.2.1 (Or.inl (Or.inl ob.2.1)), ob.2.2]
                  omega
              · have z := hE2.2 i (by omega)
                rw [if_neg (by omega), if_neg q, (y7 i (by omega) (by omega)).1, (y7 i (by omega) (by omega)).2]
                refine ⟨z.1.mo fe y2 y1, ⟨⟨z.2.1.1.1, by have := z.2.1.1.2.1; omega, by rw [y2 _ z.2.1.1.1 z.2.1.1.2.1]; exact z.2.1.1.2.2⟩, z.2.1.2.1, ?_⟩, z.2.2⟩
                rw [y3 _ z.2.1.1.1 z.2.1.1.2.1 (Or.inl (Or.inl z.2.1.2.1))]
                exact z.2.1.2.2
          · rw [ha]
            have ee : chc (fun i => if i = m + 1 then x.1 else cs i) (fun i => sgo (if i = m then stT B n k else op i)) (m + 1) = chc (fun i => if i = m + 1 then x.1 else cs i) (fun i => sgo (if i = m then stT B n k else op i)) m ++ ((if m + 1 = m + 1 then x.1 else cs (m + 1)) ++ [(sgo (if m = m then stT B n k else op m), 0)]) := rfl
            rw [ee, if_pos rfl, if_pos rfl, chc_cg (cs := cs) (cs' := fun i => if i = m + 1 then x.1 else cs i) (o := fun i => sgo (op i)) (o' := fun i => sgo (if i = m then stT B n k else op i)) m (fun i hi => (if_neg (by omega)).symm) (fun i hi => by rw [if_neg (show ¬ i = m by omega)])]
          · right
            refine ⟨by omega, ?_⟩
            by_cases q : m = c
            · rw [if_pos q]
              have := hgd q
              omega
            · rw [if_neg q]
              omega
          · rw [hR2]
            by_cases q : m = c
            · rw [if_pos q]; omega
            · rw [if_neg q]; omega
          · rw [hR2]
            by_cases q : m = c
            · rw [if_pos q, if_pos q]
              have := hgc q
              omega
            · rw [if_neg q, if_neg q]; omega
          · rw [hR2]
            exact hQ
      refine jW_step ?_
      simp (disch := (first | decide | omega)) only [bX3_sum, jxs, hps, jtsw, jlsw, List.length_cons, List.length_nil, true_and, and_true, true_implies, false_implies, implies_true, not_true_eq_false, not_false_eq_true, false_and, and_false, if_true, if_false, or_true, true_or, or_false, false_or, Classical.not_not, and_self, Int.reduceAdd, Int.reduceMul, Int.reduceSub, Int.reduceNeg, Int.reduceLT, Int.reduceLE, Int.reduceEq, Int.reduceNe, Int.reduceToNat, Nat.reduceAdd, Nat.reduceMul, Nat.reduceSub, Nat.reduceLeDiff, Nat.reduceLT, Nat.reduceEqDiff, reduceIte, Nat.zero_le, Nat.le_refl, Nat.add_zero, Nat.zero_add, t0, f4]
      refine ⟨fun h1 => ?_, fun h1 => ?_⟩
      · exact k2
      · (first | refine ⟨fun h9 => (by exfalso; omega), fun _ => ?_⟩ | intro _)
        exact k2
    · rw [if_neg hop] at hnc hns hQ
      have hnc' : nc + 24 * (k - k) ≤ mc := hnc
      have hns' : ns + 160 * (k - k) + 200 * m ≤ ms + 8 * c := hns
      refine jW_step ?_
      simp (disch := (first | decide | omega)) only [bX3_sum, jxs, hps, jtsw, jlsw, List.length_cons, List.length_nil, true_and, and_true, true_implies, false_implies, implies_true, not_true_eq_false, not_false_eq_true, false_and, and_false, if_true, if_false, or_true, true_or, or_false, false_or, Classical.not_not, and_self, Int.reduceAdd, Int.reduceMul, Int.reduceSub, Int.reduceNeg, Int.reduceLT, Int.reduceLE, Int.reduceEq, Int.reduceNe, Int.reduceToNat, Nat.reduceAdd, Nat.reduceMul, Nat.reduceSub, Nat.reduceLeDiff, Nat.reduceLT, Nat.reduceEqDiff, reduceIte, Nat.zero_le, Nat.le_refl, Nat.add_zero, Nat.zero_add, t0, f4, tX]
      (first | refine ⟨fun h9 => (by exfalso; omega), fun _ => ?_⟩ | intro _)
      (try refine ⟨fun _ => ?_, fun h9 => (by exfalso; omega)⟩)
      refine ⟨0, 0, ⟨by omega, by omega⟩, xw_itself (d := d + 11) hC ?_⟩
      simp (disch := (first | decide | omega)) only [jxs, hps, jtsw, jlsw, List.length_cons, List.length_nil, true_and, and_true, true_implies, false_implies, implies_true, not_true_eq_false, not_false_eq_true, false_and, and_false, if_true, if_false, or_true, true_or, or_false, false_or, Classical.not_not, and_self, Int.reduceAdd, Int.reduceMul, Int.reduceSub, Int.reduceNeg, Int.reduceLT, Int.reduceLE, Int.reduceEq, Int.reduceNe, Int.reduceToNat, Nat.reduceAdd, Nat.reduceMul, Nat.reduceSub, Nat.reduceLeDiff, Nat.reduceLT, Nat.reduceEqDiff, reduceIte, Nat.zero_le, Nat.le_refl, Nat.add_zero, Nat.zero_add]
      refine ⟨by omega, by omega, hQ.2 _ rfl w T' _ hGR hS ?_⟩
      rw [ha]
      exact hEL.vr hC (by decide)
theorem xw_sum {pf : Nat → pR} {fu : Nat} (hs : SpV g tk B n kd MX3_product pf o fu (d + 13) 18 130) (hG : ∀ k, k ≤ n → GP n k (pf k)) : SpV g tk B n kd MX3_sum (chP B n pf 43 45 sgo) o (fu + 1) (d + 14) 14 120 := by
  intro k v T Q hS hQ
  obtain ⟨⟨t0, t2, t3, h2⟩, ⟨f3, f4, f6, f7⟩, ⟨hk, hn⟩, hO, f5⟩ := hS.st
  have hg := hG k hk
  have tX : jok (nt T 7 3) T.2 7 := nt_ok (by omega)
  have tk1 : ∀ c n, jok (nt T c n) tk 3 := fun _ _ => jok_nt t0
  have gN : GRT tk v T (upA v T.2 (fun _ => 0)) (nt T 7 3) := GRT.nt
  have hSN := hS.gr gN (upA_ne (by omega))
  generalize hmc : cC n 14 (chP B n pf 43 45 sgo k) k = mc
  generalize hms : cS n 120 (chP B n pf 43 45 sgo k) k = ms
  refine jmet_of (ls := [some (vR tk), none, none]) sX3_sum rfl (by decide +kernel) (by decide) rfl (by simp [jent]) ?_
  unfold chP at hmc hms hQ
  have sp := fun Q => hs k (upA v T.2 (fun _ => 0)) (nt T 7 3) Q hSN
  rcases hr : pf k with e | x
  · rw [hr] at hmc hms hQ sp
    have ec : cC n 18 (.inl e) k = 24 * (n + 1 - k) - 18 := rfl
    have es : cS n 130 (.inl e) k = 160 * (n + 1 - k) - 130 := rfl
    have hmc' : 24 * (n + 1 - k) - 14 = mc := hmc
    have hms' : 160 * (n + 1 - k) - 120 = ms := hms
    refine jW_step ?_
    simp (disch := (first | decide | omega)) only [bX3_sum, jxs, hps, jtsw, jlsw, List.length_cons, List.length_nil, true_and, and_true, true_implies, false_implies, implies_true, not_true_eq_false, not_false_eq_true, false_and, and_false, if_true, if_false, or_true, true_or, or_false, false_or, Classical.not_not, and_self, Int.reduceAdd, Int.reduceMul, Int.reduceSub, Int.reduceNeg, Int.reduceLT, Int.reduceLE, Int.reduceEq, Int.reduceNe, Int.reduceToNat, Nat.reduceAdd, Nat.reduceMul, Nat.reduceSub, Nat.reduceLeDiff, Nat.reduceLT, Nat.reduceEqDiff, reduceIte, Nat.zero_le, Nat.le_refl, Nat.add_zero, Nat.zero_add, jnew_eq, nt_2, tk1]
    refine ⟨⟨by omega, by omega⟩, cC n 18 (.inl e) k, cS n 130 (.inl e) k, ⟨by omega, by omega⟩, sp _ ⟨fun ff pp hfp => ?_, fun x hx => by cases hx⟩⟩
    cases hfp
    intro w2 T2 a q1 q2 q3 q4 q5
    simp (disch := (first | decide | omega)) only [jxs, hps, jtsw, jlsw, List.length_cons, List.length_nil, true_and, and_true, true_implies, false_implies, implies_true, not_true_eq_false, not_false_eq_true, false_and, and_false, if_true, if_false, or_true, true_or, or_false, false_or, Classical.not_not, and_self, Int.reduceAdd, Int.reduceMul, Int.reduceSub, Int.reduceNeg, Int.reduceLT, Int.reduceLE, Int.reduceEq, Int.reduceNe, Int.reduceToNat, Nat.reduceAdd, Nat.reduceMul, Nat.reduceSub, Nat.reduceLeDiff, Nat.reduceLT, Nat.reduceEqDiff, reduceIte, Nat.zero_le, Nat.le_refl, Nat.add_zero, Nat.zero_add]
    exact ⟨by omega, by omega, hQ.1 _ _ rfl w2 T2 a (gN.tr q1) q2 q3 q4 q5⟩
  · rw [hr] at hmc hms hQ sp hg
    have gx := hg x rfl
    have rg := chn_ge (B := B) (oc := sgo) (o1 := 43) (o2 := 45) ⟨by decide, by decide⟩ hG (n + 1) x.2 x.1 gx.2.1
    dsimp only at hmc hms hQ
    have ec : cC n 18 (.inr x) k = 24 * (x.2 - k) - 18 := rfl
    have es : cS n 130 (.inr x) k = 160 * (x.2 - k) - 130 := rfl
    have hmc' : 24 * (eR n (chnL B n pf 43 45 sgo (n + 1) x.2 x.1) - k) - 14 = mc := hmc
    have hms' : 160 * (eR n (chnL B n pf 43 45 sgo (n + 1) x.2 x.1) - k) - 120 = ms := hms
    clear hmc hms
    refine jW_step ?_
    simp (disch := (first | decide | omega)) only [bX3_sum, jxs, hps, jtsw, jlsw, List.length_cons, List.length_nil, true_and, and_true, true_implies, false_implies, implies_true, not_true_eq_false, not_false_eq_true, false_and, and_false, if_true, if_false, or_true, true_or, or_false, false_or, Classical.not_not, and_self, Int.reduceAdd, Int.reduceMul, Int.reduceSub, Int.reduceNeg, Int.reduceLT, Int.reduceLE, Int.reduceEq, Int.reduceNe, Int.reduceToNat, Nat.reduceAdd, Nat.reduceMul, Nat.reduceSub, Nat.reduceLeDiff, Nat.reduceLT, Nat.reduceEqDiff, reduceIte, Nat.zero_le, Nat.le_refl, Nat.add_zero, Nat.zero_add, jnew_eq, nt_2, tk1]
    refine ⟨⟨by omega, by omega⟩, cC n 18 (.inr x) k, cS n 130 (.inr x) k, ⟨by omega, by omega⟩, sp _ ⟨fun ff pp hfp => (by cases hfp), fun x' hx => ?_⟩⟩
    cases hx
    intro w1 T1 a g1 hS1 V1
    have tX1 := g1.ok tX
    have hO1 := hS1.st.2.2.2.1
    have g1n : T.2 + 1 ≤ T1.2 := g1.1
    simp (disch := (first | decide | omega)) only [jxs, hps, jtsw, jlsw, List.length_cons, List.length_nil, true_and, and_true, true_implies, false_implies, implies_true, not_true_eq_false, not_false_eq_true, false_and, and_false, if_true, if_false, or_true, true_or, or_false, false_or, Classical.not_not, and_self, Int.reduceAdd, Int.reduceMul, Int.reduceSub, Int.reduceNeg, Int.reduceLT, Int.reduceLE, Int.reduceEq, Int.reduceNe, Int.reduceToNat, Nat.reduceAdd, Nat.reduceMul, Nat.reduceSub, Nat.reduceLeDiff, Nat.reduceLT, Nat.reduceEqDiff, reduceIte, Nat.zero_le, Nat.le_refl, Nat.add_zero, Nat.zero_add]
    (repeat (refine And.intro (by (first | omega | assumption | trivial | (simp only [inI]; omega) | (simp only [inL]; omega) | (refine jb_01) | (exact jb_in))) ?_))
    refine ⟨2, 6, ⟨by omega, by omega⟩, xw_chInit (d := d + 6) tX1 h2 hO1.2.2.2.2 ?_⟩
    intro y y1 y2 hC
    have T1' : ∀ b, 0 < b → b < T1.2 → (nt (nt T1 14 3) 14 3).1 b = T1.1 b := fun b b0 b1 => by
      show (if b = T1.2 + 1 then _ else (if b = T1.2 then _ else T1.1 b)) = _
      rw [if_neg (by omega), if_neg (by omega)]
    have T12 : (nt (nt T1 14 3) 14 3).2 = T1.2 + 1 + 1 := rfl
    have fz1 := hC.2.2.2.2.2
    simp (disch := (first | decide | omega)) only [jxs, hps, jtsw, jlsw, List.length_cons, List.length_nil, true_and, and_true, true_implies, false_implies, implies_true, not_true_eq_false, not_false_eq_true, false_and, and_false, if_true, if_false, or_true, true_or, or_false, false_or, Classical.not_not, and_self, Int.reduceAdd, Int.reduceMul, Int.reduceSub, Int.reduceNeg, Int.reduceLT, Int.reduceLE, Int.reduceEq, Int.reduceNe, Int.reduceToNat, Nat.reduceAdd, Nat.reduceMul, Nat.reduceSub, Nat.reduceLeDiff, Nat.reduceLT, Nat.reduceEqDiff, reduceIte, Nat.zero_le, Nat.le_refl, Nat.add_zero, Nat.zero_add]
    refine xw_sum_1 (k0 := k) (fu := fu) (T := T) (v := v) (pf := pf) hs hG ⟨t2, t3⟩ (n + 1) x.2 x.1 y (nt (nt T1 14 3) 14 3) 0 0 T1.2 (T1.2 + 1) (fun _ => x.1) (fun _ => 0) _ _ _ (by omega) ⟨by omega, fun b b0 b1 => (T1' b b0 (by omega)).trans ((gN.tr g1).2.1 b b0 b1), fun b b0 b1 b2 => (y1 b b0 (by omega) (by omega)).trans ((gN.tr g1).2.2 b b0 b1 b2)⟩ (hS1.fr (fun b b0 b1 => y1 b b0 (by omega) (by omega)) T1' (by omega) (y1 tk (by omega) (by omega) (by omega))) hC ⟨?_, fun i hi => by omega⟩ rfl (Or.inl ⟨rfl, rfl⟩) (by omega) (by omega) (by omega) hQ
    rw [y2]
    refine V1.mo (fun b b0 b1 b2 => ?_) T1' (by omega)
    have zz : (nt T 7 3).2 = T.2 + 1 := rfl
    unfold nwP at b2
    rw [zz] at b2
    refine ⟨?_, y1 b b0 b1 (by omega)⟩
    have w1 := hC.2.2.2.1.2.2.2.1
    unfold fzC
    omega
end XG
