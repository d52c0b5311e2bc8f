/-! ===== the class: a clause read ===== -/
-- MODE N
set_option maxRecDepth 100000
section XG
variable {g : jjG} {d : Nat} {tk : Int} {B : Int → Int} {n : Nat} {Q : jjQ} {kd : Int}
theorem TKS.wr {u : Int → Int → Int} {U : jjT} {k : Nat} {o a : Int} {f : Int → Int} (h : TKS u U tk B n k o kd) (h1 : 562 ≤ a) (h2 : a ≠ tk) : TKS (upA u a f) U tk B n k o kd :=
  h.fr (fun b b0 b1 => upA_ne (by omega)) (fun _ _ _ => rfl) (Int.le_refl _) (upA_ne (fun e => h2 e.symm))
theorem GRT.tr' {u v w : Int → Int → Int} {T T' T'' : jjT} (h : GRT tk u T v T') (h1 : T'.2 ≤ T''.2) (h2 : ∀ a, 0 < a → a < T'.2 → T''.1 a = T'.1 a) (h3 : ∀ a, 0 < a → a < T.2 → a ≠ tk → w a = v a) : GRT tk u T w T'' :=
  ⟨Int.le_trans h.1 h1, fun a a0 a1 => (h2 a a0 (Int.lt_of_lt_of_le a1 h.1)).trans (h.2.1 a a0 a1), fun a a0 a1 a2 => (h3 a a0 a1 a2).trans (h.2.2 a a0 a1 a2)⟩
theorem xw_clause_d {k : Nat} {v v0 : Int → Int → Int} {T T0 : jjT} {X : Int} {cs : List clR} {c : Nat} {mc ms : Nat} (hkd : 204 ≤ kd ∧ kd ≤ 209) (hS : TKS v T tk B n k 0 kd) (hX : TXI v T X cs.length cs c) (hc : c ≤ 36) (hl : cs.length < 24) (h0 : T0.2 ≤ X ∧ tk < T0.2) (hG : GRT tk v0 T0 v T)
    (hm : 7 ≤ mc ∧ 90 ≤ ms) (hE : ∀ f p, bodP B n kd cs k = .inl (f, p) → qEr Q v0 T0 tk f p)
    (hQ : ∀ x, bodP B n kd cs k = .inr x → ∀ w T' c', c' ≤ 36 → GRT tk v0 T0 w T' → TKS w T' tk B n x.2 0 kd → TXI w T' X cs.length (cs ++ [x.1]) c' → Q (.inl none) (w, T')) : ∃ mc1 ms1, (mc1 ≤ mc ∧ ms1 ≤ ms) ∧ jmet g (d + 43) mc1 ms1 MX3_doing [vR tk, vI cs.length] (v, T) (jres (g, d + 43, mc, ms, Q) (ji_callV (g, d + 43, mc, ms, Q) MJ6_add 14 2 (ji_pop (jW bX3_clause (g, d + 43, mc, ms, Q) 1))) [some (vR tk), some (vR X)] [vR (X + 2)] mc1 ms1) := by
  obtain ⟨⟨t0, t2, t3, h2⟩, ⟨f3, f4, f6, f7⟩, ⟨hk, hn'⟩, hO, f5⟩ := hS.st
  refine ⟨6, 45, ⟨by omega, by omega⟩, xw_doing (d := d + 31) (cs := cs) hkd (by omega) hS (fun f p hfp => ?_) (fun x hx => ?_)⟩
  · intro w3 T3 a q1 q2 q3 q4 q5
    simp (disch := (first | decide | omega)) only [jxs, hps, jtsw, jlsw, List.length_cons, List.length_nil, true_and, and_true, true_implies, false_implies, implies_true, not_true_eq_false, not_false_eq_true, false_and, and_false, if_true, if_false, or_true, true_or, or_false, false_or, Classical.not_not, and_self, Int.reduceAdd, Int.reduceMul, Int.reduceSub, Int.reduceNeg, Int.reduceLT, Int.reduceLE, Int.reduceEq, Int.reduceNe, Int.reduceToNat, Nat.reduceAdd, Nat.reduceMul, Nat.reduceSub, Nat.reduceLeDiff, Nat.reduceLT, Nat.reduceEqDiff, reduceIte, Nat.zero_le, Nat.le_refl, Nat.add_zero, Nat.zero_add]
    (repeat (refine And.intro (by (first | omega | assumption | trivial | (simp only [inI]; omega) | (simp only [inL]; omega) | (refine jb_01) | (exact jb_in))) ?_))
    exact hE f p hfp w3 T3 a (hG.tr q1) q2 q3 q4 q5
  · intro w T' a w1 w2 w3
    have sp := bodP_sp (by omega) hk hx
    obtain ⟨X2, d0, d1, d2⟩ := hX.gr w1 (by omega)
    have G := X2.1.2.2.2.1
    have ee := X2.1.2.2.2.2.1
    have h2' := w1.1
    have gl := dgC_len cs 0
    have c12 := hX.1.2.2.2.1.1.1.2.1
    dsimp only at c12
    have gb := hX.1.2.2.2.1.1.2.2.2.1.2.1
    dsimp only at gb
    rw [← d2] at gb
    generalize hE' : w (X + 2) 1 = E at *
    have hz : jisA T' a jqL := ⟨13, by decide, w3.1⟩
    have gj : jok T' (X + 2) 14 := G.1.1
    simp (disch := (first | decide | omega)) only [jxs, hps, jtsw, jlsw, List.length_cons, List.length_nil, true_and, and_true, true_implies, false_implies, implies_true, not_true_eq_false, not_false_eq_true, false_and, and_false, if_true, if_false, or_true, true_or, or_false, false_or, Classical.not_not, and_self, Int.reduceAdd, Int.reduceMul, Int.reduceSub, Int.reduceNeg, Int.reduceLT, Int.reduceLE, Int.reduceEq, Int.reduceNe, Int.reduceToNat, Nat.reduceAdd, Nat.reduceMul, Nat.reduceSub, Nat.reduceLeDiff, Nat.reduceLT, Nat.reduceEqDiff, reduceIte, Nat.zero_le, Nat.le_refl, Nat.add_zero, Nat.zero_add, gj]
    refine ⟨1, 40, ⟨by omega, by omega⟩, xj_add (d := d + 32) G hz (by omega) (by omega) (fun q => ⟨Nat.le_refl _, ?_⟩) ?_⟩
    · unfold gcp
      split <;> omega
    · intro y T3 y1 y2 y3 y4 y5 y6 y7
      rw [hE'] at y3 y5
      simp (disch := (first | decide | omega)) only [jxs, hps, jtsw, jlsw, List.length_cons, List.length_nil, true_and, and_true, true_implies, false_implies, implies_true, not_true_eq_false, not_false_eq_true, false_and, and_false, if_true, if_false, or_true, true_or, or_false, false_or, Classical.not_not, and_self, Int.reduceAdd, Int.reduceMul, Int.reduceSub, Int.reduceNeg, Int.reduceLT, Int.reduceLE, Int.reduceEq, Int.reduceNe, Int.reduceToNat, Nat.reduceAdd, Nat.reduceMul, Nat.reduceSub, Nat.reduceLeDiff, Nat.reduceLT, Nat.reduceEqDiff, reduceIte, Nat.zero_le, Nat.le_refl, Nat.add_zero, Nat.zero_add]
      refine jW_step ?_
      simp (disch := (first | decide | omega)) only [bX3_clause, jxs, hps, jtsw, jlsw, List.length_cons, List.length_nil, true_and, and_true, true_implies, false_implies, implies_true, not_true_eq_false, not_false_eq_true, false_and, and_false, if_true, if_false, or_true, true_or, or_false, false_or, Classical.not_not, and_self, Int.reduceAdd, Int.reduceMul, Int.reduceSub, Int.reduceNeg, Int.reduceLT, Int.reduceLE, Int.reduceEq, Int.reduceNe, Int.reduceToNat, Nat.reduceAdd, Nat.reduceMul, Nat.reduceSub, Nat.reduceLeDiff, Nat.reduceLT, Nat.reduceEqDiff, reduceIte, Nat.zero_le, Nat.le_refl, Nat.add_zero, Nat.zero_add]
      (repeat (refine And.intro (by (first | omega | assumption | trivial | (simp only [inI]; omega) | (simp only [inL]; omega) | (refine jb_01) | (exact jb_in))) ?_))
      have eL : ∃ c' : Nat, c' ≤ 36 ∧ (if ((dgC 0 cs).length : Int) = (c : Int) then gcp c else (c : Int)) = (c' : Int) := by
        unfold gcp
        split
        · split
          · exact ⟨10, by omega, rfl⟩
          · exact ⟨c + c / 2, by omega, by omega⟩
        · exact ⟨c, hc, rfl⟩
      obtain ⟨c', hc', ec⟩ := eL
      rw [ec] at y4
      have gy : GRT tk v0 T0 y T3 := (hG.tr w1).tr' y1 y2 (fun b b0 b1 b2 => y3 b b0 (by have := (hG.tr w1).1; omega) (by omega) (by omega))
      refine hQ x hx y T3 c' hc' gy (w2.fr (fun b b0 b1 => y3 b b0 (by omega) (by omega) (by omega)) y2 y1 (y3 tk (by omega) (by omega) (by omega) (by omega))) (X2.dg (a := a) (by omega) ?_ y1 y2 ?_ y4 ?_ y6 y7)
      · obtain ⟨z1, z2, z3, z4⟩ := w3
        exact ⟨z1, by rw [hE']; omega, z3, z4⟩
      · rw [hE']; exact y3
      · rw [hE']; exact y5
theorem xw_clause {k : Nat} {v v0 : Int → Int → Int} {T T0 : jjT} {X : Int} {cs : List clR} {c : Nat} {mc ms : Nat} (hkd : 200 ≤ kd ∧ kd ≤ 209) (hS : TKS v T tk B n k 0 kd) (hX : TXI v T X cs.length cs c) (hc : c ≤ 36) (hl : cs.length < 24) (h0 : T0.2 ≤ X ∧ tk < T0.2) (hG : GRT tk v0 T0 v T) (hn : 201 ≤ kd ∧ kd ≤ 203 → ∀ cl ∈ cs, cl.1 ≠ kd)
    (hm : 24 * (eC n (bodP B n kd cs k) - k) + 7 ≤ mc ∧ 160 * (eC n (bodP B n kd cs k) - k) + 90 ≤ ms) (hE : ∀ f p, bodP B n kd cs k = .inl (f, p) → qEr Q v0 T0 tk f p)
    (hQ : ∀ x, bodP B n kd cs k = .inr x → ∀ w T' c', c' ≤ 36 → GRT tk v0 T0 w T' → TKS w T' tk B n x.2 0 kd → TXI w T' X cs.length (cs ++ [x.1]) c' → Q (.inl none) (w, T')) : jmet g (d + 44) mc ms MX3_clause [vR tk, vR X] (v, T) Q := by
  obtain ⟨⟨t0, t2, t3, h2⟩, ⟨f3, f4, f6, f7⟩, ⟨hk, hn'⟩, hO, f5⟩ := hS.st
  have xa := hX.1
  obtain ⟨⟨a1, a2⟩, ⟨b1, b2, b3⟩, ⟨c1, c2⟩, G, ee, nn⟩ := xa
  obtain ⟨p0, p1, p2, p3, p4, p5, p6, p7, p8, p9⟩ := bodP_eq (B := B) (n := n) (cs := cs) (k := k)
  have hh : kd = 200 ∨ kd = 201 ∨ kd = 202 ∨ kd = 203 ∨ kd = 204 ∨ kd = 205 ∨ kd = 206 ∨ kd = 207 ∨ kd = 208 ∨ kd = 209 := by omega
  have g12 := G.1.1.2.1
  dsimp only at g12
  have gb := G.1.2.2.2.1.2.1
  dsimp only at gb
  refine jmet_of (ls := [some (vR tk), some (vR X)]) sX3_clause rfl (by decide +kernel) (by decide) rfl (by simp [jent]) ?_
  rcases hh with e | e | e | e | hd
  · subst e
    rw [p0] at hm hE hQ
    refine jW_step ?_
    simp (disch := (first | decide | omega)) only [bX3_clause, jxs, hps, jtsw, jlsw, List.length_cons, List.length_nil, true_and, and_true, true_implies, false_implies, implies_true, not_true_eq_false, not_false_eq_true, false_and, and_false, if_true, if_false, or_true, true_or, or_false, false_or, Classical.not_not, and_self, Int.reduceAdd, Int.reduceMul, Int.reduceSub, Int.reduceNeg, Int.reduceLT, Int.reduceLE, Int.reduceEq, Int.reduceNe, Int.reduceToNat, Nat.reduceAdd, Nat.reduceMul, Nat.reduceSub, Nat.reduceLeDiff, Nat.reduceLT, Nat.reduceEqDiff, reduceIte, Nat.zero_le, Nat.le_refl, Nat.add_zero, Nat.zero_add, t0, f7]
    refine ⟨⟨24 * (eC n (lawP B n cs k) - k), 160 * (eC n (lawP B n cs k) - k), ⟨by omega, by omega⟩, xw_law (d := d) hS hX h0 hG ⟨Nat.le_refl _, Nat.le_refl _⟩ (fun f p hfp => ?_) (fun x hx => ?_)⟩, fun h => (by exfalso; omega)⟩
    · intro w3 T3 a q1 q2 q3 q4 q5
      simp (disch := (first | decide | omega)) only [jxs, hps, jtsw, jlsw, List.length_cons, List.length_nil, true_and, and_true, true_implies, false_implies, implies_true, not_true_eq_false, not_false_eq_true, false_and, and_false, if_true, if_false, or_true, true_or, or_false, false_or, Classical.not_not, and_self, Int.reduceAdd, Int.reduceMul, Int.reduceSub, Int.reduceNeg, Int.reduceLT, Int.reduceLE, Int.reduceEq, Int.reduceNe, Int.reduceToNat, Nat.reduceAdd, Nat.reduceMul, Nat.reduceSub, Nat.reduceLeDiff, Nat.reduceLT, Nat.reduceEqDiff, reduceIte, Nat.zero_le, Nat.le_refl, Nat.add_zero, Nat.zero_add]
      (repeat (refine And.intro (by (first | omega | assumption | trivial | (simp only [inI]; omega) | (simp only [inL]; omega) | (refine jb_01) | (exact jb_in))) ?_))
      exact hE f p hfp w3 T3 a q1 q2 q3 q4 q5
    · intro w T' w1 w2 w3
      simp (disch := (first | decide | omega)) only [jxs, hps, jtsw, jlsw, List.length_cons, List.length_nil, true_and, and_true, true_implies, false_implies, implies_true, not_true_eq_false, not_false_eq_true, false_and, and_false, if_true, if_false, or_true, true_or, or_false, false_or, Classical.not_not, and_self, Int.reduceAdd, Int.reduceMul, Int.reduceSub, Int.reduceNeg, Int.reduceLT, Int.reduceLE, Int.reduceEq, Int.reduceNe, Int.reduceToNat, Nat.reduceAdd, Nat.reduceMul, Nat.reduceSub, Nat.reduceLeDiff, Nat.reduceLT, Nat.reduceEqDiff, reduceIte, Nat.zero_le, Nat.le_refl, Nat.add_zero, Nat.zero_add]
      refine jW_step ?_
      simp (disch := (first | decide | omega)) only [bX3_clause, jxs, hps, jtsw, jlsw, List.length_cons, List.length_nil, true_and, and_true, true_implies, false_implies, implies_true, not_true_eq_false, not_false_eq_true, false_and, and_false, if_true, if_false, or_true, true_or, or_false, false_or, Classical.not_not, and_self, Int.reduceAdd, Int.reduceMul, Int.reduceSub, Int.reduceNeg, Int.reduceLT, Int.reduceLE, Int.reduceEq, Int.reduceNe, Int.reduceToNat, Nat.reduceAdd, Nat.reduceMul, Nat.reduceSub, Nat.reduceLeDiff, Nat.reduceLT, Nat.reduceEqDiff, reduceIte, Nat.zero_le, Nat.le_refl, Nat.add_zero, Nat.zero_add]
      (repeat (refine And.intro (by (first | omega | assumption | trivial | (simp only [inI]; omega) | (simp only [inL]; omega) | (refine jb_01) | (exact jb_in))) ?_))
      exact hQ x hx w T' c hc w1 w2 w3
  · subst e
    rw [p1] at hm hE hQ
    rw [eC_cd] at hm
    have pos := eR_gt (GP_eit (B := B) (kd := 201) (D := 8) hk) hk
    refine jW_step ?_
    simp (disch := (first | decide | omega)) only [bX3_clause, jxs, hps, jtsw, jlsw, List.length_cons, List.length_nil, true_and, and_true, true_implies, false_implies, implies_true, not_true_eq_false, not_false_eq_true, false_and, and_false, if_true, if_false, or_true, true_or, or_false, false_or, Classical.not_not, and_self, Int.reduceAdd, Int.reduceMul, Int.reduceSub, Int.reduceNeg, Int.reduceLT, Int.reduceLE, Int.reduceEq, Int.reduceNe, Int.reduceToNat, Nat.reduceAdd, Nat.reduceMul, Nat.reduceSub, Nat.reduceLeDiff, Nat.reduceLT, Nat.reduceEqDiff, reduceIte, Nat.zero_le, Nat.le_refl, Nat.add_zero, Nat.zero_add, t0, f7, a1]
    refine ⟨⟨24 * (eR n (eitP B n 201 8 k) - k) - 6, 160 * (eR n (eitP B n 201 8 k) - k) - 70, ⟨by omega, by omega⟩, xw_eitherA (d := d + 1) k v T _ hS ⟨fun f p hfp => ?_, fun y hy => ?_⟩⟩, fun h => (by exfalso; omega)⟩
    · rw [hfp] at hE
      intro w3 T3 a q1 q2 q3 q4 q5
      simp (disch := (first | decide | omega)) only [jxs, hps, jtsw, jlsw, List.length_cons, List.length_nil, true_and, and_true, true_implies, false_implies, implies_true, not_true_eq_false, not_false_eq_true, false_and, and_false, if_true, if_false, or_true, true_or, or_false, false_or, Classical.not_not, and_self, Int.reduceAdd, Int.reduceMul, Int.reduceSub, Int.reduceNeg, Int.reduceLT, Int.reduceLE, Int.reduceEq, Int.reduceNe, Int.reduceToNat, Nat.reduceAdd, Nat.reduceMul, Nat.reduceSub, Nat.reduceLeDiff, Nat.reduceLT, Nat.reduceEqDiff, reduceIte, Nat.zero_le, Nat.le_refl, Nat.add_zero, Nat.zero_add]
      (repeat (refine And.intro (by (first | omega | assumption | trivial | (simp only [inI]; omega) | (simp only [inL]; omega) | (refine jb_01) | (exact jb_in))) ?_))
      exact hE f p rfl w3 T3 a (hG.tr q1) q2 q3 q4 q5
    · rw [hy] at hQ
      intro u U a u1 u2 u3
      obtain ⟨X2, d0, d1, d2⟩ := hX.gr u1 (by omega)
      have a1' := X2.1.1.1
      simp (disch := (first | decide | omega)) only [jxs, hps, jtsw, jlsw, List.length_cons, List.length_nil, true_and, and_true, true_implies, false_implies, implies_true, not_true_eq_false, not_false_eq_true, false_and, and_false, if_true, if_false, or_true, true_or, or_false, false_or, Classical.not_not, and_self, Int.reduceAdd, Int.reduceMul, Int.reduceSub, Int.reduceNeg, Int.reduceLT, Int.reduceLE, Int.reduceEq, Int.reduceNe, Int.reduceToNat, Nat.reduceAdd, Nat.reduceMul, Nat.reduceSub, Nat.reduceLeDiff, Nat.reduceLT, Nat.reduceEqDiff, reduceIte, Nat.zero_le, Nat.le_refl, Nat.add_zero, Nat.zero_add, a1']
      (repeat (refine And.intro (by (first | omega | assumption | trivial | (simp only [inI]; omega) | (simp only [inL]; omega) | (refine jb_01) | (exact jb_in))) ?_))
      refine jW_step ?_
      simp (disch := (first | decide | omega)) only [bX3_clause, jxs, hps, jtsw, jlsw, List.length_cons, List.length_nil, true_and, and_true, true_implies, false_implies, implies_true, not_true_eq_false, not_false_eq_true, false_and, and_false, if_true, if_false, or_true, true_or, or_false, false_or, Classical.not_not, and_self, Int.reduceAdd, Int.reduceMul, Int.reduceSub, Int.reduceNeg, Int.reduceLT, Int.reduceLE, Int.reduceEq, Int.reduceNe, Int.reduceToNat, Nat.reduceAdd, Nat.reduceMul, Nat.reduceSub, Nat.reduceLeDiff, Nat.reduceLT, Nat.reduceEqDiff, reduceIte, Nat.zero_le, Nat.le_refl, Nat.add_zero, Nat.zero_add]
      (repeat (refine And.intro (by (first | omega | assumption | trivial | (simp only [inI]; omega) | (simp only [inL]; omega) | (refine jb_01) | (exact jb_in))) ?_))
      exact hQ _ rfl _ _ c hc ((hG.tr u1).wr (Or.inl (by omega))) (u2.wr (by omega) (by omega)) (X2.fd (Or.inl ⟨rfl, rfl, X2.fz u3 (by omega) (by rw [d2]; omega)⟩) (hn (by omega)))
  · subst e
    rw [p2] at hm hE hQ
    rw [eC_cd] at hm
    have pos := eR_gt (GP_sm (B := B) (kd := 202) (D := 8) hk) hk
    refine jW_step ?_
    simp (disch := (first | decide | omega)) only [bX3_clause, jxs, hps, jtsw, jlsw, List.length_cons, List.length_nil, true_and, and_true, true_implies, false_implies, implies_true, not_true_eq_false, not_false_eq_true, false_and, and_false, if_true, if_false, or_true, true_or, or_false, false_or, Classical.not_not, and_self, Int.reduceAdd, Int.reduceMul, Int.reduceSub, Int.reduceNeg, Int.reduceLT, Int.reduceLE, Int.reduceEq, Int.reduceNe, Int.reduceToNat, Nat.reduceAdd, Nat.reduceMul, Nat.reduceSub, Nat.reduceLeDiff, Nat.reduceLT, Nat.reduceEqDiff, reduceIte, Nat.zero_le, Nat.le_refl, Nat.add_zero, Nat.zero_add, t0, f7, a1]
    refine ⟨⟨24 * (eR n (smP B n 202 8 k) - k) - 14, 160 * (eR n (smP B n 202 8 k) - k) - 120, ⟨by omega, by omega⟩, xw_sumA (d := d + 4) k v T _ hS ⟨fun f p hfp => ?_, fun y hy => ?_⟩⟩, fun h => (by exfalso; omega)⟩
    · rw [hfp] at hE
      intro w3 T3 a q1 q2 q3 q4 q5
      simp (disch := (first | decide | omega)) only [jxs, hps, jtsw, jlsw, List.length_cons, List.length_nil, true_and, and_true, true_implies, false_implies, implies_true, not_true_eq_false, not_false_eq_true, false_and, and_false, if_true, if_false, or_true, true_or, or_false, false_or, Classical.not_not, and_self, Int.reduceAdd, Int.reduceMul, Int.reduceSub, Int.reduceNeg, Int.reduceLT, Int.reduceLE, Int.reduceEq, Int.reduceNe, Int.reduceToNat, Nat.reduceAdd, Nat.reduceMul, Nat.reduceSub, Nat.reduceLeDiff, Nat.reduceLT, Nat.reduceEqDiff, reduceIte, Nat.zero_le, Nat.le_refl, Nat.add_zero, Nat.zero_add]
      (repeat (refine And.intro (by (first | omega | assumption | trivial | (simp only [inI]; omega) | (simp only [inL]; omega) | (refine jb_01) | (exact jb_in))) ?_))
      exact hE f p rfl w3 T3 a (hG.tr q1) q2 q3 q4 q5
    · rw [hy] at hQ
      intro u U a u1 u2 u3
      obtain ⟨X2, d0, d1, d2⟩ := hX.gr u1 (by omega)
      have a1' := X2.1.1.1
      simp (disch := (first | decide | omega)) only [jxs, hps, jtsw, jlsw, List.length_cons, List.length_nil, true_and, and_true, true_implies, false_implies, implies_true, not_true_eq_false, not_false_eq_true, false_and, and_false, if_true, if_false, or_true, true_or, or_false, false_or, Classical.not_not, and_self, Int.reduceAdd, Int.reduceMul, Int.reduceSub, Int.reduceNeg, Int.reduceLT, Int.reduceLE, Int.reduceEq, Int.reduceNe, Int.reduceToNat, Nat.reduceAdd, Nat.reduceMul, Nat.reduceSub, Nat.reduceLeDiff, Nat.reduceLT, Nat.reduceEqDiff, reduceIte, Nat.zero_le, Nat.le_refl, Nat.add_zero, Nat.zero_add, a1']
      (repeat (refine And.intro (by (first | omega | assumption | trivial | (simp only [inI]; omega) | (simp only [inL]; omega) | (refine jb_01) | (exact jb_in))) ?_))
      refine jW_step ?_
      simp (disch := (first | decide | omega)) only [bX3_clause, jxs, hps, jtsw, jlsw, List.length_cons, List.length_nil, true_and, and_true, true_implies, false_implies, implies_true, not_true_eq_false, not_false_eq_true, false_and, and_false, if_true, if_false, or_true, true_or, or_false, false_or, Classical.not_not, and_self, Int.reduceAdd, Int.reduceMul, Int.reduceSub, Int.reduceNeg, Int.reduceLT, Int.reduceLE, Int.reduceEq, Int.reduceNe, Int.reduceToNat, Nat.reduceAdd, Nat.reduceMul, Nat.reduceSub, Nat.reduceLeDiff, Nat.reduceLT, Nat.reduceEqDiff, reduceIte, Nat.zero_le, Nat.le_refl, Nat.add_zero, Nat.zero_add]
      (repeat (refine And.intro (by (first | omega | assumption | trivial | (simp only [inI]; omega) | (simp only [inL]; omega) | (refine jb_01) | (exact jb_in))) ?_))
      exact hQ _ rfl _ _ c hc ((hG.tr u1).wr (Or.inl (by omega))) (u2.wr (by omega) (by omega)) (X2.fd (Or.inr (Or.inl ⟨rfl, rfl, X2.fv u3 (by omega) (by rw [d2]; omega)⟩)) (hn (by omega)))
  · subst e
    rw [p3] at hm hE hQ
    unfold nm1P at hE hQ
    refine jW_step ?_
    simp (disch := (first | decide | omega)) only [bX3_clause, jxs, hps, jtsw, jlsw, List.length_cons, List.length_nil, true_and, and_true, true_implies, false_implies, implies_true, not_true_eq_false, not_false_eq_true, false_and, and_false, if_true, if_false, or_true, true_or, or_false, false_or, Classical.not_not, and_self, Int.reduceAdd, Int.reduceMul, Int.reduceSub, Int.reduceNeg, Int.reduceLT, Int.reduceLE, Int.reduceEq, Int.reduceNe, Int.reduceToNat, Nat.reduceAdd, Nat.reduceMul, Nat.reduceSub, Nat.reduceLeDiff, Nat.reduceLT, Nat.reduceEqDiff, reduceIte, Nat.zero_le, Nat.le_refl, Nat.add_zero, Nat.zero_add, t0, f7, a1]
    refine ⟨⟨1, 8, ⟨by omega, by omega⟩, xw_number (d := d + 33) hS (fun _ => ⟨Nat.le_refl _, Nat.le_refl _⟩) (fun f p hfp => ?_) (fun y hy => ?_)⟩, fun h => (by exfalso; omega)⟩
    · rw [hfp] at hE
      intro w3 T3 a q1 q2 q3 q4 q5
      simp (disch := (first | decide | omega)) only [jxs, hps, jtsw, jlsw, List.length_cons, List.length_nil, true_and, and_true, true_implies, false_implies, implies_true, not_true_eq_false, not_false_eq_true, false_and, and_false, if_true, if_false, or_true, true_or, or_false, false_or, Classical.not_not, and_self, Int.reduceAdd, Int.reduceMul, Int.reduceSub, Int.reduceNeg, Int.reduceLT, Int.reduceLE, Int.reduceEq, Int.reduceNe, Int.reduceToNat, Nat.reduceAdd, Nat.reduceMul, Nat.reduceSub, Nat.reduceLeDiff, Nat.reduceLT, Nat.reduceEqDiff, reduceIte, Nat.zero_le, Nat.le_refl, Nat.add_zero, Nat.zero_add]
      (repeat (refine And.intro (by (first | omega | assumption | trivial | (simp only [inI]; omega) | (simp only [inL]; omega) | (refine jb_01) | (exact jb_in))) ?_))
      exact hE f p rfl w3 T3 a (hG.tr q1) q2 q3 q4 q5
    · have sp := numP_sp hk hy
      rw [hy] at hQ
      intro u u1 u2
      have gu : GRT tk v T u T := GRT.of u1
      obtain ⟨X2, d0, d1, d2⟩ := hX.gr gu (by omega)
      simp (disch := (first | decide | omega)) only [jxs, hps, jtsw, jlsw, List.length_cons, List.length_nil, true_and, and_true, true_implies, false_implies, implies_true, not_true_eq_false, not_false_eq_true, false_and, and_false, if_true, if_false, or_true, true_or, or_false, false_or, Classical.not_not, and_self, Int.reduceAdd, Int.reduceMul, Int.reduceSub, Int.reduceNeg, Int.reduceLT, Int.reduceLE, Int.reduceEq, Int.reduceNe, Int.reduceToNat, Nat.reduceAdd, Nat.reduceMul, Nat.reduceSub, Nat.reduceLeDiff, Nat.reduceLT, Nat.reduceEqDiff, reduceIte, Nat.zero_le, Nat.le_refl, Nat.add_zero, Nat.zero_add, a1]
      (repeat (refine And.intro (by (first | omega | assumption | trivial | (simp only [inI]; omega) | (simp only [inL]; omega) | (refine jb_01) | (exact jb_in))) ?_))
      refine jW_step ?_
      simp (disch := (first | decide | omega)) only [bX3_clause, jxs, hps, jtsw, jlsw, List.length_cons, List.length_nil, true_and, and_true, true_implies, false_implies, implies_true, not_true_eq_false, not_false_eq_true, false_and, and_false, if_true, if_false, or_true, true_or, or_false, false_or, Classical.not_not, and_self, Int.reduceAdd, Int.reduceMul, Int.reduceSub, Int.reduceNeg, Int.reduceLT, Int.reduceLE, Int.reduceEq, Int.reduceNe, Int.reduceToNat, Nat.reduceAdd, Nat.reduceMul, Nat.reduceSub, Nat.reduceLeDiff, Nat.reduceLT, Nat.reduceEqDiff, reduceIte, Nat.zero_le, Nat.le_refl, Nat.add_zero, Nat.zero_add]
      (repeat (refine And.intro (by (first | omega | assumption | trivial | (simp only [inI]; omega) | (simp only [inL]; omega) | (refine jb_01) | (exact jb_in))) ?_))
      exact hQ _ rfl _ _ c hc ((hG.tr gu).wr (Or.inl (by omega))) (u2.wr (by omega) (by omega)) (X2.fd (Or.inr (Or.inr ⟨rfl, rfl, rfl, sp.2.2.1⟩)) (hn (by omega)))
  · have dd := xw_clause_d (g := g) (d := d) (Q := Q) (mc := mc) (ms := ms) (kd := kd) (by omega) hS hX hc hl h0 hG (by omega) hE hQ
    clear hE hQ hm p0 p1 p2 p3 p4 p5 p6 p7 p8 p9
    rcases hd with e | e | e | e | e | e
    · subst e
      refine jW_step ?_
      simp (disch := (first | decide | omega)) only [bX3_clause, jxs, hps, jtsw, jlsw, List.length_cons, List.length_nil, true_and, and_true, true_implies, false_implies, implies_true, not_true_eq_false, not_false_eq_true, false_and, and_false, if_true, if_false, or_true, true_or, or_false, false_or, Classical.not_not, and_self, Int.reduceAdd, Int.reduceMul, Int.reduceSub, Int.reduceNeg, Int.reduceLT, Int.reduceLE, Int.reduceEq, Int.reduceNe, Int.reduceToNat, Nat.reduceAdd, Nat.reduceMul, Nat.reduceSub, Nat.reduceLeDiff, Nat.reduceLT, Nat.reduceEqDiff, reduceIte, Nat.zero_le, Nat.le_refl, Nat.add_zero, Nat.zero_add, t0, f7, a1, b2, b3]
      exact fun _ => dd
    · subst e
      refine jW_step ?_
      simp (disch := (first | decide | omega)) only [bX3_clause, jxs, hps, jtsw, jlsw, List.length_cons, List.length_nil, true_and, and_true, true_implies, false_implies, implies_true, not_true_eq_false, not_false_eq_true, false_and, and_false, if_true, if_false, or_true, true_or, or_false, false_or, Classical.not_not, and_self, Int.reduceAdd, Int.reduceMul, Int.reduceSub, Int.reduceNeg, Int.reduceLT, Int.reduceLE, Int.reduceEq, Int.reduceNe, Int.reduceToNat, Nat.reduceAdd, Nat.reduceMul, Nat.reduceSub, Nat.reduceLeDiff, Nat.reduceLT, Nat.reduceEqDiff, reduceIte, Nat.zero_le, Nat.le_refl, Nat.add_zero, Nat.zero_add, t0, f7, a1, b2, b3]
      exact fun _ => dd
    · subst e
      refine jW_step ?_
      simp (disch := (first | decide | omega)) only [bX3_clause, jxs, hps, jtsw, jlsw, List.length_cons, List.length_nil, true_and, and_true, true_implies, false_implies, implies_true, not_true_eq_false, not_false_eq_true, false_and, and_false, if_true, if_false, or_true, true_or, or_false, false_or, Classical.not_not, and_self, Int.reduceAdd, Int.reduceMul, Int.reduceSub, Int.reduceNeg, Int.reduceLT, Int.reduceLE, Int.reduceEq, Int.reduceNe, Int.reduceToNat, Nat.reduceAdd, Nat.reduceMul, Nat.reduceSub, Nat.reduceLeDiff, Nat.reduceLT, Nat.reduceEqDiff, reduceIte, Nat.zero_le, Nat.le_refl, Nat.add_zero, Nat.zero_add, t0, f7, a1, b2, b3]
      exact fun _ => dd
    · subst e
      refine jW_step ?_
      simp (disch := (first | decide | omega)) only [bX3_clause, jxs, hps, jtsw, jlsw, List.length_cons, List.length_nil, true_and, and_true, true_implies, false_implies, implies_true, not_true_eq_false, not_false_eq_true, false_and, and_false, if_true, if_false, or_true, true_or, or_false, false_or, Classical.not_not, and_self, Int.reduceAdd, Int.reduceMul, Int.reduceSub, Int.reduceNeg, Int.reduceLT, Int.reduceLE, Int.reduceEq, Int.reduceNe, Int.reduceToNat, Nat.reduceAdd, Nat.reduceMul, Nat.reduceSub, Nat.reduceLeDiff, Nat.reduceLT, Nat.reduceEqDiff, reduceIte, Nat.zero_le, Nat.le_refl, Nat.add_zero, Nat.zero_add, t0, f7, a1, b2, b3]
      exact fun _ => dd
    · subst e
      refine jW_step ?_
      simp (disch := (first | decide | omega)) only [bX3_clause, jxs, hps, jtsw, jlsw, List.length_cons, List.length_nil, true_and, and_true, true_implies, false_implies, implies_true, not_true_eq_false, not_false_eq_true, false_and, and_false, if_true, if_false, or_true, true_or, or_false, false_or, Classical.not_not, and_self, Int.reduceAdd, Int.reduceMul, Int.reduceSub, Int.reduceNeg, Int.reduceLT, Int.reduceLE, Int.reduceEq, Int.reduceNe, Int.reduceToNat, Nat.reduceAdd, Nat.reduceMul, Nat.reduceSub, Nat.reduceLeDiff, Nat.reduceLT, Nat.reduceEqDiff, reduceIte, Nat.zero_le, Nat.le_refl, Nat.add_zero, Nat.zero_add, t0, f7, a1, b2, b3]
      exact fun _ => dd
    · subst e
      refine jW_step ?_
      simp (disch := (first | decide | omega)) only [bX3_clause, jxs, hps, jtsw, jlsw, List.length_cons, List.length_nil, true_and, and_true, true_implies, false_implies, implies_true, not_true_eq_false, not_false_eq_true, false_and, and_false, if_true, if_false, or_true, true_or, or_false, false_or, Classical.not_not, and_self, Int.reduceAdd, Int.reduceMul, Int.reduceSub, Int.reduceNeg, Int.reduceLT, Int.reduceLE, Int.reduceEq, Int.reduceNe, Int.reduceToNat, Nat.reduceAdd, Nat.reduceMul, Nat.reduceSub, Nat.reduceLeDiff, Nat.reduceLT, Nat.reduceEqDiff, reduceIte, Nat.zero_le, Nat.le_refl, Nat.add_zero, Nat.zero_add, t0, f7, a1, b2, b3]
      exact fun _ => dd
end XG
