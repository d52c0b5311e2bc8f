/-! ===== the class: a text read ===== -/
-- MODE N
set_option maxRecDepth 100000
section XG
variable {g : jjG} {d : Nat} {tk : Int} {B : Int → Int} {n : Nat} {Q : jjQ}
/-- what reading owes -/
def qRD (Q : jjQ) (v0 : Int → Int → Int) (T0 : jjT) (tk X : Int) (r : (Int × Int) ⊕ List clR) : Prop :=
  (∀ f p, r = .inl (f, p) → qEr Q v0 T0 tk f p) ∧ (∀ cs, r = .inr cs → ∀ w T' c, GRT tk v0 T0 w T' → TXI w T' X cs.length cs c → Q (.inl (some (vR X))) (w, T'))
theorem xw_read_w {k b : Nat} {v v0 : Int → Int → Int} {T T0 : jjT} {X f : Int} {kd : Int} {nc ns mc ms : Nat} (hb : (b = 2 ∧ f = 1) ∨ (b = 5 ∧ f = 4)) (hS : TKS v T tk B n k 0 kd) (hG : GRT tk v0 T0 v T) (hm : nc + 10 ≤ mc ∧ ns + 100 ≤ ms) (hQ : qEr Q v0 T0 tk f (pl B n k : Int)) : jW bX3_read (g, d + 45, mc, ms, Q) b [some (vR tk), some (vR X)] [] (v, T) nc ns := by
  obtain ⟨⟨t0, t2, t3, h2⟩, ⟨f3, f4, f6, f7⟩, ⟨hk, hn'⟩, hO, f5⟩ := hS.st
  have tn : jok (nt T 5 8) T.2 5 := nt_ok (by omega)
  rcases hb with ⟨e1, e2⟩ | ⟨e1, e2⟩
  · subst e1 e2
    refine jW_step ?_
    simp (disch := (first | decide | omega)) only [bX3_read, jxs, hps, jtsw, jlsw, List.length_cons, List.length_nil, true_and, and_true, true_implies, false_implies, implies_true, not_true_eq_false, not_false_eq_true, false_and, and_false, if_true, if_false, or_true, true_or, or_false, false_or, Classical.not_not, and_self, Int.reduceAdd, Int.reduceMul, Int.reduceSub, Int.reduceNeg, Int.reduceLT, Int.reduceLE, Int.reduceEq, Int.reduceNe, Int.reduceToNat, Nat.reduceAdd, Nat.reduceMul, Nat.reduceSub, Nat.reduceLeDiff, Nat.reduceLT, Nat.reduceEqDiff, reduceIte, Nat.zero_le, Nat.le_refl, Nat.add_zero, Nat.zero_add, t0]
    refine ⟨1, 8, ⟨by omega, by omega⟩, xw_wrong (d := d + 36) t0 h2 ?_⟩
    rw [f3]
    simp (disch := (first | decide | omega)) only [jxs, hps, jtsw, jlsw, List.length_cons, List.length_nil, true_and, and_true, true_implies, false_implies, implies_true, not_true_eq_false, not_false_eq_true, false_and, and_false, if_true, if_false, or_true, true_or, or_false, false_or, Classical.not_not, and_self, Int.reduceAdd, Int.reduceMul, Int.reduceSub, Int.reduceNeg, Int.reduceLT, Int.reduceLE, Int.reduceEq, Int.reduceNe, Int.reduceToNat, Nat.reduceAdd, Nat.reduceMul, Nat.reduceSub, Nat.reduceLeDiff, Nat.reduceLT, Nat.reduceEqDiff, reduceIte, Nat.zero_le, Nat.le_refl, Nat.add_zero, Nat.zero_add, tn]
    (repeat (refine And.intro (by (first | omega | assumption | trivial | (simp only [inI]; omega) | (simp only [inL]; omega) | (refine jb_01) | (exact jb_in))) ?_))
    exact wrg_gr h2 (hQ.gr hG)
  · subst e1 e2
    refine jW_step ?_
    simp (disch := (first | decide | omega)) only [bX3_read, jxs, hps, jtsw, jlsw, List.length_cons, List.length_nil, true_and, and_true, true_implies, false_implies, implies_true, not_true_eq_false, not_false_eq_true, false_and, and_false, if_true, if_false, or_true, true_or, or_false, false_or, Classical.not_not, and_self, Int.reduceAdd, Int.reduceMul, Int.reduceSub, Int.reduceNeg, Int.reduceLT, Int.reduceLE, Int.reduceEq, Int.reduceNe, Int.reduceToNat, Nat.reduceAdd, Nat.reduceMul, Nat.reduceSub, Nat.reduceLeDiff, Nat.reduceLT, Nat.reduceEqDiff, reduceIte, Nat.zero_le, Nat.le_refl, Nat.add_zero, Nat.zero_add, t0]
    refine ⟨1, 8, ⟨by omega, by omega⟩, xw_wrong (d := d + 36) t0 h2 ?_⟩
    rw [f3]
    simp (disch := (first | decide | omega)) only [jxs, hps, jtsw, jlsw, List.length_cons, List.length_nil, true_and, and_true, true_implies, false_implies, implies_true, not_true_eq_false, not_false_eq_true, false_and, and_false, if_true, if_false, or_true, true_or, or_false, false_or, Classical.not_not, and_self, Int.reduceAdd, Int.reduceMul, Int.reduceSub, Int.reduceNeg, Int.reduceLT, Int.reduceLE, Int.reduceEq, Int.reduceNe, Int.reduceToNat, Nat.reduceAdd, Nat.reduceMul, Nat.reduceSub, Nat.reduceLeDiff, Nat.reduceLT, Nat.reduceEqDiff, reduceIte, Nat.zero_le, Nat.le_refl, Nat.add_zero, Nat.zero_add, tn]
    (repeat (refine And.intro (by (first | omega | assumption | trivial | (simp only [inI]; omega) | (simp only [inL]; omega) | (refine jb_01) | (exact jb_in))) ?_))
    exact wrg_gr h2 (hQ.gr hG)
/-- one clause, from the count on -/
theorem xw_read_c {k f : Nat} {v v0 : Int → Int → Int} {T T0 : jjT} {X kd : Int} {cs : List clR} {c nc ns mc ms : Nat} (htk : T0.2 ≤ X ∧ tk < T0.2) (hk : kd = stT B n k) (hkd : 200 ≤ kd ∧ kd ≤ 209) (hno : ¬ ((201 ≤ kd ∧ kd ≤ 203) ∧ ∃ c ∈ cs, c.1 = kd)) (hS : TKS v T tk B n k 0 kd) (hX : TXI v T X cs.length cs c) (hc : c ≤ 36) (hl : cs.length ≤ 24) (hG : GRT tk v0 T0 v T)
    (hm : nc + 24 * (n + 1 - k) + 10 ≤ mc ∧ ns + 160 * (n + 1 - k) + 100 ≤ ms) (hQ : qRD Q v0 T0 tk X (rdP B n (f + 1) k cs))
    (ih : ∀ (k' : Nat) (cs' : List clR) (w : Int → Int → Int) (T' : jjT) (c' : Nat) (nc' ns' : Nat), k < k' → GRT tk v0 T0 w T' → TKS w T' tk B n k' 0 kd → TXI w T' X cs'.length cs' c' → c' ≤ 36 → cs'.length ≤ 24 → (nc' + 24 * (n + 1 - k') + 10 ≤ mc ∧ ns' + 160 * (n + 1 - k') + 100 ≤ ms) → qRD Q v0 T0 tk X (rdP B n f k' cs') → jW bX3_read (g, d + 45, mc, ms, Q) 1 [some (vR tk), some (vR X)] [] (w, T') nc' ns') : jW bX3_read (g, d + 45, mc, ms, Q) 6 [some (vR tk), some (vR X)] [] (v, T) nc ns := by
  obtain ⟨⟨t0, t2, t3, h2⟩, ⟨f3, f4, f6, f7⟩, ⟨hkn, hn'⟩, hO, f5⟩ := hS.st
  have tn : jok (nt T 5 8) T.2 5 := nt_ok (by omega)
  have a1 := hX.1.1.1
  have b3 := hX.1.2.1.2.2
  have x1 := nx_lt (B := B) hkn (by omega)
  unfold rdP at hQ
  rw [if_neg (by omega), if_neg (by omega), if_neg (by rw [← hk]; exact hno)] at hQ
  refine jW_step ?_
  simp (disch := (first | decide | omega)) only [bX3_read, jxs, hps, jtsw, jlsw, List.length_cons, List.length_nil, true_and, and_true, true_implies, false_implies, implies_true, not_true_eq_false, not_false_eq_true, false_and, and_false, if_true, if_false, or_true, true_or, or_false, false_or, Classical.not_not, and_self, Int.reduceAdd, Int.reduceMul, Int.reduceSub, Int.reduceNeg, Int.reduceLT, Int.reduceLE, Int.reduceEq, Int.reduceNe, Int.reduceToNat, Nat.reduceAdd, Nat.reduceMul, Nat.reduceSub, Nat.reduceLeDiff, Nat.reduceLT, Nat.reduceEqDiff, reduceIte, Nat.zero_le, Nat.le_refl, Nat.add_zero, Nat.zero_add, a1, b3, t0]
  by_cases c24 : cs.length = 24
  · rw [if_pos c24] at hQ
    (first | refine ⟨fun h9 => (by exfalso; omega), fun _ => ?_⟩ | intro _)
    refine ⟨1, 8, ⟨by omega, by omega⟩, xw_wrong (d := d + 36) t0 h2 ?_⟩
    rw [f3]
    simp (disch := (first | decide | omega)) only [jxs, hps, jtsw, jlsw, List.length_cons, List.length_nil, true_and, and_true, true_implies, false_implies, implies_true, not_true_eq_false, not_false_eq_true, false_and, and_false, if_true, if_false, or_true, true_or, or_false, false_or, Classical.not_not, and_self, Int.reduceAdd, Int.reduceMul, Int.reduceSub, Int.reduceNeg, Int.reduceLT, Int.reduceLE, Int.reduceEq, Int.reduceNe, Int.reduceToNat, Nat.reduceAdd, Nat.reduceMul, Nat.reduceSub, Nat.reduceLeDiff, Nat.reduceLT, Nat.reduceEqDiff, reduceIte, Nat.zero_le, Nat.le_refl, Nat.add_zero, Nat.zero_add, tn]
    (repeat (refine And.intro (by (first | omega | assumption | trivial | (simp only [inI]; omega) | (simp only [inL]; omega) | (refine jb_01) | (exact jb_in))) ?_))
    exact wrg_gr h2 ((hQ.1 6 _ rfl).gr hG)
  · rw [if_neg c24] at hQ
    (try refine ⟨fun _ => ?_, fun h9 => (by exfalso; omega)⟩)
    refine ⟨0, 0, ⟨by omega, by omega⟩, xw_next (d := d + 39) hS.nx ?_⟩
    intro w w1 w2
    have gw : GRT tk v T w T := GRT.of w1
    obtain ⟨X1, d0, d1, d2⟩ := hX.gr gw (by omega)
    rw [← hk] at hQ
    have ge : nxT B n k ≤ eC n (bodP B n kd cs (nxT B n k)) ∧ eC n (bodP B n kd cs (nxT B n k)) ≤ n + 1 := by
      cases hb : bodP B n kd cs (nxT B n k) with
      | inl e => show nxT B n k ≤ n + 1 ∧ n + 1 ≤ n + 1; omega
      | inr z =>
        have sp := bodP_sp hkd x1.2 hb
        show nxT B n k ≤ z.2 ∧ z.2 ≤ n + 1
        omega
    simp (disch := (first | decide | omega)) only [jxs, hps, jtsw, jlsw, List.length_cons, List.length_nil, true_and, and_true, true_implies, false_implies, implies_true, not_true_eq_false, not_false_eq_true, false_and, and_false, if_true, if_false, or_true, true_or, or_false, false_or, Classical.not_not, and_self, Int.reduceAdd, Int.reduceMul, Int.reduceSub, Int.reduceNeg, Int.reduceLT, Int.reduceLE, Int.reduceEq, Int.reduceNe, Int.reduceToNat, Nat.reduceAdd, Nat.reduceMul, Nat.reduceSub, Nat.reduceLeDiff, Nat.reduceLT, Nat.reduceEqDiff, reduceIte, Nat.zero_le, Nat.le_refl, Nat.add_zero, Nat.zero_add]
    (repeat (refine And.intro (by (first | omega | assumption | trivial | (simp only [inI]; omega) | (simp only [inL]; omega) | (refine jb_01) | (exact jb_in))) ?_))
    refine ⟨24 * (eC n (bodP B n kd cs (nxT B n k)) - nxT B n k) + 7, 160 * (eC n (bodP B n kd cs (nxT B n k)) - nxT B n k) + 90, ⟨by omega, by omega⟩, xw_clause (d := d + 1) hkd w2 X1 hc (by omega) htk (hG.tr gw) (fun q cl hc e => hno ⟨q, cl, hc, e⟩) ⟨Nat.le_refl _, Nat.le_refl _⟩ (fun e p he => ?_) (fun x hx => ?_)⟩
    · rw [he] at hQ
      intro w3 T3 a q1 q2 q3 q4 q5
      simp (disch := (first | decide | omega)) only [jxs, hps, jtsw, jlsw, List.length_cons, List.length_nil, true_and, and_true, true_implies, false_implies, implies_true, not_true_eq_false, not_false_eq_true, false_and, and_false, if_true, if_false, or_true, true_or, or_false, false_or, Classical.not_not, and_self, Int.reduceAdd, Int.reduceMul, Int.reduceSub, Int.reduceNeg, Int.reduceLT, Int.reduceLE, Int.reduceEq, Int.reduceNe, Int.reduceToNat, Nat.reduceAdd, Nat.reduceMul, Nat.reduceSub, Nat.reduceLeDiff, Nat.reduceLT, Nat.reduceEqDiff, reduceIte, Nat.zero_le, Nat.le_refl, Nat.add_zero, Nat.zero_add]
      (repeat (refine And.intro (by (first | omega | assumption | trivial | (simp only [inI]; omega) | (simp only [inL]; omega) | (refine jb_01) | (exact jb_in))) ?_))
      exact hQ.1 e p rfl w3 T3 a q1 q2 q3 q4 q5
    · have sp := bodP_sp hkd x1.2 hx
      rw [hx] at hQ ge
      have ge : nxT B n k ≤ x.2 ∧ x.2 ≤ n + 1 := ge
      dsimp only at hQ
      rw [hx]
      intro u U c' hc' u1 u2 u3
      show jres _ _ _ _ _ _ _ _
      have ee : eC n (Sum.inr x) = x.2 := rfl
      rw [ee]
      have t0' := u2.st.1.1
      simp (disch := (first | decide | omega)) only [jxs, hps, jtsw, jlsw, List.length_cons, List.length_nil, true_and, and_true, true_implies, false_implies, implies_true, not_true_eq_false, not_false_eq_true, false_and, and_false, if_true, if_false, or_true, true_or, or_false, false_or, Classical.not_not, and_self, Int.reduceAdd, Int.reduceMul, Int.reduceSub, Int.reduceNeg, Int.reduceLT, Int.reduceLE, Int.reduceEq, Int.reduceNe, Int.reduceToNat, Nat.reduceAdd, Nat.reduceMul, Nat.reduceSub, Nat.reduceLeDiff, Nat.reduceLT, Nat.reduceEqDiff, reduceIte, Nat.zero_le, Nat.le_refl, Nat.add_zero, Nat.zero_add, t0']
      (repeat (refine And.intro (by (first | omega | assumption | trivial | (simp only [inI]; omega) | (simp only [inL]; omega) | (refine jb_01) | (exact jb_in))) ?_))
      refine ⟨1, 8, ⟨by omega, by omega⟩, xw_want (d := d + 35) u2 (fun _ => ⟨Nat.le_refl _, Nat.le_refl _⟩) (fun e p he => ?_) (fun y hy => ?_)⟩
      · rw [he] at hQ
        intro w3 T3 a q1 q2 q3 q4 q5
        simp (disch := (first | decide | omega)) only [jxs, hps, jtsw, jlsw, List.length_cons, List.length_nil, true_and, and_true, true_implies, false_implies, implies_true, not_true_eq_false, not_false_eq_true, false_and, and_false, if_true, if_false, or_true, true_or, or_false, false_or, Classical.not_not, and_self, Int.reduceAdd, Int.reduceMul, Int.reduceSub, Int.reduceNeg, Int.reduceLT, Int.reduceLE, Int.reduceEq, Int.reduceNe, Int.reduceToNat, Nat.reduceAdd, Nat.reduceMul, Nat.reduceSub, Nat.reduceLeDiff, Nat.reduceLT, Nat.reduceEqDiff, reduceIte, Nat.zero_le, Nat.le_refl, Nat.add_zero, Nat.zero_add]
        (repeat (refine And.intro (by (first | omega | assumption | trivial | (simp only [inI]; omega) | (simp only [inL]; omega) | (refine jb_01) | (exact jb_in))) ?_))
        exact hQ.1 e p rfl w3 T3 a (u1.tr q1) q2 q3 q4 q5
      · have sy := wntP_sp sp.2.1.2 (by decide) hy
        rw [hy] at hQ
        dsimp only at hQ
        intro r r1 r2
        have gr : GRT tk u U r U := GRT.of r1
        obtain ⟨X2, d0', d1', d2'⟩ := u3.gr gr (by omega)
        have a1' := X2.1.1.1
        have b3' := X2.1.2.1.2.2
        simp (disch := (first | decide | omega)) only [jxs, hps, jtsw, jlsw, List.length_cons, List.length_nil, true_and, and_true, true_implies, false_implies, implies_true, not_true_eq_false, not_false_eq_true, false_and, and_false, if_true, if_false, or_true, true_or, or_false, false_or, Classical.not_not, and_self, Int.reduceAdd, Int.reduceMul, Int.reduceSub, Int.reduceNeg, Int.reduceLT, Int.reduceLE, Int.reduceEq, Int.reduceNe, Int.reduceToNat, Nat.reduceAdd, Nat.reduceMul, Nat.reduceSub, Nat.reduceLeDiff, Nat.reduceLT, Nat.reduceEqDiff, reduceIte, Nat.zero_le, Nat.le_refl, Nat.add_zero, Nat.zero_add, a1', b3']
        (repeat (refine And.intro (by (first | omega | assumption | trivial | (simp only [inI]; omega) | (simp only [inL]; omega) | (refine jb_01) | (exact jb_in))) ?_))
        have X3 := X2.cn (z := (cs.length : Int) + 1) (by omega)
        have el : ((cs ++ [x.1]).length : Int) = (cs.length : Int) + 1 := by rw [List.length_append]; rfl
        rw [← el] at X3
        refine ih y (cs ++ [x.1]) _ _ c' _ _ (by omega) ((u1.tr gr).wr (Or.inl htk.1)) (r2.wr (by omega) (by omega)) ?_ hc' (by omega) (by omega) hQ
        rw [el] at X3 ⊢
        exact X3
theorem xw_read_1 {v0 : Int → Int → Int} {T0 : jjT} {X : Int} {mc ms : Nat} (htk : T0.2 ≤ X ∧ tk < T0.2) : ∀ (f k : Nat) (cs : List clR) (v : Int → Int → Int) (T : jjT) (c nc ns : Nat) (kd : Int), n < f + k → GRT tk v0 T0 v T → TKS v T tk B n k 0 kd → TXI v T X cs.length cs c → c ≤ 36 → cs.length ≤ 24 → (nc + 24 * (n + 1 - k) + 10 ≤ mc ∧ ns + 160 * (n + 1 - k) + 100 ≤ ms) → qRD Q v0 T0 tk X (rdP B n f k cs) → jW bX3_read (g, d + 45, mc, ms, Q) 1 [some (vR tk), some (vR X)] [] (v, T) nc ns
  | 0, k, cs, v, T, c, nc, ns, kd, hf, hG, hS, hX, hc, hl, hm, hQ => by
    have := hS.st.2.2.1
    omega
  | f + 1, k, cs, v, T, c, nc, ns, kd, hf, hG, hS, hX, hc, hl, hm, hQ => by
    obtain ⟨⟨t0, t2, t3, h2⟩, ⟨f3, f4, f6, f7⟩, ⟨hkn, hn'⟩, hO, f5⟩ := hS.st
    have hst := (tk_sp (B := B) hkn).2.1
    have k2 : ¬ stT B n k = 301 → ¬ (200 ≤ stT B n k ∧ stT B n k ≤ 209) → jW bX3_read (g, d + 45, mc, ms, Q) 2 [some (vR tk), some (vR X)] [] (v, T) nc ns := by
      intro q1 q2
      refine xw_read_w (f := 1) (Or.inl ⟨rfl, rfl⟩) hS hG (by omega) (hQ.1 1 _ ?_)
      unfold rdP
      rw [if_neg q1, if_pos q2]
    have eS : ∀ q, q = stT B n k → TKS (upA v tk (up1 (v tk) 7 q)) T tk B n k 0 q := fun q e => hS.op (fun j _ j7 => up1_ne j7) ((up1_ne (by decide)).trans f6) up1_eq
    have eG : ∀ q, GRT tk v T (upA v tk (up1 (v tk) 7 q)) T := fun q => GRT.rf.wr (Or.inr rfl)
    have eX : ∀ q, TXI (upA v tk (up1 (v tk) 7 q)) T X cs.length cs c ∧ (upA v tk (up1 (v tk) 7 q)) X = v X := fun q => by
      have z := hX.gr (eG q) (by omega)
      exact ⟨z.1, z.2.1⟩
    have hs := hX.has
    have a1 := hX.1.1.1
    have k6 : (200 ≤ stT B n k ∧ stT B n k ≤ 209) → ¬ ((201 ≤ stT B n k ∧ stT B n k ≤ 203) ∧ ∃ c ∈ cs, c.1 = stT B n k) → jW bX3_read (g, d + 45, mc, ms, Q) 6 [some (vR tk), some (vR X)] [] (upA v tk (up1 (v tk) 7 (stT B n k)), T) nc ns := by
      intro q1 q2
      refine xw_read_c (f := f) htk rfl q1 q2 (eS _ rfl) (eX _).1 hc hl (hG.tr (eG _)) hm hQ ?_
      intro k' cs' w T' c' nc' ns' h1 h2 h3 h4 h5 h6 h7 h8
      exact xw_read_1 htk f k' cs' w T' c' nc' ns' _ (by omega) h2 h3 h4 h5 h6 h7 h8
    have k5 : (200 ≤ stT B n k ∧ stT B n k ≤ 209) → ((201 ≤ stT B n k ∧ stT B n k ≤ 203) ∧ ∃ c ∈ cs, c.1 = stT B n k) → jW bX3_read (g, d + 45, mc, ms, Q) 5 [some (vR tk), some (vR X)] [] (upA v tk (up1 (v tk) 7 (stT B n k)), T) nc ns := by
      intro q1 q2
      refine xw_read_w (f := 4) (Or.inr ⟨rfl, rfl⟩) (eS _ rfl) (hG.tr (eG _)) (by omega) (hQ.1 4 _ ?_)
      unfold rdP
      rw [if_neg (by omega), if_neg (fun q => q q1), if_pos q2]
    generalize hz : stT B n k = z at *
    have fz : (upA v tk (up1 (v tk) 7 z)) tk 7 = z := by rw [upA_eq, up1_eq]
    have k4 : (200 ≤ z ∧ z ≤ 209) → ¬ ((z = 201 ∨ z = 202) ∧ ∃ c ∈ cs, c.1 = z) → jW bX3_read (g, d + 45, mc, ms, Q) 4 [some (vR tk), some (vR X)] [] (upA v tk (up1 (v tk) 7 z), T) nc ns := by
      intro q1 q2
      have eXz := (eX z).2
      refine jW_step ?_
      simp (disch := (first | decide | omega)) only [bX3_read, jxs, hps, jtsw, jlsw, List.length_cons, List.length_nil, true_and, and_true, true_implies, false_implies, implies_true, not_true_eq_false, not_false_eq_true, false_and, and_false, if_true, if_false, or_true, true_or, or_false, false_or, Classical.not_not, and_self, Int.reduceAdd, Int.reduceMul, Int.reduceSub, Int.reduceNeg, Int.reduceLT, Int.reduceLE, Int.reduceEq, Int.reduceNe, Int.reduceToNat, Nat.reduceAdd, Nat.reduceMul, Nat.reduceSub, Nat.reduceLeDiff, Nat.reduceLT, Nat.reduceEqDiff, reduceIte, Nat.zero_le, Nat.le_refl, Nat.add_zero, Nat.zero_add, t0, fz, a1, eXz]
      refine ⟨fun h => ?_, fun h => ?_⟩
      · exact k6 q1 (fun q => q2 ⟨by omega, q.2⟩)
      · refine ⟨fun h3 => ?_, fun h3 => ?_⟩
        · exact k6 q1 (fun q => by
            have e : z = 203 := by omega
            rw [e] at q
            have := hs.2.2.2 q.2
            omega)
        · exact k5 q1 ⟨by omega, by
            have e : z = 203 := by omega
            rw [e]
            exact hs.2.2.1 (by omega)⟩
    have k3 : (200 ≤ z ∧ z ≤ 209) → ¬ (z = 201 ∧ ∃ c ∈ cs, c.1 = z) → jW bX3_read (g, d + 45, mc, ms, Q) 3 [some (vR tk), some (vR X)] [] (upA v tk (up1 (v tk) 7 z), T) nc ns := by
      intro q1 q2
      have eXz := (eX z).2
      refine jW_step ?_
      simp (disch := (first | decide | omega)) only [bX3_read, jxs, hps, jtsw, jlsw, List.length_cons, List.length_nil, true_and, and_true, true_implies, false_implies, implies_true, not_true_eq_false, not_false_eq_true, false_and, and_false, if_true, if_false, or_true, true_or, or_false, false_or, Classical.not_not, and_self, Int.reduceAdd, Int.reduceMul, Int.reduceSub, Int.reduceNeg, Int.reduceLT, Int.reduceLE, Int.reduceEq, Int.reduceNe, Int.reduceToNat, Nat.reduceAdd, Nat.reduceMul, Nat.reduceSub, Nat.reduceLeDiff, Nat.reduceLT, Nat.reduceEqDiff, reduceIte, Nat.zero_le, Nat.le_refl, Nat.add_zero, Nat.zero_add, t0, fz, a1, eXz]
      refine ⟨fun h => ?_, fun h => ?_⟩
      · exact k4 q1 (fun q => q2 ⟨by omega, q.2⟩)
      · have e : z = 202 := by omega
        refine ⟨fun h3 => ?_, fun h3 => ?_⟩
        · exact k5 q1 ⟨by omega, by rw [e]; exact hs.2.1.1 h3⟩
        · refine k4 q1 (fun q => ?_)
          rw [e] at q
          exact hs.2.1.2 q.2 (by omega)
    have eXz := (eX z).2
    refine jW_step ?_
    simp (disch := (first | decide | omega)) only [bX3_read, jxs, hps, jtsw, jlsw, List.length_cons, List.length_nil, true_and, and_true, true_implies, false_implies, implies_true, not_true_eq_false, not_false_eq_true, false_and, and_false, if_true, if_false, or_true, true_or, or_false, false_or, Classical.not_not, and_self, Int.reduceAdd, Int.reduceMul, Int.reduceSub, Int.reduceNeg, Int.reduceLT, Int.reduceLE, Int.reduceEq, Int.reduceNe, Int.reduceToNat, Nat.reduceAdd, Nat.reduceMul, Nat.reduceSub, Nat.reduceLeDiff, Nat.reduceLT, Nat.reduceEqDiff, reduceIte, Nat.zero_le, Nat.le_refl, Nat.add_zero, Nat.zero_add, t0, fz, f4, a1, eXz]
    refine ⟨fun h => ?_, fun h => ?_⟩
    · (repeat (refine And.intro (by (first | omega | assumption | trivial | (simp only [inI]; omega) | (simp only [inL]; omega) | (refine jb_01) | (exact jb_in))) ?_))
      unfold rdP at hQ
      rw [if_pos (by omega)] at hQ
      exact hQ.2 cs rfl v T c hG hX
    · refine ⟨fun h1 => ?_, fun h1 => ?_⟩
      · exact k2 h (fun q => by omega)
      · refine ⟨fun h3 => ?_, fun h3 => ?_⟩
        · (repeat (refine And.intro (by (first | omega | assumption | trivial | (simp only [inI]; omega) | (simp only [inL]; omega) | (refine jb_01) | (exact jb_in))) ?_))
          refine ⟨fun h4 => ?_, fun h4 => ?_⟩
          · exact k3 (by omega) (fun q => h4 q.1)
          · have e : z = 201 := by omega
            refine ⟨fun h5 => ?_, fun h5 => ?_⟩
            · exact k5 (by omega) ⟨by omega, by rw [e]; exact hs.1.1 h5⟩
            · refine k3 (by omega) (fun q => ?_)
              rw [e] at q
              exact hs.1.2 q.2 (by omega)
        · exact k2 h (fun q => by omega)
theorem xw_read {v : Int → Int → Int} {T : jjT} {kd : Int} {mc ms : Nat} (hS : TKN v T tk B n 0 0 kd) (hm : 24 * (n + 1) + 13 ≤ mc ∧ 160 * (n + 1) + 115 ≤ ms) (hQ : qRD Q v T tk T.2 (rdP B n (n + 1) 0 [])) : jmet g (d + 46) mc ms MX3_read [vR tk] (v, T) Q := by
  obtain ⟨⟨t0, t2⟩, b, c, hn, ⟨q1, q2⟩, q3, hO, h2⟩ := hS
  have hO7 := hO
  have hS : TKN v T tk B n 0 0 kd := ⟨⟨t0, t2⟩, b, c, hn, ⟨q1, q2⟩, q3, hO, h2⟩
  have t3 := t0.2.1
  have t1 : jok (nt T 4 6) T.2 4 := nt_ok (by omega)
  have tk1 : ∀ c n, jok (nt T c n) tk 3 := fun _ _ => jok_nt t0
  have o7 : jok T 7 (-8) ∧ jln T 7 = 0 := hO.2.2.2.2
  have o7' : jok (nt T 4 6) 7 (-8) ∧ jln (nt T 4 6) 7 = 0 := ⟨jok_nt o7.1, by rw [jln_nt o7.1]; exact o7.2⟩
  refine jmet_of (ls := [some (vR tk), none]) sX3_read rfl (by decide +kernel) (by decide) rfl (by simp [jent]) ?_
  refine jW_step ?_
  simp (disch := (first | decide | omega)) only [bX3_read, jxs, hps, jtsw, jlsw, List.length_cons, List.length_nil, true_and, and_true, true_implies, false_implies, implies_true, not_true_eq_false, not_false_eq_true, false_and, and_false, if_true, if_false, or_true, true_or, or_false, false_or, Classical.not_not, and_self, Int.reduceAdd, Int.reduceMul, Int.reduceSub, Int.reduceNeg, Int.reduceLT, Int.reduceLE, Int.reduceEq, Int.reduceNe, Int.reduceToNat, Nat.reduceAdd, Nat.reduceMul, Nat.reduceSub, Nat.reduceLeDiff, Nat.reduceLT, Nat.reduceEqDiff, reduceIte, Nat.zero_le, Nat.le_refl, Nat.add_zero, Nat.zero_add, jnew_eq, nt_2]
  (repeat (refine And.intro (by (first | omega | assumption | trivial | (simp only [inI]; omega) | (simp only [inL]; omega) | (refine jb_01) | (exact jb_in))) ?_))
  refine ⟨2, 9, ⟨by omega, by omega⟩, xw_txInit (d := d + 38) t1 (by omega) (nt_2) (by rw [upA_eq]) o7' ?_⟩
  intro w w1 w2
  have gw : GRT tk v T w (nt (nt (nt T 4 6) (-7) 6) 14 3) := by
    refine ⟨by show T.2 ≤ T.2 + 1 + 1 + 1; omega, fun b b0 b1 => ?_, fun b b0 b1 b2 => ?_⟩
    · have e1 := (GRT.nt (tk := tk) (v := v) (T := T) (c := 4) (n := 6) (f := fun _ => 0)).2.1 b b0 b1
      have e2 := (GRT.nt (tk := tk) (v := v) (T := nt T 4 6) (c := -7) (n := 6) (f := fun _ => 0)).2.1 b b0 (by show b < T.2 + 1; omega)
      have e3 := (GRT.nt (tk := tk) (v := v) (T := nt (nt T 4 6) (-7) 6) (c := 14) (n := 3) (f := fun _ => 0)).2.1 b b0 (by show b < T.2 + 1 + 1; omega)
      exact e3.trans (e2.trans e1)
    · rw [w1 b b0 (by show b < T.2 + 1; omega) (by omega), upA_ne (by omega)]
  have t0' := gw.ok t0
  simp (disch := (first | decide | omega)) only [jxs, hps, jtsw, jlsw, List.length_cons, List.length_nil, true_and, and_true, true_implies, false_implies, implies_true, not_true_eq_false, not_false_eq_true, false_and, and_false, if_true, if_false, or_true, true_or, or_false, false_or, Classical.not_not, and_self, Int.reduceAdd, Int.reduceMul, Int.reduceSub, Int.reduceNeg, Int.reduceLT, Int.reduceLE, Int.reduceEq, Int.reduceNe, Int.reduceToNat, Nat.reduceAdd, Nat.reduceMul, Nat.reduceSub, Nat.reduceLeDiff, Nat.reduceLT, Nat.reduceEqDiff, reduceIte, Nat.zero_le, Nat.le_refl, Nat.add_zero, Nat.zero_add, t0']
  (repeat (refine And.intro (by (first | omega | assumption | trivial | (simp only [inI]; omega) | (simp only [inL]; omega) | (refine jb_01) | (exact jb_in))) ?_))
  refine ⟨0, 0, ⟨by omega, by omega⟩, xw_next (d := d + 39) (k := 0) (o := 0) (kd := kd) (hS.gr gw (by rw [w1 tk t0.1 (by show tk < T.2 + 1; omega) (by omega), upA_ne (by omega)])) ?_⟩
  intro u u1 u2
  have gu := gw.tr (GRT.of u1)
  simp (disch := (first | decide | omega)) only [jxs, hps, jtsw, jlsw, List.length_cons, List.length_nil, true_and, and_true, true_implies, false_implies, implies_true, not_true_eq_false, not_false_eq_true, false_and, and_false, if_true, if_false, or_true, true_or, or_false, false_or, Classical.not_not, and_self, Int.reduceAdd, Int.reduceMul, Int.reduceSub, Int.reduceNeg, Int.reduceLT, Int.reduceLE, Int.reduceEq, Int.reduceNe, Int.reduceToNat, Nat.reduceAdd, Nat.reduceMul, Nat.reduceSub, Nat.reduceLeDiff, Nat.reduceLT, Nat.reduceEqDiff, reduceIte, Nat.zero_le, Nat.le_refl, Nat.add_zero, Nat.zero_add]
  exact xw_read_1 (X := T.2) ⟨Int.le_refl _, t3⟩ (n + 1) 0 [] u _ 0 _ _ kd (by omega) gu u2 (w2.gr (GRT.of u1) ⟨t2, t3⟩).1 (by omega) (by simp) (by omega) hQ
end XG
