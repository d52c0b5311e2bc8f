/-! ===== the class: a law read ===== -/
-- MODE N
set_option maxRecDepth 100000
abbrev eC (n : Nat) (r : pC) : Nat := match r with
  | .inl _ => n + 1
  | .inr x => x.2
section XG
variable {g : jjG} {d : Nat} {tk : Int} {B : Int → Int} {n : Nat} {Q : jjQ} {kd : Int}
theorem xw_sumA : SpV g tk B n kd MX3_sum (smP B n kd 8) 0 27 (d + 39) 14 120 := by
  have q0 := xw_one (g := g) (d := d) (tk := tk) (B := B) (n := n) (kd := kd) 8 (by omega)
  rw [show 3 * 8 + d + 13 = d + 24 + 13 by omega] at q0
  have q1 : SpV g tk B n kd MX3_one (oneP B n kd 8) 0 25 (d + 24 + 13) 22 140 := q0
  have q2 := xw_product (d := d + 24) q1 (fun k hk => GP_one 8 k hk)
  exact xw_sum (d := d + 25) q2 (fun k hk => GP_pr hk)
theorem xw_eitherA : SpT g tk B n kd MX3_either (eitP B n kd 8) 0 38 (d + 42) 6 70 := by
  have q0 := xw_ask (g := g) (d := d) (tk := tk) (B := B) (n := n) (kd := kd) 8 (by omega)
  rw [show 3 * 8 + d + 16 = d + 27 + 13 by omega] at q0
  have q1 : SpT g tk B n kd MX3_ask (askP B n kd 8) 0 36 (d + 27 + 13) 12 110 := q0
  have q2 := xw_both (d := d + 27) q1 (fun k hk => GP_ask 8 k hk)
  exact xw_either (d := d + 28) q2 (fun k hk => GP_bot hk)
theorem TXI.fz {w : Int → Int → Int} {T' : jjT} {X N a t : Int} {cs co : List _} {c fu : Nat} (h : TXI w T' X N cs c) (q : TRP (nwP t) w T' fu a co) (hf : fu ≤ 60) (ht : X + 2 < t ∧ w (X + 2) 1 < t) : TRP (fzX w X) w T' 60 a co := by
  refine (q.mo (P' := fzX w X) (fun b b0 b1 b2 => ⟨?_, rfl⟩) (fun _ _ _ => rfl) (Int.le_refl _)).up hf
  unfold nwP at b2
  unfold fzX
  omega
theorem TXI.fv {w : Int → Int → Int} {T' : jjT} {X N a t : Int} {cs co : List _} {c fu : Nat} (h : TXI w T' X N cs c) (q : VRP (nwP t) w T' fu a co) (hf : fu ≤ 60) (ht : X + 2 < t ∧ w (X + 2) 1 < t) : VRP (fzX w X) w T' 60 a co := by
  refine (q.mo (P' := fzX w X) (fun b b0 b1 b2 => ⟨?_, rfl⟩) (fun _ _ _ => rfl) (Int.le_refl _)).up hf
  unfold nwP at b2
  unfold fzX
  omega
theorem eC_cd {x : Int} {r : pR} : eC n (cdP kd x r) = eR n r := by
  cases r <;> rfl
theorem eR_gt {k : Nat} {r : pR} (h : GP n k r) (hk : k ≤ n) : k < eR n r := by
  cases r with
  | inl e => show k < n + 1; omega
  | inr x => exact (h x rfl).1
theorem numP_sp {lo hi : Int} {k : Nat} {x : Int × Nat} (hk : k ≤ n) (h : numP B n lo hi k = .inr x) : stT B n k = 300 ∧ x.1 = nuT B n k ∧ lo ≤ x.1 ∧ x.1 ≤ hi ∧ k < x.2 ∧ x.2 ≤ n := by
  unfold numP at h
  by_cases c : stT B n k = 300
  · rw [if_pos c] at h
    have q := nx_lt (B := B) hk (by omega)
    by_cases c2 : nuT B n k < lo ∨ hi < nuT B n k
    · rw [if_pos c2] at h
      cases h
    · rw [if_neg c2] at h
      cases h
      exact ⟨c, rfl, by omega, by omega, q⟩
  · rw [if_neg c] at h
    cases h
theorem xw_law_1 {k : Nat} {v v0 : Int → Int → Int} {T T0 : jjT} {X N : Int} {cs : List clR} {c : Nat} {mc ms : Nat} (hS : TKS v T tk B n k 0 200) (hX : TXI v T X N cs c) (h0 : T0.2 ≤ X ∧ tk < T0.2) (hG : GRT tk v0 T0 v T) (hm : 24 * (eC n (lawP B n cs k) - k) ≤ mc ∧ 160 * (eC n (lawP B n cs k) - k) ≤ ms)
    (hno : ¬ (stT B n k = 300 ∧ nuT B n k < 6 ∧ ∃ c ∈ cs, c.1 = 200 ∧ c.2.1 = nuT B n k)) (hE : ∀ f p, lawP B n cs k = .inl (f, p) → qEr Q v0 T0 tk f p)
    (hQ : ∀ x, lawP B n cs k = .inr x → ∀ w T', GRT tk v0 T0 w T' → TKS w T' tk B n x.2 0 200 → TXI w T' X N (cs ++ [x.1]) c → Q (.inl none) (w, T')) : jW bX3_law (g, d + 42, mc, ms, Q) 1 [some (vR tk), some (vR X), none] [] (v, T) 0 0 := by
  obtain ⟨⟨t0, t2, t3, h2⟩, ⟨f3, f4, f6, f7⟩, ⟨hk, hn⟩, hO, f5⟩ := hS.st
  have pos : k < eC n (lawP B n cs k) := by
    unfold lawP
    rw [if_neg hno]
    cases hx : numP B n 0 5 k with
    | inl e => show k < n + 1; omega
    | inr x =>
      have sp := numP_sp hk hx
      dsimp only
      rw [eC_cd]
      have := eR_gt (GP_eit (B := B) (kd := 200) (D := 8) sp.2.2.2.2.2) sp.2.2.2.2.2
      omega
  unfold lawP at hm hE hQ pos
  rw [if_neg hno] at hm hE hQ pos
  refine jW_step ?_
  simp (disch := (first | decide | omega)) only [bX3_law, jxs, hps, jtsw, jlsw, List.length_cons, List.length_nil, true_and, and_true, true_implies, false_implies, implies_true, not_true_eq_false, not_false_eq_true, false_and, and_false, if_true, if_false, or_true, true_or, or_false, false_or, Classical.not_not, and_self, Int.reduceAdd, Int.reduceMul, Int.reduceSub, Int.reduceNeg, Int.reduceLT, Int.reduceLE, Int.reduceEq, Int.reduceNe, Int.reduceToNat, Nat.reduceAdd, Nat.reduceMul, Nat.reduceSub, Nat.reduceLeDiff, Nat.reduceLT, Nat.reduceEqDiff, reduceIte, Nat.zero_le, Nat.le_refl, Nat.add_zero, Nat.zero_add, t0]
  refine ⟨1, 8, ⟨by omega, by omega⟩, xw_number (d := d + 32) hS (fun _ => ⟨Nat.le_refl _, Nat.le_refl _⟩) (fun f p hfp => ?_) (fun x hx => ?_)⟩
  · rw [hfp] at hE
    intro w2 T2 a q1 q2 q3 q4 q5
    simp (disch := (first | decide | omega)) only [jxs, hps, jtsw, jlsw, List.length_cons, List.length_nil, true_and, and_true, true_implies, false_implies, implies_true, not_true_eq_false, not_false_eq_true, false_and, and_false, if_true, if_false, or_true, true_or, or_false, false_or, Classical.not_not, and_self, Int.reduceAdd, Int.reduceMul, Int.reduceSub, Int.reduceNeg, Int.reduceLT, Int.reduceLE, Int.reduceEq, Int.reduceNe, Int.reduceToNat, Nat.reduceAdd, Nat.reduceMul, Nat.reduceSub, Nat.reduceLeDiff, Nat.reduceLT, Nat.reduceEqDiff, reduceIte, Nat.zero_le, Nat.le_refl, Nat.add_zero, Nat.zero_add]
    (repeat (refine And.intro (by (first | omega | assumption | trivial | (simp only [inI]; omega) | (simp only [inL]; omega) | (refine jb_01) | (exact jb_in))) ?_))
    exact hE f p rfl w2 T2 a (hG.tr q1) q2 q3 q4 q5
  · have hx2 : 0 ≤ x.1 ∧ x.1 < 6 ∧ k < x.2 ∧ x.2 ≤ n ∧ (∀ cl ∈ cs, cl.1 = 200 → cl.2.1 ≠ x.1) := by
      have sp := numP_sp hk hx
      exact ⟨by omega, by omega, sp.2.2.2.2.1, sp.2.2.2.2.2, fun cl hc e1 e2 => hno ⟨sp.1, by omega, cl, hc, e1, by omega⟩⟩
    clear pos
    rw [hx] at hm hE hQ
    dsimp only at hm hE hQ
    rw [eC_cd] at hm
    have pos := eR_gt (GP_eit (B := B) (kd := 200) (D := 8) hx2.2.2.2.1) hx2.2.2.2.1
    intro w w1 w2
    have gw : GRT tk v T w T := GRT.of w1
    obtain ⟨X1, e0, e1, e2⟩ := hX.gr gw (by omega)
    have xa := X1.1
    obtain ⟨⟨a1, a2⟩, ⟨b1, b2, b3⟩, ⟨c1, c2⟩, G, ee, nn⟩ := xa
    have ga := G.1.1.2.1
    dsimp only at ga
    have gb := G.1.2.2.2.1.2.1
    dsimp only at gb
    simp (disch := (first | decide | omega)) only [jxs, hps, jtsw, jlsw, List.length_cons, List.length_nil, true_and, and_true, true_implies, false_implies, implies_true, not_true_eq_false, not_false_eq_true, false_and, and_false, if_true, if_false, or_true, true_or, or_false, false_or, Classical.not_not, and_self, Int.reduceAdd, Int.reduceMul, Int.reduceSub, Int.reduceNeg, Int.reduceLT, Int.reduceLE, Int.reduceEq, Int.reduceNe, Int.reduceToNat, Nat.reduceAdd, Nat.reduceMul, Nat.reduceSub, Nat.reduceLeDiff, Nat.reduceLT, Nat.reduceEqDiff, reduceIte, Nat.zero_le, Nat.le_refl, Nat.add_zero, Nat.zero_add, a1, b1]
    (repeat (refine And.intro (by (first | omega | assumption | trivial | (simp only [inI]; omega) | (simp only [inL]; omega) | (refine jb_01) | (exact jb_in))) ?_))
    refine ⟨24 * (eR n (eitP B n 200 8 x.2) - x.2) - 6, 160 * (eR n (eitP B n 200 8 x.2) - x.2) - 70, ⟨by omega, by omega⟩, xw_eitherA (d := d) x.2 w T _ w2 ⟨fun f p hfp => ?_, fun y hy => ?_⟩⟩
    · rw [hfp] at hE
      intro w3 T3 a q1 q2 q3 q4 q5
      simp (disch := (first | decide | omega)) only [jxs, hps, jtsw, jlsw, List.length_cons, List.length_nil, true_and, and_true, true_implies, false_implies, implies_true, not_true_eq_false, not_false_eq_true, false_and, and_false, if_true, if_false, or_true, true_or, or_false, false_or, Classical.not_not, and_self, Int.reduceAdd, Int.reduceMul, Int.reduceSub, Int.reduceNeg, Int.reduceLT, Int.reduceLE, Int.reduceEq, Int.reduceNe, Int.reduceToNat, Nat.reduceAdd, Nat.reduceMul, Nat.reduceSub, Nat.reduceLeDiff, Nat.reduceLT, Nat.reduceEqDiff, reduceIte, Nat.zero_le, Nat.le_refl, Nat.add_zero, Nat.zero_add]
      (repeat (refine And.intro (by (first | omega | assumption | trivial | (simp only [inI]; omega) | (simp only [inL]; omega) | (refine jb_01) | (exact jb_in))) ?_))
      exact hE f p rfl w3 T3 a ((hG.tr gw).tr q1) q2 q3 q4 q5
    · rw [hy] at hQ
      intro u U a u1 u2 u3
      obtain ⟨X2, d0, d1, d2⟩ := X1.gr u1 (by omega)
      have xa2 := X2.1
      obtain ⟨⟨a1', a2'⟩, ⟨b1', b2', b3'⟩, ⟨c1', c2'⟩, G', ee', nn'⟩ := xa2
      have ja : jisA U a [6, 11, 12] := u3.at.2
      simp (disch := (first | decide | omega)) only [jxs, hps, jtsw, jlsw, List.length_cons, List.length_nil, true_and, and_true, true_implies, false_implies, implies_true, not_true_eq_false, not_false_eq_true, false_and, and_false, if_true, if_false, or_true, true_or, or_false, false_or, Classical.not_not, and_self, Int.reduceAdd, Int.reduceMul, Int.reduceSub, Int.reduceNeg, Int.reduceLT, Int.reduceLE, Int.reduceEq, Int.reduceNe, Int.reduceToNat, Nat.reduceAdd, Nat.reduceMul, Nat.reduceSub, Nat.reduceLeDiff, Nat.reduceLT, Nat.reduceEqDiff, reduceIte, Nat.zero_le, Nat.le_refl, Nat.add_zero, Nat.zero_add, c1', c2', ja]
      (repeat (refine And.intro (by (first | omega | assumption | trivial | (simp only [inI]; omega) | (simp only [inL]; omega) | (refine jb_01) | (exact jb_in))) ?_))
      have gF := ((hG.tr gw).tr u1).wr (a := X + 1) (f := up1 (u (X + 1)) x.1 a) (Or.inl (by omega))
      exact hQ _ rfl _ _ gF (u2.fr (fun b b0 b1 => upA_ne (by omega)) (fun _ _ _ => rfl) (Int.le_refl _) (upA_ne (by omega))) (X2.lw ⟨hx2.1, hx2.2.1⟩ (X2.fz u3 (by omega) (by rw [d2]; omega)) hx2.2.2.2.2)
theorem xw_law {k : Nat} {v v0 : Int → Int → Int} {T T0 : jjT} {X N : Int} {cs : List clR} {c : Nat} {mc ms : Nat} (hS : TKS v T tk B n k 0 200) (hX : TXI v T X N cs c) (h0 : T0.2 ≤ X ∧ tk < T0.2) (hG : GRT tk v0 T0 v T) (hm : 24 * (eC n (lawP B n cs k) - k) ≤ mc ∧ 160 * (eC n (lawP B n cs k) - k) ≤ ms)
    (hE : ∀ f p, lawP B n cs k = .inl (f, p) → qEr Q v0 T0 tk f p)
    (hQ : ∀ x, lawP B n cs k = .inr x → ∀ w T', GRT tk v0 T0 w T' → TKS w T' tk B n x.2 0 200 → TXI w T' X N (cs ++ [x.1]) c → Q (.inl none) (w, T')) : jmet g (d + 43) mc ms MX3_law [vR tk, vR X] (v, T) Q := by
  obtain ⟨⟨t0, t2, t3, h2⟩, ⟨f3, f4, f6, f7⟩, ⟨hk, hn⟩, hO, f5⟩ := hS.st
  have hnu := hS.2.2.2.1
  have hst := tk_sp (B := B) hk
  have tn : jok (nt T 5 8) T.2 5 := nt_ok (by omega)
  have xa := hX.1
  obtain ⟨⟨a1, a2⟩, ⟨b1, b2, b3⟩, ⟨c1, c2⟩, G, ee, nn⟩ := xa
  have kk := xw_law_1 (g := g) (Q := Q) (d := d) hS hX h0 hG hm
  refine jmet_of (ls := [some (vR tk), some (vR X), none]) sX3_law rfl (by decide +kernel) (by decide) rfl (by simp [jent]) ?_
  by_cases cc : stT B n k = 300
  · have e5 := hnu cc
    rw [e5] at f5
    refine jW_step ?_
    simp (disch := (first | decide | omega)) only [bX3_law, jxs, hps, jtsw, jlsw, List.length_cons, List.length_nil, true_and, and_true, true_implies, false_implies, implies_true, not_true_eq_false, not_false_eq_true, false_and, and_false, if_true, if_false, or_true, true_or, or_false, false_or, Classical.not_not, and_self, Int.reduceAdd, Int.reduceMul, Int.reduceSub, Int.reduceNeg, Int.reduceLT, Int.reduceLE, Int.reduceEq, Int.reduceNe, Int.reduceToNat, Nat.reduceAdd, Nat.reduceMul, Nat.reduceSub, Nat.reduceLeDiff, Nat.reduceLT, Nat.reduceEqDiff, reduceIte, Nat.zero_le, Nat.le_refl, Nat.add_zero, Nat.zero_add, t0, f4, cc, e5]
    refine ⟨fun h => ?_, fun h => ?_⟩
    · exact kk (fun q => by omega) hE hQ
    · simp (disch := (first | decide | omega)) only [jxs, hps, jtsw, jlsw, List.length_cons, List.length_nil, true_and, and_true, true_implies, false_implies, implies_true, not_true_eq_false, not_false_eq_true, false_and, and_false, if_true, if_false, or_true, true_or, or_false, false_or, Classical.not_not, and_self, Int.reduceAdd, Int.reduceMul, Int.reduceSub, Int.reduceNeg, Int.reduceLT, Int.reduceLE, Int.reduceEq, Int.reduceNe, Int.reduceToNat, Nat.reduceAdd, Nat.reduceMul, Nat.reduceSub, Nat.reduceLeDiff, Nat.reduceLT, Nat.reduceEqDiff, reduceIte, Nat.zero_le, Nat.le_refl, Nat.add_zero, Nat.zero_add, a1, b1, c1, c2]
      (repeat (refine And.intro (by (first | omega | assumption | trivial | (simp only [inI]; omega) | (simp only [inL]; omega) | (refine jb_01) | (exact jb_in))) ?_))
      refine ⟨fun h3 => ?_, fun h3 => ?_⟩
      · refine kk (fun q => ?_) hE hQ
        obtain ⟨_, q2, cl, q3, q4, q5⟩ := q
        have := ((hX.2.1.1 _ (by omega) (by omega)).1 cl q3 q4 q5).at.2
        rw [h3] at this
        obtain ⟨_, _, q6⟩ := this
        exact absurd q6.1 (by decide)
      · have ex : ∃ c ∈ cs, c.1 = 200 ∧ c.2.1 = nuT B n k := by
          refine Decidable.byContradiction (fun q => h3 ((hX.2.1.1 _ (by omega) (by omega)).2 (fun cl q1 q2 q3 => q ⟨cl, q1, q2, q3⟩)))
        have q : stT B n k = 300 ∧ nuT B n k < 6 ∧ ∃ c ∈ cs, c.1 = 200 ∧ c.2.1 = nuT B n k := ⟨cc, by omega, ex⟩
        unfold lawP at hm hE
        rw [if_pos q] at hm hE
        have hm : 24 * (n + 1 - k) ≤ mc ∧ 160 * (n + 1 - k) ≤ ms := hm
        refine ⟨1, 8, ⟨by omega, by omega⟩, xw_wrong (d := d + 33) t0 h2 ?_⟩
        rw [f3]
        simp (disch := (first | decide | omega)) only [jxs, hps, jtsw, jlsw, List.length_cons, List.length_nil, true_and, and_true, true_implies, false_implies, implies_true, not_true_eq_false, not_false_eq_true, false_and, and_false, if_true, if_false, or_true, true_or, or_false, false_or, Classical.not_not, and_self, Int.reduceAdd, Int.reduceMul, Int.reduceSub, Int.reduceNeg, Int.reduceLT, Int.reduceLE, Int.reduceEq, Int.reduceNe, Int.reduceToNat, Nat.reduceAdd, Nat.reduceMul, Nat.reduceSub, Nat.reduceLeDiff, Nat.reduceLT, Nat.reduceEqDiff, reduceIte, Nat.zero_le, Nat.le_refl, Nat.add_zero, Nat.zero_add, tn]
        (repeat (refine And.intro (by (first | omega | assumption | trivial | (simp only [inI]; omega) | (simp only [inL]; omega) | (refine jb_01) | (exact jb_in))) ?_))
        exact wrg_gr h2 ((hE 4 _ rfl).gr hG)
  · refine jW_step ?_
    simp (disch := (first | decide | omega)) only [bX3_law, jxs, hps, jtsw, jlsw, List.length_cons, List.length_nil, true_and, and_true, true_implies, false_implies, implies_true, not_true_eq_false, not_false_eq_true, false_and, and_false, if_true, if_false, or_true, true_or, or_false, false_or, Classical.not_not, and_self, Int.reduceAdd, Int.reduceMul, Int.reduceSub, Int.reduceNeg, Int.reduceLT, Int.reduceLE, Int.reduceEq, Int.reduceNe, Int.reduceToNat, Nat.reduceAdd, Nat.reduceMul, Nat.reduceSub, Nat.reduceLeDiff, Nat.reduceLT, Nat.reduceEqDiff, reduceIte, Nat.zero_le, Nat.le_refl, Nat.add_zero, Nat.zero_add, t0, f4]
    exact ⟨fun _ => kk (fun q => cc q.1) hE hQ, fun q => absurd q cc⟩
end XG
