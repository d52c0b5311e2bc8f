/-! ===== the class: one, read ===== -/
-- MODE N
set_option maxRecDepth 100000
def dpP (B : Int → Int) (n : Nat) (kd : Int) (D k : Nat) : pR := match D with
  | 0 => erT B n 3 k
  | D + 1 => if stT B n k = 40 then clsP B n (smP B n kd D (nxT B n k)) else appP (2, 0) (oneP B n kd D (nxT B n k))
theorem oneP_eq {B : Int → Int} {n : Nat} {kd : Int} {D k : Nat} : oneP B n kd D k = atmP B n kd k (dpP B n kd D k) := by
  cases D with
  | zero => rfl
  | succ D => rfl
/-- cells that came stay while the token reader goes on -/
theorem VRP.tk {t tk : Int} {v w : Int → Int → Int} {T : jjT} {n : Nat} {a : Int} {c : List (Int × Int)} (h : VRP (nwP t) v T n a c) (ht : 562 ≤ tk ∧ tk < t) (e : ∀ a, a ≠ tk → w a = v a) : VRP (nwP t) w T n a c :=
  h.mo (fun b _ _ b2 => ⟨b2, e b (by unfold nwP at b2; omega)⟩) (fun _ _ _ => rfl) (Int.le_refl _)
section XG
variable {g : jjG} {d : Nat} {tk : Int} {B : Int → Int} {n : Nat} {kd : Int}
theorem xw_one_1 {D : Nat} {o : Int} {T : jjT} {Q : jjQ} {v : Int → Int → Int} {a l1 : Int} {c : List (Int × Int)} {k' : Nat} {mc ms nc ns : Nat} {w : Int → Int → Int} {T' : jjT} (htk : 562 ≤ tk ∧ tk < T.2) (hG : GRT tk v T w T') (hS : TKS w T' tk B n k' (o + 1) kd) (ho : -1 ≤ o ∧ o ≤ 8) (hb : nc ≤ mc ∧ ns ≤ ms) (hV : VRP (nwP T.2) w T' (3 * D + 1) a c)
    (hQ : ∀ w T' a, GRT tk v T w T' → TKS w T' tk B n k' o kd → VRP (nwP T.2) w T' (3 * D + 1) a c → Q (.inl (some (vR a))) (w, T')) : jW bX3_one (g, 3 * D + d + 12, mc, ms, Q) 1 [some (vR tk), some (vI l1), some (vR a)] [] (w, T') nc ns := by
  obtain ⟨⟨t0, t2, t3, h2⟩, ⟨f3, f4, f6, f7⟩, ⟨hk, hn⟩, hO, f5⟩ := hS.st
  refine jW_step ?_
  simp (disch := (first | decide | omega)) only [bX3_one, jxs, hps, jtsw, jlsw, List.length_cons, List.length_nil, true_and, and_true, true_implies, false_implies, implies_true, not_true_eq_false, not_false_eq_true, false_and, and_false, if_true, if_false, or_true, true_or, or_false, false_or, Classical.not_not, and_self, Int.reduceAdd, Int.reduceMul, Int.reduceSub, Int.reduceNeg, Int.reduceLT, Int.reduceLE, Int.reduceEq, Int.reduceNe, Int.reduceToNat, Nat.reduceAdd, Nat.reduceMul, Nat.reduceSub, Nat.reduceLeDiff, Nat.reduceLT, Nat.reduceEqDiff, reduceIte, Nat.zero_le, Nat.le_refl, Nat.add_zero, Nat.zero_add, t0, f6]
  (repeat (refine And.intro (by (first | omega | assumption | trivial | (simp only [inI]; omega) | (simp only [inL]; omega) | (refine jb_01) | (exact jb_in))) ?_))
  refine hQ _ T' a (hG.wr (Or.inr rfl)) (hS.op (o' := o) (kd' := kd) (fun j j6 _ => up1_ne j6) (by rw [up1_eq]; omega) ((up1_ne (by decide)).trans f7)) ?_
  exact hV.mo (fun b _ _ b2 => ⟨b2, upA_ne (by unfold nwP at b2; omega)⟩) (fun _ _ _ => rfl) (Int.le_refl _)
theorem xw_one_s {D : Nat} (hD : D ≤ 8) (ih : ∀ D', D = D' + 1 → SpV g tk B n kd MX3_one (oneP B n kd D') (8 - (D' : Int)) (3 * D' + 1) (3 * D' + d + 13) 22 140) : SpV g tk B n kd MX3_one (oneP B n kd D) (8 - (D : Int)) (3 * D + 1) (3 * D + d + 13) 22 140 := by
  intro k v T Q hS hQ
  obtain ⟨⟨t0, t2, t3, h2⟩, ⟨f3, f4, f6, f7⟩, ⟨hk, hn⟩, hO, f5⟩ := hS.st
  have tsp := tk_sp (B := B) hk
  rw [oneP_eq] at hQ ⊢
  generalize hmc : cC n 22 (atmP B n kd k (dpP B n kd D k)) k = mc
  generalize hms : cS n 140 (atmP B n kd k (dpP B n kd D k)) k = ms
  refine jmet_of (ls := [some (vR tk), none, none]) sX3_one rfl (by decide +kernel) (by decide) rfl (by simp [jent]) ?_
  unfold atmP at hmc hms hQ
  have tE : ∀ T : jjT, 562 ≤ T.2 → jok (nt T 5 8) T.2 5 := fun T h => nt_ok (by omega)
  by_cases c : stT B n k = 300
  · rw [if_pos c] at hmc hms hQ
    have nl := nx_lt (B := B) hk (by omega)
    have gN : GRT tk v T (upA v T.2 (fun _ => 0)) (nt T 8 1) := GRT.nt
    have hSN := hS.gr gN (upA_ne (by omega))
    have tk1 : ∀ c n, jok (nt T c n) tk 3 := fun _ _ => jok_nt t0
    have tP : jok (nt T 8 1) T.2 8 := nt_ok (by omega)
    have bud : 2 ≤ mc ∧ 20 ≤ ms := by
      by_cases q : 9999 < nuT B n k
      · rw [if_pos q] at hmc hms
        have a1 : 24 * (n + 1 - k) - 22 = mc := hmc
        have a2 : 160 * (n + 1 - k) - 140 = ms := hms
        omega
      · rw [if_neg q] at hmc hms
        have a1 : 24 * (nxT B n k - k) - 22 = mc := hmc
        have a2 : 160 * (nxT B n k - k) - 140 = ms := hms
        omega
    refine jW_step ?_
    simp (disch := (first | decide | omega)) only [bX3_one, jxs, hps, jtsw, jlsw, List.length_cons, List.length_nil, true_and, and_true, true_implies, false_implies, implies_true, not_true_eq_false, not_false_eq_true, false_and, and_false, if_true, if_false, or_true, true_or, or_false, false_or, Classical.not_not, and_self, Int.reduceAdd, Int.reduceMul, Int.reduceSub, Int.reduceNeg, Int.reduceLT, Int.reduceLE, Int.reduceEq, Int.reduceNe, Int.reduceToNat, Nat.reduceAdd, Nat.reduceMul, Nat.reduceSub, Nat.reduceLeDiff, Nat.reduceLT, Nat.reduceEqDiff, reduceIte, Nat.zero_le, Nat.le_refl, Nat.add_zero, Nat.zero_add, jnew_eq, nt_2, t0, f4, tk1, c]
    (repeat (refine And.intro (by (first | omega | assumption | trivial | (simp only [inI]; omega) | (simp only [inL]; omega) | (refine jb_01) | (exact jb_in))) ?_))
    refine ⟨1, 8, ⟨by omega, by omega⟩, xw_number hSN (fun _ => ⟨Nat.le_refl _, Nat.le_refl _⟩) (fun ff pp hfp => ?_) (fun x hx => ?_)⟩
    · unfold numP at hfp
      rw [if_pos c] at hfp
      by_cases q : nuT B n k < 0 ∨ 9999 < nuT B n k
      · rw [if_pos q] at hfp
        cases hfp
        have e := hQ.1 2 (pl B n k : Int) (by rw [if_pos (by omega)]; rfl)
        intro w2 T2 a q1 q2 q3 q4 q5
        simp (disch := (first | decide | omega)) only [jxs, hps, jtsw, jlsw, List.length_cons, List.length_nil, true_and, and_true, true_implies, false_implies, implies_true, not_true_eq_false, not_false_eq_true, false_and, and_false, if_true, if_false, or_true, true_or, or_false, false_or, Classical.not_not, and_self, Int.reduceAdd, Int.reduceMul, Int.reduceSub, Int.reduceNeg, Int.reduceLT, Int.reduceLE, Int.reduceEq, Int.reduceNe, Int.reduceToNat, Nat.reduceAdd, Nat.reduceMul, Nat.reduceSub, Nat.reduceLeDiff, Nat.reduceLT, Nat.reduceEqDiff, reduceIte, Nat.zero_le, Nat.le_refl, Nat.add_zero, Nat.zero_add]
        exact ⟨by omega, by omega, e w2 T2 a (gN.tr q1) q2 q3 q4 q5⟩
      · rw [if_neg q] at hfp
        cases hfp
    · unfold numP at hx
      rw [if_pos c] at hx
      by_cases q : nuT B n k < 0 ∨ 9999 < nuT B n k
      · rw [if_pos q] at hx
        cases hx
      · rw [if_neg q] at hx
        cases hx
        intro w w1 w2
        simp (disch := (first | decide | omega)) only [jxs, hps, jtsw, jlsw, List.length_cons, List.length_nil, true_and, and_true, true_implies, false_implies, implies_true, not_true_eq_false, not_false_eq_true, false_and, and_false, if_true, if_false, or_true, true_or, or_false, false_or, Classical.not_not, and_self, Int.reduceAdd, Int.reduceMul, Int.reduceSub, Int.reduceNeg, Int.reduceLT, Int.reduceLE, Int.reduceEq, Int.reduceNe, Int.reduceToNat, Nat.reduceAdd, Nat.reduceMul, Nat.reduceSub, Nat.reduceLeDiff, Nat.reduceLT, Nat.reduceEqDiff, reduceIte, Nat.zero_le, Nat.le_refl, Nat.add_zero, Nat.zero_add]
        (repeat (refine And.intro (by (first | omega | assumption | trivial | (simp only [inI]; omega) | (simp only [inL]; omega) | (refine jb_01) | (exact jb_in))) ?_))
        refine ⟨0, 0, ⟨by omega, by omega⟩, xj_plain tP h2 ?_⟩
        simp (disch := (first | decide | omega)) only [jxs, hps, jtsw, jlsw, List.length_cons, List.length_nil, true_and, and_true, true_implies, false_implies, implies_true, not_true_eq_false, not_false_eq_true, false_and, and_false, if_true, if_false, or_true, true_or, or_false, false_or, Classical.not_not, and_self, Int.reduceAdd, Int.reduceMul, Int.reduceSub, Int.reduceNeg, Int.reduceLT, Int.reduceLE, Int.reduceEq, Int.reduceNe, Int.reduceToNat, Nat.reduceAdd, Nat.reduceMul, Nat.reduceSub, Nat.reduceLeDiff, Nat.reduceLT, Nat.reduceEqDiff, reduceIte, Nat.zero_le, Nat.le_refl, Nat.add_zero, Nat.zero_add]
        have gF : GRT tk v T (upA w T.2 (up1 (w T.2) 0 (nuT B n k))) (nt T 8 1) := (gN.tr (GRT.of w1)).wr (Or.inl (Int.le_refl _))
        refine ⟨by omega, by omega, hQ.2 ([(0, nuT B n k)], nxT B n k) (by rw [if_neg (by omega)]) _ _ _ gF (w2.fr (fun b b0 b1 => upA_ne (by omega)) (fun _ _ _ => rfl) (Int.le_refl _) (upA_ne (by omega))) ?_⟩
        unfold VRP VR
        refine ⟨Or.inr h2, Or.inl ⟨(rsH_in (h := (_, _)) (Or.inr (Int.le_refl _)) tP).1, ?_, ?_⟩⟩
        · show _ = [(0, upA w T.2 (up1 (w T.2) 0 (nuT B n k)) T.2 0)]
          rw [upA_eq, up1_eq]
        · show 0 ≤ upA w T.2 (up1 (w T.2) 0 (nuT B n k)) T.2 0 ∧ upA w T.2 (up1 (w T.2) 0 (nuT B n k)) T.2 0 ≤ 9999
          rw [upA_eq, up1_eq]
          omega
  · rw [if_neg c] at hmc hms hQ
    have nb := nmT_bd (t := stT B n k)
    refine jW_step ?_
    simp (disch := (first | decide | omega)) only [bX3_one, jxs, hps, jtsw, jlsw, List.length_cons, List.length_nil, true_and, and_true, true_implies, false_implies, implies_true, not_true_eq_false, not_false_eq_true, false_and, and_false, if_true, if_false, or_true, true_or, or_false, false_or, Classical.not_not, and_self, Int.reduceAdd, Int.reduceMul, Int.reduceSub, Int.reduceNeg, Int.reduceLT, Int.reduceLE, Int.reduceEq, Int.reduceNe, Int.reduceToNat, Nat.reduceAdd, Nat.reduceMul, Nat.reduceSub, Nat.reduceLeDiff, Nat.reduceLT, Nat.reduceEqDiff, reduceIte, Nat.zero_le, Nat.le_refl, Nat.add_zero, Nat.zero_add, t0, f4]
    (try refine ⟨fun _ => ?_, fun h9 => (by exfalso; omega)⟩)
    refine ⟨0, 0, ⟨by omega, by omega⟩, xw_nameNow hS ?_⟩
    by_cases c2 : nmT (stT B n k) = -1
    · rw [if_pos c2] at hmc hms hQ
      rw [c2]
      simp (disch := (first | decide | omega)) only [jxs, hps, jtsw, jlsw, List.length_cons, List.length_nil, true_and, and_true, true_implies, false_implies, implies_true, not_true_eq_false, not_false_eq_true, false_and, and_false, if_true, if_false, or_true, true_or, or_false, false_or, Classical.not_not, and_self, Int.reduceAdd, Int.reduceMul, Int.reduceSub, Int.reduceNeg, Int.reduceLT, Int.reduceLE, Int.reduceEq, Int.reduceNe, Int.reduceToNat, Nat.reduceAdd, Nat.reduceMul, Nat.reduceSub, Nat.reduceLeDiff, Nat.reduceLT, Nat.reduceEqDiff, reduceIte, Nat.zero_le, Nat.le_refl, Nat.add_zero, Nat.zero_add, t0, f4]
      by_cases c3 : stT B n k = 40 ∨ stT B n k = 45
      · rw [if_pos c3] at hmc hms hQ
        have nl := nx_lt (B := B) hk (by omega)
        cases D with
        | zero =>
          have a1 : 24 * (n + 1 - k) - 22 = mc := hmc
          have a2 : 160 * (n + 1 - k) - 140 = ms := hms
          have er : qEr Q v T tk 3 (pl B n k : Int) := hQ.1 3 _ rfl
          have hop : ∀ (K : jjP) (ls : List (Option jjV)) (st : List jjV), jmet g (3 * 0 + d + 12) 1 8 MX3_opens [vR tk] (v, T) (jres (g, 3 * 0 + d + 12, mc, ms, Q) K ls st 1 8) := by
            intro K ls st
            refine xw_opens hS (by omega) (fun _ => ⟨Nat.le_refl _, Nat.le_refl _⟩) (fun _ => ?_) (fun h => by omega)
            intro w2 T2 a q1 q2 q3 q4 q5
            simp (disch := (first | decide | omega)) only [jxs, hps, jtsw, jlsw, List.length_cons, List.length_nil, true_and, and_true, true_implies, false_implies, implies_true, not_true_eq_false, not_false_eq_true, false_and, and_false, if_true, if_false, or_true, true_or, or_false, false_or, Classical.not_not, and_self, Int.reduceAdd, Int.reduceMul, Int.reduceSub, Int.reduceNeg, Int.reduceLT, Int.reduceLE, Int.reduceEq, Int.reduceNe, Int.reduceToNat, Nat.reduceAdd, Nat.reduceMul, Nat.reduceSub, Nat.reduceLeDiff, Nat.reduceLT, Nat.reduceEqDiff, reduceIte, Nat.zero_le, Nat.le_refl, Nat.add_zero, Nat.zero_add]
            exact ⟨by omega, by omega, er w2 T2 a q1 q2 q3 q4 q5⟩
          refine ⟨fun h1 => ⟨fun h3 => absurd c3 (by omega), fun h3 => ⟨1, 8, ⟨by omega, by omega⟩, hop _ _ _⟩⟩, fun h1 => ⟨1, 8, ⟨by omega, by omega⟩, hop _ _ _⟩⟩
        | succ D =>
          have hi := ih D rfl
          have eo : 8 - ((D + 1 : Nat) : Int) + 1 = 8 - (D : Int) := by omega
          by_cases c40 : stT B n k = 40
          · have hmc1 : cC n 22 (clsP B n (smP B n kd D (nxT B n k))) k = mc := by rw [← hmc]; show _ = cC n 22 (if stT B n k = 40 then clsP B n (smP B n kd D (nxT B n k)) else _) k; rw [if_pos c40]
            have hms1 : cS n 140 (clsP B n (smP B n kd D (nxT B n k))) k = ms := by rw [← hms]; show _ = cS n 140 (if stT B n k = 40 then clsP B n (smP B n kd D (nxT B n k)) else _) k; rw [if_pos c40]
            have hQ1 : qVR Q v T tk B n (8 - ((D + 1 : Nat) : Int)) kd (3 * (D + 1) + 1) (clsP B n (smP B n kd D (nxT B n k))) := by
              have e : dpP B n kd (D + 1) k = clsP B n (smP B n kd D (nxT B n k)) := if_pos c40
              rw [← e]
              exact hQ
            clear hmc hms hQ
            refine ⟨fun h1 => absurd c40 h1, fun _ => ⟨0, 0, ⟨by omega, by omega⟩, xw_opens hS (by omega) (fun h => by omega) (fun h => by omega) ?_⟩⟩
            intro _ w1 e1 S1
            rw [eo] at S1
            have hsum := xw_sum (d := 3 * D + d + 1) (xw_product (d := 3 * D + d) hi (fun j hj => GP_one D j hj)) (fun j hj => GP_pr hj)
            have sp := fun Q => hsum (nxT B n k) w1 T Q S1
            have hgs := GP_sm (B := B) (kd := kd) (D := D) nl.2
            have gw : GRT tk v T w1 T := GRT.of e1
            simp (disch := (first | decide | omega)) only [jxs, hps, jtsw, jlsw, List.length_cons, List.length_nil, true_and, and_true, true_implies, false_implies, implies_true, not_true_eq_false, not_false_eq_true, false_and, and_false, if_true, if_false, or_true, true_or, or_false, false_or, Classical.not_not, and_self, Int.reduceAdd, Int.reduceMul, Int.reduceSub, Int.reduceNeg, Int.reduceLT, Int.reduceLE, Int.reduceEq, Int.reduceNe, Int.reduceToNat, Nat.reduceAdd, Nat.reduceMul, Nat.reduceSub, Nat.reduceLeDiff, Nat.reduceLT, Nat.reduceEqDiff, reduceIte, Nat.zero_le, Nat.le_refl, Nat.add_zero, Nat.zero_add, t0]
            have sp1 : ∀ Q, qVR Q w1 T tk B n (8 - (D : Int)) kd (3 * D + 1 + 1 + 1) (smP B n kd D (nxT B n k)) → jmet g (3 * D + d + 1 + 14) (cC n 14 (smP B n kd D (nxT B n k)) (nxT B n k)) (cS n 120 (smP B n kd D (nxT B n k)) (nxT B n k)) MX3_sum [vR tk] (w1, T) Q := sp
            refine ⟨cC n 14 (smP B n kd D (nxT B n k)) (nxT B n k), cS n 120 (smP B n kd D (nxT B n k)) (nxT B n k), ?_⟩
            clear sp hsum
            revert hmc1 hms1 hQ1 sp1 hgs
            cases smP B n kd D (nxT B n k) with
            | inl e =>
              intro hmc1 hms1 hQ1 hgs sp1
              have a1 : 24 * (n + 1 - k) - 22 = mc := hmc1
              have a2 : 160 * (n + 1 - k) - 140 = ms := hms1
              have a3 : cC n 14 (.inl e) (nxT B n k) = 24 * (n + 1 - nxT B n k) - 14 := rfl
              have a4 : cS n 120 (.inl e) (nxT B n k) = 160 * (n + 1 - nxT B n k) - 120 := rfl
              refine ⟨⟨by omega, by omega⟩, jmet_le (by omega) (Nat.le_refl _) (Nat.le_refl _) (sp1 _ ⟨fun ff pp hfp => ?_, fun x hx => (by cases hx)⟩)⟩
              cases hfp
              intro w2 T2 a q1 q2 q3 q4 q5
              simp (disch := (first | decide | omega)) only [jxs, hps, jtsw, jlsw, List.length_cons, List.length_nil, true_and, and_true, true_implies, false_implies, implies_true, not_true_eq_false, not_false_eq_true, false_and, and_false, if_true, if_false, or_true, true_or, or_false, false_or, Classical.not_not, and_self, Int.reduceAdd, Int.reduceMul, Int.reduceSub, Int.reduceNeg, Int.reduceLT, Int.reduceLE, Int.reduceEq, Int.reduceNe, Int.reduceToNat, Nat.reduceAdd, Nat.reduceMul, Nat.reduceSub, Nat.reduceLeDiff, Nat.reduceLT, Nat.reduceEqDiff, reduceIte, Nat.zero_le, Nat.le_refl, Nat.add_zero, Nat.zero_add]
              exact ⟨by omega, by omega, hQ1.1 _ _ rfl w2 T2 a (gw.tr q1) q2 q3 q4 q5⟩
            | inr x =>
              intro hmc1 hms1 hQ1 hgs sp1
              have gx := hgs x rfl
              have a3 : cC n 14 (.inr x) (nxT B n k) = 24 * (x.2 - nxT B n k) - 14 := rfl
              have a4 : cS n 120 (.inr x) (nxT B n k) = 160 * (x.2 - nxT B n k) - 120 := rfl
              have bud : 24 * (x.2 - nxT B n k) + 4 ≤ mc ∧ 160 * (x.2 - nxT B n k) + 20 ≤ ms := by
                by_cases q : stT B n x.2 = 41
                · have e : clsP B n (.inr x) = .inr (x.1, nxT B n x.2) := if_pos q
                  rw [e] at hmc1 hms1
                  have b1 : 24 * (nxT B n x.2 - k) - 22 = mc := hmc1
                  have b2 : 160 * (nxT B n x.2 - k) - 140 = ms := hms1
                  have nx2 := nx_lt (B := B) (n := n) (k := x.2) gx.2.1 (by omega)
                  omega
                · have e : clsP B n (.inr x) = erT B n 1 x.2 := if_neg q
                  rw [e] at hmc1 hms1
                  have b1 : 24 * (n + 1 - k) - 22 = mc := hmc1
                  have b2 : 160 * (n + 1 - k) - 140 = ms := hms1
                  omega
              refine ⟨⟨by omega, by omega⟩, jmet_le (by omega) (Nat.le_refl _) (Nat.le_refl _) (sp1 _ ⟨fun ff pp hfp => (by cases hfp), fun x' hx => ?_⟩)⟩
              cases hx
              intro w2 T2 a g2 S2 V2
              have t02 := S2.st.1.1
              simp (disch := (first | decide | omega)) only [jxs, hps, jtsw, jlsw, List.length_cons, List.length_nil, true_and, and_true, true_implies, false_implies, implies_true, not_true_eq_false, not_false_eq_true, false_and, and_false, if_true, if_false, or_true, true_or, or_false, false_or, Classical.not_not, and_self, Int.reduceAdd, Int.reduceMul, Int.reduceSub, Int.reduceNeg, Int.reduceLT, Int.reduceLE, Int.reduceEq, Int.reduceNe, Int.reduceToNat, Nat.reduceAdd, Nat.reduceMul, Nat.reduceSub, Nat.reduceLeDiff, Nat.reduceLT, Nat.reduceEqDiff, reduceIte, Nat.zero_le, Nat.le_refl, Nat.add_zero, Nat.zero_add, t02]
              generalize cC n 14 (.inr x) (nxT B n k) = c1 at *
              generalize cS n 120 (.inr x) (nxT B n k) = s1 at *
              refine ⟨1, 8, ⟨by omega, by omega⟩, xw_want S2 (fun _ => ⟨Nat.le_refl _, Nat.le_refl _⟩) (fun ff pp hfp => ?_) (fun y hy => ?_)⟩
              · unfold wntP at hfp
                by_cases q : stT B n x.2 = 41
                · rw [if_pos q] at hfp
                  cases hfp
                · rw [if_neg q] at hfp
                  cases hfp
                  have e : clsP B n (.inr x) = erT B n 1 x.2 := if_neg q
                  rw [e] at hQ1
                  intro w3 T3 a3 q1 q2 q3 q4 q5
                  simp (disch := (first | decide | omega)) only [jxs, hps, jtsw, jlsw, List.length_cons, List.length_nil, true_and, and_true, true_implies, false_implies, implies_true, not_true_eq_false, not_false_eq_true, false_and, and_false, if_true, if_false, or_true, true_or, or_false, false_or, Classical.not_not, and_self, Int.reduceAdd, Int.reduceMul, Int.reduceSub, Int.reduceNeg, Int.reduceLT, Int.reduceLE, Int.reduceEq, Int.reduceNe, Int.reduceToNat, Nat.reduceAdd, Nat.reduceMul, Nat.reduceSub, Nat.reduceLeDiff, Nat.reduceLT, Nat.reduceEqDiff, reduceIte, Nat.zero_le, Nat.le_refl, Nat.add_zero, Nat.zero_add]
                  exact ⟨by omega, by omega, hQ1.1 _ _ rfl w3 T3 a3 ((gw.tr g2).tr q1) q2 q3 q4 q5⟩
              · unfold wntP at hy
                by_cases q : stT B n x.2 = 41
                · rw [if_pos q] at hy
                  cases hy
                  have e : clsP B n (.inr x) = .inr (x.1, nxT B n x.2) := if_pos q
                  rw [e] at hQ1
                  intro w3 e3 S3
                  simp (disch := (first | decide | omega)) only [jxs, hps, jtsw, jlsw, List.length_cons, List.length_nil, true_and, and_true, true_implies, false_implies, implies_true, not_true_eq_false, not_false_eq_true, false_and, and_false, if_true, if_false, or_true, true_or, or_false, false_or, Classical.not_not, and_self, Int.reduceAdd, Int.reduceMul, Int.reduceSub, Int.reduceNeg, Int.reduceLT, Int.reduceLE, Int.reduceEq, Int.reduceNe, Int.reduceToNat, Nat.reduceAdd, Nat.reduceMul, Nat.reduceSub, Nat.reduceLeDiff, Nat.reduceLT, Nat.reduceEqDiff, reduceIte, Nat.zero_le, Nat.le_refl, Nat.add_zero, Nat.zero_add]
                  rw [← eo] at S3
                  exact xw_one_1 (D := D + 1) (o := 8 - ((D + 1 : Nat) : Int)) ⟨t2, t3⟩ ((gw.tr g2).tr (GRT.of e3)) S3 (by omega) ⟨by omega, by omega⟩ ((V2.tk ⟨t2, t3⟩ e3).up (by omega)) (fun w4 T4 a4 z1 z2 z3 => hQ1.2 _ rfl w4 T4 a4 z1 z2 z3)
                · rw [if_neg q] at hy
                  cases hy
          · have c45 : stT B n k = 45 := by omega
            have ed : dpP B n kd (D + 1) k = appP (2, 0) (oneP B n kd D (nxT B n k)) := if_neg c40
            rw [ed] at hmc hms hQ
            refine ⟨fun h1 => ⟨fun h3 => absurd c45 h3, fun _ => ⟨0, 0, ⟨by omega, by omega⟩, xw_opens hS (by omega) (fun h => by omega) (fun h => by omega) ?_⟩⟩, fun h1 => absurd h1 c40⟩
            intro _ w1 e1 S1
            rw [eo] at S1
            have gw : GRT tk v T w1 T := GRT.of e1
            have gN : GRT tk w1 T (upA w1 T.2 (fun _ => 0)) (nt T 10 1) := GRT.nt
            have SN := S1.gr gN (upA_ne (by omega))
            have tM : jok (nt T 10 1) T.2 10 := nt_ok (by omega)
            have tk1 : ∀ c n, jok (nt T c n) tk 3 := fun _ _ => jok_nt t0
            have sp := fun Q => hi (nxT B n k) _ _ Q SN
            have hgo := GP_one (B := B) (kd := kd) D (nxT B n k) nl.2
            simp (disch := (first | decide | omega)) only [jxs, hps, jtsw, jlsw, List.length_cons, List.length_nil, true_and, and_true, true_implies, false_implies, implies_true, not_true_eq_false, not_false_eq_true, false_and, and_false, if_true, if_false, or_true, true_or, or_false, false_or, Classical.not_not, and_self, Int.reduceAdd, Int.reduceMul, Int.reduceSub, Int.reduceNeg, Int.reduceLT, Int.reduceLE, Int.reduceEq, Int.reduceNe, Int.reduceToNat, Nat.reduceAdd, Nat.reduceMul, Nat.reduceSub, Nat.reduceLeDiff, Nat.reduceLT, Nat.reduceEqDiff, reduceIte, Nat.zero_le, Nat.le_refl, Nat.add_zero, Nat.zero_add, jnew_eq, nt_2, tk1]
            revert hmc hms hQ sp hgo
            cases oneP B n kd D (nxT B n k) with
            | inl e =>
              intro hQ hmc hms sp hgo
              have a1 : 24 * (n + 1 - k) - 22 = mc := hmc
              have a2 : 160 * (n + 1 - k) - 140 = ms := hms
              have a3 : cC n 22 (.inl e) (nxT B n k) = 24 * (n + 1 - nxT B n k) - 22 := rfl
              have a4 : cS n 140 (.inl e) (nxT B n k) = 160 * (n + 1 - nxT B n k) - 140 := rfl
              refine ⟨⟨by omega, by omega⟩, cC n 22 (.inl e) (nxT B n k), cS n 140 (.inl e) (nxT B n k), ⟨by omega, by omega⟩, jmet_le (by omega) (Nat.le_refl _) (Nat.le_refl _) (sp _ ⟨fun ff pp hfp => ?_, fun x hx => (by cases hx)⟩)⟩
              cases hfp
              intro w2 T2 a q1 q2 q3 q4 q5
              simp (disch := (first | decide | omega)) only [jxs, hps, jtsw, jlsw, List.length_cons, List.length_nil, true_and, and_true, true_implies, false_implies, implies_true, not_true_eq_false, not_false_eq_true, false_and, and_false, if_true, if_false, or_true, true_or, or_false, false_or, Classical.not_not, and_self, Int.reduceAdd, Int.reduceMul, Int.reduceSub, Int.reduceNeg, Int.reduceLT, Int.reduceLE, Int.reduceEq, Int.reduceNe, Int.reduceToNat, Nat.reduceAdd, Nat.reduceMul, Nat.reduceSub, Nat.reduceLeDiff, Nat.reduceLT, Nat.reduceEqDiff, reduceIte, Nat.zero_le, Nat.le_refl, Nat.add_zero, Nat.zero_add]
              exact ⟨by omega, by omega, hQ.1 _ _ rfl w2 T2 a ((gw.tr gN).tr q1) q2 q3 q4 q5⟩
            | inr x =>
              intro hQ hmc hms sp hgo
              have gx := hgo x rfl
              have a1 : 24 * (x.2 - k) - 22 = mc := hmc
              have a2 : 160 * (x.2 - k) - 140 = ms := hms
              have a3 : cC n 22 (.inr x) (nxT B n k) = 24 * (x.2 - nxT B n k) - 22 := rfl
              have a4 : cS n 140 (.inr x) (nxT B n k) = 160 * (x.2 - nxT B n k) - 140 := rfl
              refine ⟨⟨by omega, by omega⟩, cC n 22 (.inr x) (nxT B n k), cS n 140 (.inr x) (nxT B n k), ⟨by omega, by omega⟩, jmet_le (by omega) (Nat.le_refl _) (Nat.le_refl _) (sp _ ⟨fun ff pp hfp => (by cases hfp), fun x' hx => ?_⟩)⟩
              cases hx
              intro w2 T2 a g2 S2 V2
              have tM2 := g2.ok tM
              have zz : (nt T 10 1).2 = T.2 + 1 := rfl
              rw [zz] at V2
              simp (disch := (first | decide | omega)) only [jxs, hps, jtsw, jlsw, List.length_cons, List.length_nil, true_and, and_true, true_implies, false_implies, implies_true, not_true_eq_false, not_false_eq_true, false_and, and_false, if_true, if_false, or_true, true_or, or_false, false_or, Classical.not_not, and_self, Int.reduceAdd, Int.reduceMul, Int.reduceSub, Int.reduceNeg, Int.reduceLT, Int.reduceLE, Int.reduceEq, Int.reduceNe, Int.reduceToNat, Nat.reduceAdd, Nat.reduceMul, Nat.reduceSub, Nat.reduceLeDiff, Nat.reduceLT, Nat.reduceEqDiff, reduceIte, Nat.zero_le, Nat.le_refl, Nat.add_zero, Nat.zero_add]
              (repeat (refine And.intro (by (first | omega | assumption | trivial | (simp only [inI]; omega) | (simp only [inL]; omega) | (refine jb_01) | (exact jb_in))) ?_))
              refine ⟨0, 0, ⟨by omega, by omega⟩, xj_minus tM2 h2 ?_⟩
              simp (disch := (first | decide | omega)) only [jxs, hps, jtsw, jlsw, List.length_cons, List.length_nil, true_and, and_true, true_implies, false_implies, implies_true, not_true_eq_false, not_false_eq_true, false_and, and_false, if_true, if_false, or_true, true_or, or_false, false_or, Classical.not_not, and_self, Int.reduceAdd, Int.reduceMul, Int.reduceSub, Int.reduceNeg, Int.reduceLT, Int.reduceLE, Int.reduceEq, Int.reduceNe, Int.reduceToNat, Nat.reduceAdd, Nat.reduceMul, Nat.reduceSub, Nat.reduceLeDiff, Nat.reduceLT, Nat.reduceEqDiff, reduceIte, Nat.zero_le, Nat.le_refl, Nat.add_zero, Nat.zero_add]
              rw [← eo] at S2
              refine xw_one_1 (D := D + 1) (o := 8 - ((D + 1 : Nat) : Int)) (c := x.1 ++ [(2, 0)]) ⟨t2, t3⟩ (((gw.tr gN).tr g2).wr (Or.inl (Int.le_refl _))) (S2.fr (fun b b0 b1 => upA_ne (by omega)) (fun _ _ _ => rfl) (Int.le_refl _) (upA_ne (by omega))) (by omega) ⟨by omega, by omega⟩ ?_ (fun w4 T4 a4 z1 z2 z3 => hQ.2 _ rfl w4 T4 a4 z1 z2 z3)
              have e10 : (upA w2 T.2 (up1 (w2 T.2) 0 a)) T.2 0 = a := by rw [upA_eq, up1_eq]
              have V3 : VRP (nwP T.2) (upA w2 T.2 (up1 (w2 T.2) 0 a)) T2 (3 * (D + 1)) a x.1 := (V2.mo (fun b b0 b1 b2 => ⟨by unfold nwP at b2 ⊢; omega, upA_ne (by unfold nwP at b2; omega)⟩) (fun _ _ _ => rfl) (Int.le_refl _)).up (by omega)
              unfold VRP VR
              refine ⟨Or.inr h2, Or.inr (Or.inr (Or.inl ⟨(rsH_in (h := (_, _)) (Or.inr (Int.le_refl _)) tM2).1, x.1, ?_, rfl⟩))⟩
              show VR _ (3 * (D + 1)) ((upA w2 T.2 (up1 (w2 T.2) 0 a)) T.2 0) x.1
              rw [e10]
              exact V3
      · rw [if_neg c3] at hmc hms hQ
        have a1 : 24 * (n + 1 - k) - 22 = mc := hmc
        have a2 : 160 * (n + 1 - k) - 140 = ms := hms
        refine ⟨fun h1 => ⟨fun h3 => ⟨1, 8, ⟨by omega, by omega⟩, xw_wrong t0 h2 ?_⟩, fun h3 => absurd (Or.inr h3) c3⟩, fun h1 => absurd (Or.inl h1) c3⟩
        have tEE := tE T h2
        rw [f3]
        simp (disch := (first | decide | omega)) only [jxs, hps, jtsw, jlsw, List.length_cons, List.length_nil, true_and, and_true, true_implies, false_implies, implies_true, not_true_eq_false, not_false_eq_true, false_and, and_false, if_true, if_false, or_true, true_or, or_false, false_or, Classical.not_not, and_self, Int.reduceAdd, Int.reduceMul, Int.reduceSub, Int.reduceNeg, Int.reduceLT, Int.reduceLE, Int.reduceEq, Int.reduceNe, Int.reduceToNat, Nat.reduceAdd, Nat.reduceMul, Nat.reduceSub, Nat.reduceLeDiff, Nat.reduceLT, Nat.reduceEqDiff, reduceIte, Nat.zero_le, Nat.le_refl, Nat.add_zero, Nat.zero_add, tEE]
        (repeat (refine And.intro (by (first | omega | assumption | trivial | (simp only [inI]; omega) | (simp only [inL]; omega) | (refine jb_01) | (exact jb_in))) ?_))
        exact wrg_gr h2 (hQ.1 1 _ rfl)
    · rw [if_neg c2] at hmc hms hQ
      have nl := nx_lt (B := B) hk (nmT_ne c2)
      simp (disch := (first | decide | omega)) only [jxs, hps, jtsw, jlsw, List.length_cons, List.length_nil, true_and, and_true, true_implies, false_implies, implies_true, not_true_eq_false, not_false_eq_true, false_and, and_false, if_true, if_false, or_true, true_or, or_false, false_or, Classical.not_not, and_self, Int.reduceAdd, Int.reduceMul, Int.reduceSub, Int.reduceNeg, Int.reduceLT, Int.reduceLE, Int.reduceEq, Int.reduceNe, Int.reduceToNat, Nat.reduceAdd, Nat.reduceMul, Nat.reduceSub, Nat.reduceLeDiff, Nat.reduceLT, Nat.reduceEqDiff, reduceIte, Nat.zero_le, Nat.le_refl, Nat.add_zero, Nat.zero_add, t0]
      (first | refine ⟨fun h9 => (by exfalso; omega), fun _ => ?_⟩ | intro _)
      refine ⟨0, 0, ⟨by omega, by omega⟩, xw_mayName hS ?_⟩
      by_cases c4 : myN kd (nmT (stT B n k))
      · rw [if_pos c4] at hmc hms hQ ⊢
        have a1 : 24 * (nxT B n k - k) - 22 = mc := hmc
        have a2 : 160 * (nxT B n k - k) - 140 = ms := hms
        simp (disch := (first | decide | omega)) only [jxs, hps, jtsw, jlsw, List.length_cons, List.length_nil, true_and, and_true, true_implies, false_implies, implies_true, not_true_eq_false, not_false_eq_true, false_and, and_false, if_true, if_false, or_true, true_or, or_false, false_or, Classical.not_not, and_self, Int.reduceAdd, Int.reduceMul, Int.reduceSub, Int.reduceNeg, Int.reduceLT, Int.reduceLE, Int.reduceEq, Int.reduceNe, Int.reduceToNat, Nat.reduceAdd, Nat.reduceMul, Nat.reduceSub, Nat.reduceLeDiff, Nat.reduceLT, Nat.reduceEqDiff, reduceIte, Nat.zero_le, Nat.le_refl, Nat.add_zero, Nat.zero_add, t0]
        refine ⟨0, 0, ⟨by omega, by omega⟩, xw_next hS.nx ?_⟩
        intro w1 e1 S1
        have gw : GRT tk v T w1 T := GRT.of e1
        have tN : jok (nt T 9 1) T.2 9 := nt_ok (by omega)
        simp (disch := (first | decide | omega)) only [jxs, hps, jtsw, jlsw, List.length_cons, List.length_nil, true_and, and_true, true_implies, false_implies, implies_true, not_true_eq_false, not_false_eq_true, false_and, and_false, if_true, if_false, or_true, true_or, or_false, false_or, Classical.not_not, and_self, Int.reduceAdd, Int.reduceMul, Int.reduceSub, Int.reduceNeg, Int.reduceLT, Int.reduceLE, Int.reduceEq, Int.reduceNe, Int.reduceToNat, Nat.reduceAdd, Nat.reduceMul, Nat.reduceSub, Nat.reduceLeDiff, Nat.reduceLT, Nat.reduceEqDiff, reduceIte, Nat.zero_le, Nat.le_refl, Nat.add_zero, Nat.zero_add, jnew_eq, nt_2]
        (repeat (refine And.intro (by (first | omega | assumption | trivial | (simp only [inI]; omega) | (simp only [inL]; omega) | (refine jb_01) | (exact jb_in))) ?_))
        refine ⟨0, 0, ⟨by omega, by omega⟩, xj_name tN h2 ?_⟩
        rw [upA_eq, upA_same]
        simp (disch := (first | decide | omega)) only [jxs, hps, jtsw, jlsw, List.length_cons, List.length_nil, true_and, and_true, true_implies, false_implies, implies_true, not_true_eq_false, not_false_eq_true, false_and, and_false, if_true, if_false, or_true, true_or, or_false, false_or, Classical.not_not, and_self, Int.reduceAdd, Int.reduceMul, Int.reduceSub, Int.reduceNeg, Int.reduceLT, Int.reduceLE, Int.reduceEq, Int.reduceNe, Int.reduceToNat, Nat.reduceAdd, Nat.reduceMul, Nat.reduceSub, Nat.reduceLeDiff, Nat.reduceLT, Nat.reduceEqDiff, reduceIte, Nat.zero_le, Nat.le_refl, Nat.add_zero, Nat.zero_add]
        refine ⟨by omega, by omega, hQ.2 _ rfl _ _ _ (gw.tr GRT.nt) (S1.gr GRT.nt (upA_ne (by omega))) ?_⟩
        unfold VRP VR
        refine ⟨Or.inr h2, Or.inr (Or.inl ⟨(rsH_in (h := (_, _)) (Or.inr (Int.le_refl _)) tN).1, ?_, ?_⟩)⟩
        · show _ = [(1, upA w1 T.2 (up1 (fun _ => 0) 0 (nmT (stT B n k))) T.2 0)]
          rw [upA_eq, up1_eq]
        · show 0 ≤ upA w1 T.2 (up1 (fun _ => 0) 0 (nmT (stT B n k))) T.2 0 ∧ upA w1 T.2 (up1 (fun _ => 0) 0 (nmT (stT B n k))) T.2 0 < 15
          rw [upA_eq, up1_eq]
          omega
      · rw [if_neg c4] at hmc hms hQ ⊢
        have a1 : 24 * (n + 1 - k) - 22 = mc := hmc
        have a2 : 160 * (n + 1 - k) - 140 = ms := hms
        simp (disch := (first | decide | omega)) only [jxs, hps, jtsw, jlsw, List.length_cons, List.length_nil, true_and, and_true, true_implies, false_implies, implies_true, not_true_eq_false, not_false_eq_true, false_and, and_false, if_true, if_false, or_true, true_or, or_false, false_or, Classical.not_not, and_self, Int.reduceAdd, Int.reduceMul, Int.reduceSub, Int.reduceNeg, Int.reduceLT, Int.reduceLE, Int.reduceEq, Int.reduceNe, Int.reduceToNat, Nat.reduceAdd, Nat.reduceMul, Nat.reduceSub, Nat.reduceLeDiff, Nat.reduceLT, Nat.reduceEqDiff, reduceIte, Nat.zero_le, Nat.le_refl, Nat.add_zero, Nat.zero_add, t0]
        refine ⟨1, 8, ⟨by omega, by omega⟩, xw_wrong t0 h2 ?_⟩
        have tEE := tE T h2
        rw [f3]
        simp (disch := (first | decide | omega)) only [jxs, hps, jtsw, jlsw, List.length_cons, List.length_nil, true_and, and_true, true_implies, false_implies, implies_true, not_true_eq_false, not_false_eq_true, false_and, and_false, if_true, if_false, or_true, true_or, or_false, false_or, Classical.not_not, and_self, Int.reduceAdd, Int.reduceMul, Int.reduceSub, Int.reduceNeg, Int.reduceLT, Int.reduceLE, Int.reduceEq, Int.reduceNe, Int.reduceToNat, Nat.reduceAdd, Nat.reduceMul, Nat.reduceSub, Nat.reduceLeDiff, Nat.reduceLT, Nat.reduceEqDiff, reduceIte, Nat.zero_le, Nat.le_refl, Nat.add_zero, Nat.zero_add, tEE]
        (repeat (refine And.intro (by (first | omega | assumption | trivial | (simp only [inI]; omega) | (simp only [inL]; omega) | (refine jb_01) | (exact jb_in))) ?_))
        exact wrg_gr h2 (hQ.1 5 _ rfl)
theorem xw_one : ∀ (D : Nat), D ≤ 8 → SpV g tk B n kd MX3_one (oneP B n kd D) (8 - (D : Int)) (3 * D + 1) (3 * D + d + 13) 22 140
  | 0, h => xw_one_s h (fun D' e => by omega)
  | D + 1, h => xw_one_s h (fun D' e => by
      have : D' = D := by omega
      subst this
      exact xw_one D' (by omega))
end XG
