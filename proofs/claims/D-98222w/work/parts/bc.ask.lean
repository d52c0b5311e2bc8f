/-! ===== the class: a question read ===== -/
-- MODE N
set_option maxRecDepth 100000
theorem TRP.tk {t tk : Int} {v w : Int → Int → Int} {T : jjT} {n : Nat} {a : Int} {c : List (Int × Int)} (h : TRP (nwP t) v T n a c) (ht : 562 ≤ tk ∧ tk < t) (e : ∀ a, a ≠ tk → w a = v a) : TRP (nwP t) w T n a c :=
  h.mo (fun b _ _ b2 => ⟨b2, e b (by unfold nwP at b2; omega)⟩) (fun _ _ _ => rfl) (Int.le_refl _)
section XG
variable {g : jjG} {d : Nat} {tk : Int} {B : Int → Int} {n : Nat} {kd : Int}
/-- where a question's second sum is read -/
theorem xw_ask_1 {fu dp k : Nat} {o : Int} {mc ms nc ns : Nat} {pf : Nat → pR} {T : jjT} {Q : jjQ} {v : Int → Int → Int} {a l2 : Int} {c1 : List (Int × Int)} {w : Int → Int → Int} {T' : jjT} (hs : SpV g tk B n kd MX3_sum pf o fu dp 14 120) (hG : ∀ k, k ≤ n → GP n k (pf k)) (hdp : dp ≤ d ∧ 10 ≤ d) (htk : 562 ≤ tk ∧ tk < T.2) (hGR : GRT tk v T w T') (hS : TKS w T' tk B n k o kd) (hl : l2 = stT B n k) (hc : isC (stT B n k)) (hV : VRP (nwP T.2) w T' fu a c1)
    (hb : nc + 1 + (24 * (eR n (pf (nxT B n k)) - nxT B n k) - 14) ≤ mc ∧ ns + 3 + (160 * (eR n (pf (nxT B n k)) - nxT B n k) - 120) ≤ ms)
    (hE : ∀ f p, pf (nxT B n k) = .inl (f, p) → qEr Q v T tk f p) (hQ : ∀ x, pf (nxT B n k) = .inr x → ∀ w T' r, GRT tk v T w T' → TKS w T' tk B n x.2 o kd → TRP (nwP T.2) w T' (fu + 1) r (c1 ++ (x.1 ++ [(cmo (stT B n k), 0)])) → Q (.inl (some (vR r))) (w, T')) :
    jW bX3_ask (g, d, mc, ms, Q) 1 [some (vR tk), some (vR a), some (vI l2)] [] (w, T') nc ns := by
  obtain ⟨⟨t0, t2, t3, h2⟩, ⟨f3, f4, f6, f7⟩, ⟨hk, hn⟩, hO, f5⟩ := hS.st
  have nl := nx_lt (B := B) hk (by unfold isC at hc; omega)
  obtain ⟨d', rfl⟩ : ∃ d', d = d' + 10 := ⟨d - 10, by omega⟩
  refine jW_step ?_
  simp (disch := (first | decide | omega)) only [bX3_ask, jxs, hps, jtsw, jlsw, List.length_cons, List.length_nil, true_and, and_true, true_implies, false_implies, implies_true, not_true_eq_false, not_false_eq_true, false_and, and_false, if_true, if_false, or_true, true_or, or_false, false_or, Classical.not_not, and_self, Int.reduceAdd, Int.reduceMul, Int.reduceSub, Int.reduceNeg, Int.reduceLT, Int.reduceLE, Int.reduceEq, Int.reduceNe, Int.reduceToNat, Nat.reduceAdd, Nat.reduceMul, Nat.reduceSub, Nat.reduceLeDiff, Nat.reduceLT, Nat.reduceEqDiff, reduceIte, Nat.zero_le, Nat.le_refl, Nat.add_zero, Nat.zero_add, t0]
  refine ⟨0, 0, ⟨by omega, by omega⟩, xw_next (d := d' + 4) hS.nx ?_⟩
  intro w1 e1 S1
  have gw : GRT tk w T' w1 T' := GRT.of e1
  have tC : jok (nt T' 11 3) T'.2 11 := nt_ok (by omega)
  have tk1 : ∀ c n, jok (nt T' c n) tk 3 := fun _ _ => jok_nt t0
  have gN : GRT tk w1 T' (upA w1 T'.2 (fun _ => 0)) (nt T' 11 3) := GRT.nt
  have SN := S1.gr gN (upA_ne (by omega))
  have sp := fun Q => hs (nxT B n k) _ _ Q SN
  have hg := hG (nxT B n k) nl.2
  have gT := hGR.1
  simp (disch := (first | decide | omega)) only [jxs, hps, jtsw, jlsw, List.length_cons, List.length_nil, true_and, and_true, true_implies, false_implies, implies_true, not_true_eq_false, not_false_eq_true, false_and, and_false, if_true, if_false, or_true, true_or, or_false, false_or, Classical.not_not, and_self, Int.reduceAdd, Int.reduceMul, Int.reduceSub, Int.reduceNeg, Int.reduceLT, Int.reduceLE, Int.reduceEq, Int.reduceNe, Int.reduceToNat, Nat.reduceAdd, Nat.reduceMul, Nat.reduceSub, Nat.reduceLeDiff, Nat.reduceLT, Nat.reduceEqDiff, reduceIte, Nat.zero_le, Nat.le_refl, Nat.add_zero, Nat.zero_add, jnew_eq, nt_2, tk1]
  revert hb hE hQ sp hg
  cases pf (nxT B n k) with
  | inl e =>
    intro hb hE hQ sp hg
    have b1 : nc + 1 + (24 * (n + 1 - nxT B n k) - 14) ≤ mc ∧ ns + 3 + (160 * (n + 1 - nxT B n k) - 120) ≤ ms := hb
    have ec : cC n 14 (.inl e) (nxT B n k) = 24 * (n + 1 - nxT B n k) - 14 := rfl
    have es : cS n 120 (.inl e) (nxT B n k) = 160 * (n + 1 - nxT B n k) - 120 := rfl
    refine ⟨⟨by omega, by omega⟩, cC n 14 (.inl e) (nxT B n k), cS n 120 (.inl e) (nxT B n k), ⟨by omega, by omega⟩, jmet_le hdp.1 (Nat.le_refl _) (Nat.le_refl _) (sp _ ⟨fun ff pp hfp => ?_, fun x hx => (by cases hx)⟩)⟩
    cases hfp
    intro w2 T2 a q1 q2 q3 q4 q5
    simp (disch := (first | decide | omega)) only [jxs, hps, jtsw, jlsw, List.length_cons, List.length_nil, true_and, and_true, true_implies, false_implies, implies_true, not_true_eq_false, not_false_eq_true, false_and, and_false, if_true, if_false, or_true, true_or, or_false, false_or, Classical.not_not, and_self, Int.reduceAdd, Int.reduceMul, Int.reduceSub, Int.reduceNeg, Int.reduceLT, Int.reduceLE, Int.reduceEq, Int.reduceNe, Int.reduceToNat, Nat.reduceAdd, Nat.reduceMul, Nat.reduceSub, Nat.reduceLeDiff, Nat.reduceLT, Nat.reduceEqDiff, reduceIte, Nat.zero_le, Nat.le_refl, Nat.add_zero, Nat.zero_add]
    exact ⟨by omega, by omega, hE _ _ rfl w2 T2 a (((hGR.tr gw).tr gN).tr q1) q2 q3 q4 q5⟩
  | inr x =>
    intro hb hE hQ sp hg
    have gx := hg x rfl
    have b1 : nc + 1 + (24 * (x.2 - nxT B n k) - 14) ≤ mc ∧ ns + 3 + (160 * (x.2 - nxT B n k) - 120) ≤ ms := hb
    have ec : cC n 14 (.inr x) (nxT B n k) = 24 * (x.2 - nxT B n k) - 14 := rfl
    have es : cS n 120 (.inr x) (nxT B n k) = 160 * (x.2 - nxT B n k) - 120 := rfl
    refine ⟨⟨by omega, by omega⟩, cC n 14 (.inr x) (nxT B n k), cS n 120 (.inr x) (nxT B n k), ⟨by omega, by omega⟩, jmet_le hdp.1 (Nat.le_refl _) (Nat.le_refl _) (sp _ ⟨fun ff pp hfp => (by cases hfp), fun x' hx => ?_⟩)⟩
    cases hx
    intro w2 T2 b g2 S2 V2
    have tC2 := g2.ok tC
    have zz : (nt T' 11 3).2 = T'.2 + 1 := rfl
    rw [zz] at V2
    have g2n : T'.2 + 1 ≤ T2.2 := g2.1
    simp (disch := (first | decide | omega)) only [jxs, hps, jtsw, jlsw, List.length_cons, List.length_nil, true_and, and_true, true_implies, false_implies, implies_true, not_true_eq_false, not_false_eq_true, false_and, and_false, if_true, if_false, or_true, true_or, or_false, false_or, Classical.not_not, and_self, Int.reduceAdd, Int.reduceMul, Int.reduceSub, Int.reduceNeg, Int.reduceLT, Int.reduceLE, Int.reduceEq, Int.reduceNe, Int.reduceToNat, Nat.reduceAdd, Nat.reduceMul, Nat.reduceSub, Nat.reduceLeDiff, Nat.reduceLT, Nat.reduceEqDiff, reduceIte, Nat.zero_le, Nat.le_refl, Nat.add_zero, Nat.zero_add]
    (repeat (refine And.intro (by (first | omega | assumption | trivial | (simp only [inI]; omega) | (simp only [inL]; omega) | (refine jb_01) | (exact jb_in))) ?_))
    refine ⟨0, 0, ⟨by omega, by omega⟩, xj_cmpd (d := d' + 7) tC2 h2 ?_⟩
    simp (disch := (first | decide | omega)) only [jxs, hps, jtsw, jlsw, List.length_cons, List.length_nil, true_and, and_true, true_implies, false_implies, implies_true, not_true_eq_false, not_false_eq_true, false_and, and_false, if_true, if_false, or_true, true_or, or_false, false_or, Classical.not_not, and_self, Int.reduceAdd, Int.reduceMul, Int.reduceSub, Int.reduceNeg, Int.reduceLT, Int.reduceLE, Int.reduceEq, Int.reduceNe, Int.reduceToNat, Nat.reduceAdd, Nat.reduceMul, Nat.reduceSub, Nat.reduceLeDiff, Nat.reduceLT, Nat.reduceEqDiff, reduceIte, Nat.zero_le, Nat.le_refl, Nat.add_zero, Nat.zero_add]
    have gF : GRT tk v T (upA w2 T'.2 (up1 (up1 (up1 (w2 T'.2) 0 l2) 1 a) 2 b)) T2 := (((hGR.tr gw).tr gN).tr g2).wr (Or.inl gT)
    refine ⟨by omega, by omega, hQ x rfl _ T2 T'.2 gF (S2.fr (fun b b0 b1 => upA_ne (by omega)) (fun _ _ _ => rfl) (Int.le_refl _) (upA_ne (by omega))) ?_⟩
    have y0 : (upA w2 T'.2 (up1 (up1 (up1 (w2 T'.2) 0 l2) 1 a) 2 b)) T'.2 0 = l2 := by rw [upA_eq, up1_ne (by decide), up1_ne (by decide), up1_eq]
    have y1 : (upA w2 T'.2 (up1 (up1 (up1 (w2 T'.2) 0 l2) 1 a) 2 b)) T'.2 1 = a := by rw [upA_eq, up1_ne (by decide), up1_eq]
    have y2 : (upA w2 T'.2 (up1 (up1 (up1 (w2 T'.2) 0 l2) 1 a) 2 b)) T'.2 2 = b := by rw [upA_eq, up1_eq]
    have yo : ∀ c, c ≠ T'.2 → (upA w2 T'.2 (up1 (up1 (up1 (w2 T'.2) 0 l2) 1 a) 2 b)) c = w2 c := fun c hc => upA_ne hc
    generalize upA w2 T'.2 (up1 (up1 (up1 (w2 T'.2) 0 l2) 1 a) 2 b) = y at *
    have g3 := (gw.tr gN).tr g2
    have Va : VRP (nwP T.2) y T2 fu a c1 := hV.mo (fun b b0 b1 b2 => ⟨b2, by rw [yo b (by omega)]; exact g3.2.2 b b0 b1 (by unfold nwP at b2; omega)⟩) g3.2.1 g3.1
    have Vb : VRP (nwP T.2) y T2 fu b x.1 := V2.mo (fun b b0 b1 b2 => ⟨by unfold nwP at b2 ⊢; omega, yo b (by unfold nwP at b2; omega)⟩) (fun _ _ _ => rfl) (Int.le_refl _)
    unfold TRP TR
    refine ⟨Or.inr h2, Or.inl ⟨(rsH_in (h := (_, _)) (Or.inr gT) tC2).1, c1, x.1, ?_, ?_, ?_, ?_⟩⟩
    · show VR _ fu (y T'.2 1) c1
      rw [y1]
      exact Va
    · show VR _ fu (y T'.2 2) x.1
      rw [y2]
      exact Vb
    · show y T'.2 0 = 60 ∨ y T'.2 0 = 303 ∨ y T'.2 0 = 62 ∨ y T'.2 0 = 304 ∨ y T'.2 0 = 61 ∨ y T'.2 0 = 35
      rw [y0, hl]
      unfold isC at hc
      omega
    · show _ = c1 ++ (x.1 ++ [(cmo (y T'.2 0), 0)])
      rw [y0, hl]
theorem xw_ask_s {D : Nat} (hD : D ≤ 8) (ih : ∀ D', D = D' + 1 → SpT g tk B n kd MX3_ask (askP B n kd D') (8 - (D' : Int)) (4 * D' + 4) (3 * D' + d + 16) 12 110) : SpT g tk B n kd MX3_ask (askP B n kd D) (8 - (D : Int)) (4 * D + 4) (3 * D + d + 16) 12 110 := by
  intro k v T Q hS hQ
  obtain ⟨⟨t0, t2, t3, h2⟩, ⟨f3, f4, f6, f7⟩, ⟨hk, hn⟩, hO, f5⟩ := hS.st
  generalize hmc : cC n 12 (askP B n kd D k) k = mc
  generalize hms : cS n 110 (askP B n kd D k) k = ms
  have tE : ∀ T : jjT, 562 ≤ T.2 → jok (nt T 5 8) T.2 5 := fun T h => nt_ok (by omega)
  refine jmet_of (ls := [some (vR tk), none, none]) sX3_ask rfl (by decide +kernel) (by decide) rfl (by simp [jent]) ?_
  refine jW_step ?_
  simp (disch := (first | decide | omega)) only [bX3_ask, jxs, hps, jtsw, jlsw, List.length_cons, List.length_nil, true_and, and_true, true_implies, false_implies, implies_true, not_true_eq_false, not_false_eq_true, false_and, and_false, if_true, if_false, or_true, true_or, or_false, false_or, Classical.not_not, and_self, Int.reduceAdd, Int.reduceMul, Int.reduceSub, Int.reduceNeg, Int.reduceLT, Int.reduceLE, Int.reduceEq, Int.reduceNe, Int.reduceToNat, Nat.reduceAdd, Nat.reduceMul, Nat.reduceSub, Nat.reduceLeDiff, Nat.reduceLT, Nat.reduceEqDiff, reduceIte, Nat.zero_le, Nat.le_refl, Nat.add_zero, Nat.zero_add, t0, f4]
  by_cases c : stT B n k = 214
  · have nl := nx_lt (B := B) hk (by omega)
    refine ⟨fun h => absurd c h, fun _ => ?_⟩
    cases D with
    | zero =>
      have ea : askP B n kd 0 k = erT B n 3 k := by unfold askP; rw [if_pos c]
      rw [ea] at hmc hms hQ
      have a1 : 24 * (n + 1 - k) - 12 = mc := hmc
      have a2 : 160 * (n + 1 - k) - 110 = ms := hms
      have er : qEr Q v T tk 3 (pl B n k : Int) := hQ.1 3 _ rfl
      refine ⟨1, 8, ⟨by omega, by omega⟩, xw_opens hS (by omega) (fun _ => ⟨Nat.le_refl _, Nat.le_refl _⟩) (fun _ => ?_) (fun h => by omega)⟩
      intro w2 T2 a q1 q2 q3 q4 q5
      simp (disch := (first | decide | omega)) only [jxs, hps, jtsw, jlsw, List.length_cons, List.length_nil, true_and, and_true, true_implies, false_implies, implies_true, not_true_eq_false, not_false_eq_true, false_and, and_false, if_true, if_false, or_true, true_or, or_false, false_or, Classical.not_not, and_self, Int.reduceAdd, Int.reduceMul, Int.reduceSub, Int.reduceNeg, Int.reduceLT, Int.reduceLE, Int.reduceEq, Int.reduceNe, Int.reduceToNat, Nat.reduceAdd, Nat.reduceMul, Nat.reduceSub, Nat.reduceLeDiff, Nat.reduceLT, Nat.reduceEqDiff, reduceIte, Nat.zero_le, Nat.le_refl, Nat.add_zero, Nat.zero_add]
      exact ⟨by omega, by omega, er w2 T2 a q1 q2 q3 q4 q5⟩
    | succ D =>
      have hi := ih D rfl
      have eo : 8 - ((D + 1 : Nat) : Int) + 1 = 8 - (D : Int) := by omega
      have ea : askP B n kd (D + 1) k = appP (20, 0) (askP B n kd D (nxT B n k)) := by rw [askP]; rw [if_pos c]
      rw [ea] at hmc hms hQ
      refine ⟨0, 0, ⟨by omega, by omega⟩, xw_opens hS (by omega) (fun h => by omega) (fun h => by omega) ?_⟩
      intro _ w1 e1 S1
      rw [eo] at S1
      have gw : GRT tk v T w1 T := GRT.of e1
      have gN : GRT tk w1 T (upA w1 T.2 (fun _ => 0)) (nt T 6 1) := GRT.nt
      have SN := S1.gr gN (upA_ne (by omega))
      have tM : jok (nt T 6 1) T.2 6 := nt_ok (by omega)
      have tk1 : ∀ c n, jok (nt T c n) tk 3 := fun _ _ => jok_nt t0
      have sp := fun Q => hi (nxT B n k) _ _ Q SN
      have hgo := GP_ask (B := B) (kd := kd) D (nxT B n k) nl.2
      simp (disch := (first | decide | omega)) only [jxs, hps, jtsw, jlsw, List.length_cons, List.length_nil, true_and, and_true, true_implies, false_implies, implies_true, not_true_eq_false, not_false_eq_true, false_and, and_false, if_true, if_false, or_true, true_or, or_false, false_or, Classical.not_not, and_self, Int.reduceAdd, Int.reduceMul, Int.reduceSub, Int.reduceNeg, Int.reduceLT, Int.reduceLE, Int.reduceEq, Int.reduceNe, Int.reduceToNat, Nat.reduceAdd, Nat.reduceMul, Nat.reduceSub, Nat.reduceLeDiff, Nat.reduceLT, Nat.reduceEqDiff, reduceIte, Nat.zero_le, Nat.le_refl, Nat.add_zero, Nat.zero_add, jnew_eq, nt_2, tk1]
      revert hmc hms hQ sp hgo
      cases askP B n kd D (nxT B n k) with
      | inl e =>
        intro hQ hmc hms sp hgo
        have a1 : 24 * (n + 1 - k) - 12 = mc := hmc
        have a2 : 160 * (n + 1 - k) - 110 = ms := hms
        have a3 : cC n 12 (.inl e) (nxT B n k) = 24 * (n + 1 - nxT B n k) - 12 := rfl
        have a4 : cS n 110 (.inl e) (nxT B n k) = 160 * (n + 1 - nxT B n k) - 110 := rfl
        refine ⟨⟨by omega, by omega⟩, cC n 12 (.inl e) (nxT B n k), cS n 110 (.inl e) (nxT B n k), ⟨by omega, by omega⟩, jmet_le (by omega) (Nat.le_refl _) (Nat.le_refl _) (sp _ ⟨fun ff pp hfp => ?_, fun x hx => (by cases hx)⟩)⟩
        cases hfp
        intro w2 T2 a q1 q2 q3 q4 q5
        simp (disch := (first | decide | omega)) only [jxs, hps, jtsw, jlsw, List.length_cons, List.length_nil, true_and, and_true, true_implies, false_implies, implies_true, not_true_eq_false, not_false_eq_true, false_and, and_false, if_true, if_false, or_true, true_or, or_false, false_or, Classical.not_not, and_self, Int.reduceAdd, Int.reduceMul, Int.reduceSub, Int.reduceNeg, Int.reduceLT, Int.reduceLE, Int.reduceEq, Int.reduceNe, Int.reduceToNat, Nat.reduceAdd, Nat.reduceMul, Nat.reduceSub, Nat.reduceLeDiff, Nat.reduceLT, Nat.reduceEqDiff, reduceIte, Nat.zero_le, Nat.le_refl, Nat.add_zero, Nat.zero_add]
        exact ⟨by omega, by omega, hQ.1 _ _ rfl w2 T2 a ((gw.tr gN).tr q1) q2 q3 q4 q5⟩
      | inr x =>
        intro hQ hmc hms sp hgo
        have gx := hgo x rfl
        have a1 : 24 * (x.2 - k) - 12 = mc := hmc
        have a2 : 160 * (x.2 - k) - 110 = ms := hms
        have a3 : cC n 12 (.inr x) (nxT B n k) = 24 * (x.2 - nxT B n k) - 12 := rfl
        have a4 : cS n 110 (.inr x) (nxT B n k) = 160 * (x.2 - nxT B n k) - 110 := rfl
        refine ⟨⟨by omega, by omega⟩, cC n 12 (.inr x) (nxT B n k), cS n 110 (.inr x) (nxT B n k), ⟨by omega, by omega⟩, jmet_le (by omega) (Nat.le_refl _) (Nat.le_refl _) (sp _ ⟨fun ff pp hfp => (by cases hfp), fun x' hx => ?_⟩)⟩
        cases hx
        intro w2 T2 a g2 S2 V2
        have tM2 := g2.ok tM
        have zz : (nt T 6 1).2 = T.2 + 1 := rfl
        rw [zz] at V2
        have g2n : T.2 + 1 ≤ T2.2 := g2.1
        simp (disch := (first | decide | omega)) only [jxs, hps, jtsw, jlsw, List.length_cons, List.length_nil, true_and, and_true, true_implies, false_implies, implies_true, not_true_eq_false, not_false_eq_true, false_and, and_false, if_true, if_false, or_true, true_or, or_false, false_or, Classical.not_not, and_self, Int.reduceAdd, Int.reduceMul, Int.reduceSub, Int.reduceNeg, Int.reduceLT, Int.reduceLE, Int.reduceEq, Int.reduceNe, Int.reduceToNat, Nat.reduceAdd, Nat.reduceMul, Nat.reduceSub, Nat.reduceLeDiff, Nat.reduceLT, Nat.reduceEqDiff, reduceIte, Nat.zero_le, Nat.le_refl, Nat.add_zero, Nat.zero_add]
        (repeat (refine And.intro (by (first | omega | assumption | trivial | (simp only [inI]; omega) | (simp only [inL]; omega) | (refine jb_01) | (exact jb_in))) ?_))
        refine ⟨0, 0, ⟨by omega, by omega⟩, xj_not tM2 h2 ?_⟩
        rw [← eo] at S2
        have S3 : TKS (upA w2 T.2 (up1 (w2 T.2) 0 a)) T2 tk B n x.2 (8 - ((D + 1 : Nat) : Int) + 1) kd := S2.fr (fun b b0 b1 => upA_ne (by omega)) (fun _ _ _ => rfl) (Int.le_refl _) (upA_ne (by omega))
        have gF : GRT tk v T (upA w2 T.2 (up1 (w2 T.2) 0 a)) T2 := ((gw.tr gN).tr g2).wr (Or.inl (Int.le_refl _))
        have e10 : (upA w2 T.2 (up1 (w2 T.2) 0 a)) T.2 0 = a := by rw [upA_eq, up1_eq]
        have V3 : TRP (nwP T.2) (upA w2 T.2 (up1 (w2 T.2) 0 a)) T2 (4 * D + 4) a x.1 := V2.mo (fun b b0 b1 b2 => ⟨by unfold nwP at b2 ⊢; omega, upA_ne (by unfold nwP at b2; omega)⟩) (fun _ _ _ => rfl) (Int.le_refl _)
        have V4 : TRP (nwP T.2) (upA w2 T.2 (up1 (w2 T.2) 0 a)) T2 (4 * D + 4 + 1) T.2 (x.1 ++ [(20, 0)]) := by
          unfold TRP TR
          refine ⟨Or.inr h2, Or.inr (Or.inl ⟨(rsH_in (h := (_, _)) (Or.inr (Int.le_refl _)) tM2).1, x.1, ?_, rfl⟩)⟩
          show TR _ (4 * D + 4) ((upA w2 T.2 (up1 (w2 T.2) 0 a)) T.2 0) x.1
          rw [e10]
          exact V3
        have t03 := S3.st.1.1
        have o3 := S3.st.2.1.2.2.1
        generalize upA w2 T.2 (up1 (w2 T.2) 0 a) = y at *
        simp (disch := (first | decide | omega)) only [jxs, hps, jtsw, jlsw, List.length_cons, List.length_nil, true_and, and_true, true_implies, false_implies, implies_true, not_true_eq_false, not_false_eq_true, false_and, and_false, if_true, if_false, or_true, true_or, or_false, false_or, Classical.not_not, and_self, Int.reduceAdd, Int.reduceMul, Int.reduceSub, Int.reduceNeg, Int.reduceLT, Int.reduceLE, Int.reduceEq, Int.reduceNe, Int.reduceToNat, Nat.reduceAdd, Nat.reduceMul, Nat.reduceSub, Nat.reduceLeDiff, Nat.reduceLT, Nat.reduceEqDiff, reduceIte, Nat.zero_le, Nat.le_refl, Nat.add_zero, Nat.zero_add, t03, o3]
        (repeat (refine And.intro (by (first | omega | assumption | trivial | (simp only [inI]; omega) | (simp only [inL]; omega) | (refine jb_01) | (exact jb_in))) ?_))
        refine hQ.2 _ rfl _ T2 T.2 (gF.wr (Or.inr rfl)) (S3.op (o' := 8 - ((D + 1 : Nat) : Int)) (kd' := kd) (fun j j6 _ => up1_ne j6) (by rw [up1_eq]; omega) ((up1_ne (by decide)).trans S3.st.2.1.2.2.2)) ?_
        exact (V4.up (by omega)).tk ⟨t2, t3⟩ (fun b hb => upA_ne hb)
  · refine ⟨fun _ => ?_, fun h => absurd h c⟩
    have ea : askP B n kd D k = cmP B n kd D k := by
      cases D with
      | zero => unfold askP; rw [if_neg c]
      | succ D => rw [askP]; rw [if_neg c]
    rw [ea] at hmc hms hQ
    clear ih ea
    have hsum := xw_sum (d := 3 * D + d + 1) (xw_product (d := 3 * D + d) (xw_one (g := g) (d := d) (tk := tk) (B := B) (n := n) (kd := kd) D hD) (fun j hj => GP_one D j hj)) (fun j hj => GP_pr hj)
    have hs : SpV g tk B n kd MX3_sum (smP B n kd D) (8 - (D : Int)) (3 * D + 1 + 1 + 1) (3 * D + d + 15) 14 120 := hsum
    have sp := fun Q => hs k v T Q hS
    have hg := GP_sm (B := B) (kd := kd) (D := D) hk
    unfold cmP at hmc hms hQ
    revert hmc hms hQ sp hg
    cases smP B n kd D k with
    | inl e =>
      intro hQ hmc hms sp hg
      have a1 : 24 * (n + 1 - k) - 12 = mc := hmc
      have a2 : 160 * (n + 1 - k) - 110 = ms := hms
      have a3 : cC n 14 (.inl e) k = 24 * (n + 1 - k) - 14 := rfl
      have a4 : cS n 120 (.inl e) k = 160 * (n + 1 - k) - 120 := rfl
      refine ⟨cC n 14 (.inl e) k, cS n 120 (.inl e) k, ⟨by omega, by omega⟩, sp _ ⟨fun ff pp hfp => ?_, fun x hx => (by cases hx)⟩⟩
      cases hfp
      intro w2 T2 a q1 q2 q3 q4 q5
      simp (disch := (first | decide | omega)) only [jxs, hps, jtsw, jlsw, List.length_cons, List.length_nil, true_and, and_true, true_implies, false_implies, implies_true, not_true_eq_false, not_false_eq_true, false_and, and_false, if_true, if_false, or_true, true_or, or_false, false_or, Classical.not_not, and_self, Int.reduceAdd, Int.reduceMul, Int.reduceSub, Int.reduceNeg, Int.reduceLT, Int.reduceLE, Int.reduceEq, Int.reduceNe, Int.reduceToNat, Nat.reduceAdd, Nat.reduceMul, Nat.reduceSub, Nat.reduceLeDiff, Nat.reduceLT, Nat.reduceEqDiff, reduceIte, Nat.zero_le, Nat.le_refl, Nat.add_zero, Nat.zero_add]
      exact ⟨by omega, by omega, hQ.1 _ _ rfl w2 T2 a q1 q2 q3 q4 q5⟩
    | inr x =>
      intro hQ hmc hms sp hg
      have gx := hg x rfl
      have a3 : cC n 14 (.inr x) k = 24 * (x.2 - k) - 14 := rfl
      have a4 : cS n 120 (.inr x) k = 160 * (x.2 - k) - 120 := rfl
      dsimp only at hmc hms hQ
      by_cases hc : isC (stT B n x.2)
      · rw [if_pos hc] at hmc hms hQ
        have nl := nx_lt (B := B) (n := n) (k := x.2) gx.2.1 (by unfold isC at hc; omega)
        have hg2 := GP_sm (B := B) (kd := kd) (D := D) nl.2
        have E1 : nxT B n x.2 + 1 ≤ eR n (smP B n kd D (nxT B n x.2)) := by
          revert hg2
          cases smP B n kd D (nxT B n x.2) with
          | inl e => intro _; show _ ≤ n + 1; omega
          | inr y => intro h; have := h y rfl; show _ ≤ y.2; omega
        have E2 : eR n (cm2P B n kd D x.1 (stT B n x.2) (nxT B n x.2)) = eR n (smP B n kd D (nxT B n x.2)) := by
          unfold cm2P
          cases smP B n kd D (nxT B n x.2) with
          | inl e => rfl
          | inr y => rfl
        unfold cC at hmc
        unfold cS at hms
        rw [E2] at hmc hms
        refine ⟨cC n 14 (.inr x) k, cS n 120 (.inr x) k, ⟨by omega, by omega⟩, sp _ ⟨fun ff pp hfp => (by cases hfp), fun x' hx => ?_⟩⟩
        cases hx
        intro w2 T2 a g2 S2 V2
        have t02 := S2.st.1.1
        have f42 := S2.st.2.1.2.1
        have k1 : jW bX3_ask (g, 3 * D + d + 15, mc, ms, Q) 1 [some (vR tk), some (vR a), some (vI (stT B n x.2))] [] (w2, T2) (cC n 14 (.inr x) k) (cS n 120 (.inr x) k) := by
          refine xw_ask_1 hs (fun j hj => GP_sm hj) ⟨Nat.le_refl _, by omega⟩ ⟨t2, t3⟩ g2 S2 rfl hc V2 ⟨by omega, by omega⟩ (fun f p hfp => ?_) (fun y hy => ?_)
          · exact hQ.1 f p (by unfold cm2P; rw [hfp])
          · intro w3 T3 r z1 z2 z3
            exact hQ.2 (x.1 ++ (y.1 ++ [(cmo (stT B n x.2), 0)]), y.2) (by unfold cm2P; rw [hy]) w3 T3 r z1 z2 (z3.up (by omega))
        simp (disch := (first | decide | omega)) only [jxs, hps, jtsw, jlsw, List.length_cons, List.length_nil, true_and, and_true, true_implies, false_implies, implies_true, not_true_eq_false, not_false_eq_true, false_and, and_false, if_true, if_false, or_true, true_or, or_false, false_or, Classical.not_not, and_self, Int.reduceAdd, Int.reduceMul, Int.reduceSub, Int.reduceNeg, Int.reduceLT, Int.reduceLE, Int.reduceEq, Int.reduceNe, Int.reduceToNat, Nat.reduceAdd, Nat.reduceMul, Nat.reduceSub, Nat.reduceLeDiff, Nat.reduceLT, Nat.reduceEqDiff, reduceIte, Nat.zero_le, Nat.le_refl, Nat.add_zero, Nat.zero_add, t02, f42]
        repeat (refine ⟨fun _ => k1, fun _ => ?_⟩)
        unfold isC at hc
        exfalso
        omega
      · rw [if_neg hc] at hmc hms hQ
        have b1 : 24 * (n + 1 - k) - 12 = mc := hmc
        have b2 : 160 * (n + 1 - k) - 110 = ms := hms
        refine ⟨cC n 14 (.inr x) k, cS n 120 (.inr x) k, ⟨by omega, by omega⟩, sp _ ⟨fun ff pp hfp => (by cases hfp), fun x' hx => ?_⟩⟩
        cases hx
        intro w2 T2 a g2 S2 V2
        have t02 := S2.st.1.1
        have f32 := S2.st.2.1.1
        have f42 := S2.st.2.1.2.1
        have h22 := S2.st.1.2.2.2
        have tEE := tE T2 h22
        unfold isC at hc
        simp (disch := (first | decide | omega)) only [jxs, hps, jtsw, jlsw, List.length_cons, List.length_nil, true_and, and_true, true_implies, false_implies, implies_true, not_true_eq_false, not_false_eq_true, false_and, and_false, if_true, if_false, or_true, true_or, or_false, false_or, Classical.not_not, and_self, Int.reduceAdd, Int.reduceMul, Int.reduceSub, Int.reduceNeg, Int.reduceLT, Int.reduceLE, Int.reduceEq, Int.reduceNe, Int.reduceToNat, Nat.reduceAdd, Nat.reduceMul, Nat.reduceSub, Nat.reduceLeDiff, Nat.reduceLT, Nat.reduceEqDiff, reduceIte, Nat.zero_le, Nat.le_refl, Nat.add_zero, Nat.zero_add, t02, f42]
        repeat (refine ⟨fun h => (by exfalso; omega), fun _ => ?_⟩)
        refine ⟨1, 8, ⟨by omega, by omega⟩, xw_wrong t02 h22 ?_⟩
        rw [f32]
        simp (disch := (first | decide | omega)) only [jxs, hps, jtsw, jlsw, List.length_cons, List.length_nil, true_and, and_true, true_implies, false_implies, implies_true, not_true_eq_false, not_false_eq_true, false_and, and_false, if_true, if_false, or_true, true_or, or_false, false_or, Classical.not_not, and_self, Int.reduceAdd, Int.reduceMul, Int.reduceSub, Int.reduceNeg, Int.reduceLT, Int.reduceLE, Int.reduceEq, Int.reduceNe, Int.reduceToNat, Nat.reduceAdd, Nat.reduceMul, Nat.reduceSub, Nat.reduceLeDiff, Nat.reduceLT, Nat.reduceEqDiff, reduceIte, Nat.zero_le, Nat.le_refl, Nat.add_zero, Nat.zero_add, tEE]
        (repeat (refine And.intro (by (first | omega | assumption | trivial | (simp only [inI]; omega) | (simp only [inL]; omega) | (refine jb_01) | (exact jb_in))) ?_))
        exact wrg_gr h22 ((hQ.1 1 _ rfl).gr g2)
theorem xw_ask : ∀ (D : Nat), D ≤ 8 → SpT g tk B n kd MX3_ask (askP B n kd D) (8 - (D : Int)) (4 * D + 4) (3 * D + d + 16) 12 110
  | 0, h => xw_ask_s h (fun D' e => by omega)
  | D + 1, h => xw_ask_s h (fun D' e => by
      have : D' = D := by omega
      subst this
      exact xw_ask D' (by omega))
end XG
