/-! ===== the reference: the game, its frame ===== -/
set_option maxRecDepth 100000
section TG
variable {g : jjG} {d : Nat} {T : jjT} {Q : jjQ}
theorem tw_gm_5 {l1 l2 l3 l4 st m ni : Int} {el c : Int → Int} (hT : PT T) (hm : 0 ≤ m ∧ m ≤ 6) (hni : 0 ≤ ni ∧ ni < 100000) : ∀ (r : Nat) (v : Int → Int → Int) (wo : Int → Int), PV v → LAID v m el c → v 540 1 = ni → EQm (fac m) (v 558) wo → r ≤ 5 →
    (∀ w, LAID w m el c → jko v w → EQm (fac m) (w 558) (woN (ldJ c m) m ni r wo) → jW bX2_game (g, d + 9, 0, 0, Q) 5 [some (vR 539), some (vI l1), some (vI l2), some (vI l3), some (vI l4), some (vI st), some (vI 0), none, none] [] (w, T) 0 0) →
    jW bX2_game (g, d + 9, 0, 0, Q) 5 [some (vR 539), some (vI l1), some (vI l2), some (vI l3), some (vI l4), some (vI st), some (vI r), none, none] [] (v, T) 0 0 := by
  have hf := fac_bd hm.2
  intro r
  induction r with
  | zero =>
    intro v wo hV hL hv hw hr hQ
    exact hQ v hL jko.rf hw
  | succ r ih =>
    intro v wo hV hL hv hw hr hQ
    unfold woN at hQ
    have er : ((r + 1 : Nat) : Int) = (r : Int) + 1 := by omega
    rw [er]
    refine jW_step ?_
    simp (disch := (first | decide | omega)) only [bX2_game, jxs, hps, jtsw, jlsw, List.length_cons, List.length_nil, true_and, and_true, true_implies, false_implies, implies_true, not_true_eq_false, not_false_eq_true, false_and, and_false, if_true, if_false, or_true, true_or, or_false, false_or, Classical.not_not, and_self, Int.reduceAdd, Int.reduceMul, Int.reduceSub, Int.reduceNeg, Int.reduceLT, Int.reduceLE, Int.reduceEq, Int.reduceNe, Int.reduceToNat, Nat.reduceAdd, Nat.reduceMul, Nat.reduceSub, Nat.reduceLeDiff, Nat.reduceLT, Nat.reduceEqDiff, reduceIte, Nat.zero_le, Nat.le_refl, Nat.add_zero, Nat.zero_add, twT hT, twV hV]
    (first | refine ⟨fun h9 => (by exfalso; omega), fun _ => ?_⟩ | intro _)
    refine tw_gm_6 (c := c) (wo := wo) hT hm (by omega) hni (fac m).toNat 0 v hV hL hv hw (by omega) (by omega) (fun i i0 i1 => by omega) ?_
    intro u u1 u2
    have ju : jko v u := ⟨⟨v 539 34, v 539 35, by rw [up1_id, up1_id]; exact u2 539 (by omega) (by omega)⟩, fun a a1 a2 => u2 a (by omega) (by omega)⟩
    have hVu := ju.pv hV
    have hLu := hL.fr (u2 539 (by omega) (by omega)) (u2 551 (by omega) (by omega)) (u2 552 (by omega) (by omega)) (u2 553 (by omega) (by omega)) (u2 554 (by omega) (by omega))
    have u35 := hLu.2.1
    have hV0 := hV
    have hV := hVu
    refine jW_step ?_
    simp (disch := (first | decide | omega)) only [bX2_game, jxs, hps, jtsw, jlsw, List.length_cons, List.length_nil, true_and, and_true, true_implies, false_implies, implies_true, not_true_eq_false, not_false_eq_true, false_and, and_false, if_true, if_false, or_true, true_or, or_false, false_or, Classical.not_not, and_self, Int.reduceAdd, Int.reduceMul, Int.reduceSub, Int.reduceNeg, Int.reduceLT, Int.reduceLE, Int.reduceEq, Int.reduceNe, Int.reduceToNat, Nat.reduceAdd, Nat.reduceMul, Nat.reduceSub, Nat.reduceLeDiff, Nat.reduceLT, Nat.reduceEqDiff, reduceIte, Nat.zero_le, Nat.le_refl, Nat.add_zero, Nat.zero_add, twT hT, twV hV, u35]
    (repeat (refine And.intro (by (first | omega | assumption | trivial | (simp only [inI]; omega) | (simp only [inL]; omega) | (refine jb_01) | (exact jb_in))) ?_))
    (try refine ⟨fun _ => ?_, fun h9 => (by exfalso; omega)⟩)
    refine jW_sub (ls' := [some (vR 539), some (vI l1), some (vI l2), some (vI l3), some (vI l4), some (vI st), some (vI ((r : Int) + 1)), some (vI 0), none]) (by simp [jsub]) ?_
    refine tw_gm_8 (el := el) (c := c) hT hm (fac m).toNat 0 u hVu u35 u1 (by omega) (by omega) (fun i i0 i1 => by omega) ?_
    intro w w1 w2
    have jw : jko u w := ⟨⟨u 539 34, u 539 35, by rw [up1_id, up1_id]; exact w2 539 (by omega)⟩, fun a a1 a2 => w2 a (by omega)⟩
    have hVw := jw.pv hVu
    have hLw := hLu.fr (w2 539 (by omega)) (w2 551 (by omega)) (w2 552 (by omega)) (w2 553 (by omega)) (w2 554 (by omega))
    have w35 := hLw.2.1
    have hV := hVw
    refine jW_step ?_
    simp (disch := (first | decide | omega)) only [bX2_game, jxs, hps, jtsw, jlsw, List.length_cons, List.length_nil, true_and, and_true, true_implies, false_implies, implies_true, not_true_eq_false, not_false_eq_true, false_and, and_false, if_true, if_false, or_true, true_or, or_false, false_or, Classical.not_not, and_self, Int.reduceAdd, Int.reduceMul, Int.reduceSub, Int.reduceNeg, Int.reduceLT, Int.reduceLE, Int.reduceEq, Int.reduceNe, Int.reduceToNat, Nat.reduceAdd, Nat.reduceMul, Nat.reduceSub, Nat.reduceLeDiff, Nat.reduceLT, Nat.reduceEqDiff, reduceIte, Nat.zero_le, Nat.le_refl, Nat.add_zero, Nat.zero_add, twT hT, twV hV, w35]
    (repeat (refine And.intro (by (first | omega | assumption | trivial | (simp only [inI]; omega) | (simp only [inL]; omega) | (refine jb_01) | (exact jb_in))) ?_))
    (try refine ⟨fun _ => ?_, fun h9 => (by exfalso; omega)⟩)
    (repeat (refine And.intro (by (first | omega | assumption | trivial | (simp only [inI]; omega) | (simp only [inL]; omega) | (refine jb_01) | (exact jb_in))) ?_))
    refine jW_sub (ls' := [some (vR 539), some (vI l1), some (vI l2), some (vI l3), some (vI l4), some (vI st), some (vI r), none, none]) (by simp [jsub]; try omega) ?_
    refine ih w _ hVw hLw (by rw [jw.a, ju.a]; exact hv) w1 (by omega) ?_
    intro y y1 y2 y3
    exact hQ y y1 ((ju.tr jw).tr y2) y3
theorem tw_game {v : Int → Int → Int} {s b n fi : Int} (hT : PT T) (hV : PV v) (hS : TE v ∧ SH (v 540) ∧ (0 ≤ v 540 1 ∧ v 540 1 < 100000)) (hQ : ∀ u, jko v u → Q (.inl (some (vI (gmA (v 540) (v 542) s b n fi)))) (u, T)) : jmet g (d + 10) 0 0 MX2_game [vR 539, vI s, vI b, vI n, vI fi] (v, T) Q := by
  obtain ⟨hE, hH, hni⟩ := hS
  have h0 := hE.1.1
  unfold gmA at hQ
  refine jmet_of (ls := [some (vR 539), some (vI s), some (vI b), some (vI n), some (vI fi), none, none, none, none]) sX2_game rfl (by decide +kernel) (by decide) rfl (by simp [jent]) ?_
  have no : ¬ ((0 ≤ s ∧ s ≤ 2) ∧ (2 ≤ v 540 (13 + s) ∧ v 540 (13 + s) ≤ 5) ∧ ithP (v 540) b s 0 ∧ (1 ≤ n ∧ n ≤ 5)) → jW bX2_game (g, d + 9, 0, 0, Q) 1 [some (vR 539), some (vI s), some (vI b), some (vI n), some (vI fi), none, none, none, none] [] (v, T) 0 0 := by
    intro hh
    rw [if_neg hh] at hQ
    refine jW_step ?_
    simp (disch := (first | decide | omega)) only [bX2_game, jxs, hps, jtsw, jlsw, List.length_cons, List.length_nil, true_and, and_true, true_implies, false_implies, implies_true, not_true_eq_false, not_false_eq_true, false_and, and_false, if_true, if_false, or_true, true_or, or_false, false_or, Classical.not_not, and_self, Int.reduceAdd, Int.reduceMul, Int.reduceSub, Int.reduceNeg, Int.reduceLT, Int.reduceLE, Int.reduceEq, Int.reduceNe, Int.reduceToNat, Nat.reduceAdd, Nat.reduceMul, Nat.reduceSub, Nat.reduceLeDiff, Nat.reduceLT, Nat.reduceEqDiff, reduceIte, Nat.zero_le, Nat.le_refl, Nat.add_zero, Nat.zero_add, twT hT, twV hV]
    (repeat (refine And.intro (by (first | omega | assumption | trivial | (simp only [inI]; omega) | (simp only [inL]; omega) | (refine jb_01) | (exact jb_in))) ?_))
    exact hQ v jko.rf
  refine jW_step ?_
  simp (disch := (first | decide | omega)) only [bX2_game, jxs, hps, jtsw, jlsw, List.length_cons, List.length_nil, true_and, and_true, true_implies, false_implies, implies_true, not_true_eq_false, not_false_eq_true, false_and, and_false, if_true, if_false, or_true, true_or, or_false, false_or, Classical.not_not, and_self, Int.reduceAdd, Int.reduceMul, Int.reduceSub, Int.reduceNeg, Int.reduceLT, Int.reduceLE, Int.reduceEq, Int.reduceNe, Int.reduceToNat, Nat.reduceAdd, Nat.reduceMul, Nat.reduceSub, Nat.reduceLeDiff, Nat.reduceLT, Nat.reduceEqDiff, reduceIte, Nat.zero_le, Nat.le_refl, Nat.add_zero, Nat.zero_add, twT hT, twV hV]
  refine ⟨0, 0, ⟨by omega, by omega⟩, tw_isShelf hT (by (first | assumption | (repeat (first | assumption | refine PV.A ?_ (by decide) | refine PV.F ?_ ?_ | refine twR.up ?_ (by decide) | refine PV.r ?_)))) (by (first | omega | assumption | trivial | (simp only [inI]; omega) | (simp only [inL]; omega) | (refine jb_01) | (exact jb_in))) ?_⟩
  simp (disch := (first | decide | omega)) only [jxs, hps, jtsw, jlsw, List.length_cons, List.length_nil, true_and, and_true, true_implies, false_implies, implies_true, not_true_eq_false, not_false_eq_true, false_and, and_false, if_true, if_false, or_true, true_or, or_false, false_or, Classical.not_not, and_self, Int.reduceAdd, Int.reduceMul, Int.reduceSub, Int.reduceNeg, Int.reduceLT, Int.reduceLE, Int.reduceEq, Int.reduceNe, Int.reduceToNat, Nat.reduceAdd, Nat.reduceMul, Nat.reduceSub, Nat.reduceLeDiff, Nat.reduceLT, Nat.reduceEqDiff, reduceIte, Nat.zero_le, Nat.le_refl, Nat.add_zero, Nat.zero_add, twT hT, twV hV]
  refine ⟨fun h => ?_, fun h => ?_⟩
  · exact no (fun x => h x.1)
  have hm := hE.1.2.2.2.2.2.1 (13 + s) (by omega) (by omega)
  (repeat (refine And.intro (by (first | omega | assumption | trivial | (simp only [inI]; omega) | (simp only [inL]; omega) | (refine jb_01) | (exact jb_in))) ?_))
  refine ⟨0, 0, ⟨by omega, by omega⟩, tw_isIn hT (by (first | assumption | (repeat (first | assumption | refine PV.A ?_ (by decide) | refine PV.F ?_ ?_ | refine twR.up ?_ (by decide) | refine PV.r ?_)))) (by (first | omega | assumption | trivial | (simp only [inI]; omega) | (simp only [inL]; omega) | (refine jb_01) | (exact jb_in))) ?_⟩
  simp (disch := (first | decide | omega)) only [jxs, hps, jtsw, jlsw, List.length_cons, List.length_nil, true_and, and_true, true_implies, false_implies, implies_true, not_true_eq_false, not_false_eq_true, false_and, and_false, if_true, if_false, or_true, true_or, or_false, false_or, Classical.not_not, and_self, Int.reduceAdd, Int.reduceMul, Int.reduceSub, Int.reduceNeg, Int.reduceLT, Int.reduceLE, Int.reduceEq, Int.reduceNe, Int.reduceToNat, Nat.reduceAdd, Nat.reduceMul, Nat.reduceSub, Nat.reduceLeDiff, Nat.reduceLT, Nat.reduceEqDiff, reduceIte, Nat.zero_le, Nat.le_refl, Nat.add_zero, Nat.zero_add, twT hT, twV hV]
  refine ⟨fun h2 => ?_, fun h2 => ?_⟩
  · exact no (fun x => h2 x.2.1)
  refine ⟨0, 0, ⟨by omega, by omega⟩, tw_isThere hT hV hE ⟨fun h3 => ?_, fun h3 => ?_⟩⟩
  · simp (disch := (first | decide | omega)) only [jxs, hps, jtsw, jlsw, List.length_cons, List.length_nil, true_and, and_true, true_implies, false_implies, implies_true, not_true_eq_false, not_false_eq_true, false_and, and_false, if_true, if_false, or_true, true_or, or_false, false_or, Classical.not_not, and_self, Int.reduceAdd, Int.reduceMul, Int.reduceSub, Int.reduceNeg, Int.reduceLT, Int.reduceLE, Int.reduceEq, Int.reduceNe, Int.reduceToNat, Nat.reduceAdd, Nat.reduceMul, Nat.reduceSub, Nat.reduceLeDiff, Nat.reduceLT, Nat.reduceEqDiff, reduceIte, Nat.zero_le, Nat.le_refl, Nat.add_zero, Nat.zero_add, twT hT, twV hV]
    refine ⟨0, 0, ⟨by omega, by omega⟩, tw_isIn hT (by (first | assumption | (repeat (first | assumption | refine PV.A ?_ (by decide) | refine PV.F ?_ ?_ | refine twR.up ?_ (by decide) | refine PV.r ?_)))) (by (first | omega | assumption | trivial | (simp only [inI]; omega) | (simp only [inL]; omega) | (refine jb_01) | (exact jb_in))) ?_⟩
    simp (disch := (first | decide | omega)) only [jxs, hps, jtsw, jlsw, List.length_cons, List.length_nil, true_and, and_true, true_implies, false_implies, implies_true, not_true_eq_false, not_false_eq_true, false_and, and_false, if_true, if_false, or_true, true_or, or_false, false_or, Classical.not_not, and_self, Int.reduceAdd, Int.reduceMul, Int.reduceSub, Int.reduceNeg, Int.reduceLT, Int.reduceLE, Int.reduceEq, Int.reduceNe, Int.reduceToNat, Nat.reduceAdd, Nat.reduceMul, Nat.reduceSub, Nat.reduceLeDiff, Nat.reduceLT, Nat.reduceEqDiff, reduceIte, Nat.zero_le, Nat.le_refl, Nat.add_zero, Nat.zero_add, twT hT, twV hV]
    refine ⟨fun h4 => ?_, fun h4 => ?_⟩
    · rw [if_pos ⟨h, h2, h3, h4⟩] at hQ
      have h6 : v 540 (13 + s) ≤ 6 := by omega
      have hf := fac_bd h6
      have fd := fst_dec hE.1 hH ⟨h.1, by omega⟩ h6
      have al := shs_all (X := v 540) hE.1 hH (s := s) ⟨h.1, by omega⟩
      have ex : ∃ q, (0 ≤ q ∧ q < v 540 (13 + s)) ∧ (elZ (v 540 0) (shsA (v 540) s)).1 q = b := by
        unfold ithP at h3
        obtain ⟨p, p0, p1, p2⟩ := hH.2.2.1 b h3.1.1.1 (by omega) h3.1.2
        rw [h3.2.1] at p1 p2
        obtain ⟨k, k1, k2⟩ := al.2.2 p p0 p1
        exact ⟨k, k1, by rw [k2]; exact p2⟩
      have hb : 0 ≤ b := by unfold ithP at h3; omega
      refine ⟨0, 0, ⟨by omega, by omega⟩, tw_layShelf hT hV ⟨hE, hH, ⟨h.1, by omega⟩, h6⟩ ?_⟩
      intro w hL hO jw
      have hVw := jw.pv hV
      have ea := jw.a
      unfold gmS gmS2 at hQ
      have fb := fd.1
      generalize fstA (v 540) s = f0 at *
      generalize (elZ (v 540 0) (shsA (v 540) s)).1 = el at *
      generalize tbS (v 540) (v 542) (shsA (v 540) s) = c at *
      generalize v 540 (13 + s) = m at *
      have m6 : 0 ≤ m ∧ m ≤ 6 := ⟨hm.1, h6⟩
      have LDj := ldJ_LD (c := c) m6
      simp (disch := (first | decide | omega)) only [jxs, hps, jtsw, jlsw, List.length_cons, List.length_nil, true_and, and_true, true_implies, false_implies, implies_true, not_true_eq_false, not_false_eq_true, false_and, and_false, if_true, if_false, or_true, true_or, or_false, false_or, Classical.not_not, and_self, Int.reduceAdd, Int.reduceMul, Int.reduceSub, Int.reduceNeg, Int.reduceLT, Int.reduceLE, Int.reduceEq, Int.reduceNe, Int.reduceToNat, Nat.reduceAdd, Nat.reduceMul, Nat.reduceSub, Nat.reduceLeDiff, Nat.reduceLT, Nat.reduceEqDiff, reduceIte, Nat.zero_le, Nat.le_refl, Nat.add_zero, Nat.zero_add, twT hT, twV hV]
      refine tw_gm_2 (el := el) (c := c) hT m6 hb ex (fac m).toNat 0 w hVw hL (by omega) (by omega) (fun i i0 i1 => by omega) ?_
      intro u u1 u2
      have ju : jko w u := ⟨⟨w 539 34, w 539 35, by rw [up1_id, up1_id]; exact u2 539 (by omega)⟩, fun a a1 a2 => u2 a (by omega)⟩
      have hVu := ju.pv hVw
      have hLu := hL.fr (u2 539 (by omega)) (u2 551 (by omega)) (u2 552 (by omega)) (u2 553 (by omega)) (u2 554 (by omega))
      have u35 := hLu.2.1
      have hV := hVu
      refine jW_step ?_
      simp (disch := (first | decide | omega)) only [bX2_game, jxs, hps, jtsw, jlsw, List.length_cons, List.length_nil, true_and, and_true, true_implies, false_implies, implies_true, not_true_eq_false, not_false_eq_true, false_and, and_false, if_true, if_false, or_true, true_or, or_false, false_or, Classical.not_not, and_self, Int.reduceAdd, Int.reduceMul, Int.reduceSub, Int.reduceNeg, Int.reduceLT, Int.reduceLE, Int.reduceEq, Int.reduceNe, Int.reduceToNat, Nat.reduceAdd, Nat.reduceMul, Nat.reduceSub, Nat.reduceLeDiff, Nat.reduceLT, Nat.reduceEqDiff, reduceIte, Nat.zero_le, Nat.le_refl, Nat.add_zero, Nat.zero_add, twT hT, twV hV, u35]
      (repeat (refine And.intro (by (first | omega | assumption | trivial | (simp only [inI]; omega) | (simp only [inL]; omega) | (refine jb_01) | (exact jb_in))) ?_))
      (try refine ⟨fun _ => ?_, fun h9 => (by exfalso; omega)⟩)
      (repeat (refine And.intro (by (first | omega | assumption | trivial | (simp only [inI]; omega) | (simp only [inL]; omega) | (refine jb_01) | (exact jb_in))) ?_))
      refine jW_sub (ls' := [some (vR 539), some (vI s), some (vI b), some (vI n), some (vI fi), some (vI f0), some (vI ((n - 1).toNat : Int)), none, none]) (by simp [jsub]; try omega) ?_
      refine tw_gm_5 (el := el) (c := c) (ni := v 540 1) hT m6 hni (n - 1).toNat u _ hVu hLu (by rw [ju.a, ea]) u1 (by omega) ?_
      intro y y1 y2 y3
      have jy := (jw.tr ju).tr y2
      have hVy := jy.pv (by assumption)
      have y40 : y 540 1 = v 540 1 := by rw [jy.a]
      generalize woN (ldJ c m) m (v 540 1) (n - 1).toNat (wo0 el m b) = wo at *
      have hV := hVy
      refine jW_step ?_
      simp (disch := (first | decide | omega)) only [bX2_game, jxs, hps, jtsw, jlsw, List.length_cons, List.length_nil, true_and, and_true, true_implies, false_implies, implies_true, not_true_eq_false, not_false_eq_true, false_and, and_false, if_true, if_false, or_true, true_or, or_false, false_or, Classical.not_not, and_self, Int.reduceAdd, Int.reduceMul, Int.reduceSub, Int.reduceNeg, Int.reduceLT, Int.reduceLE, Int.reduceEq, Int.reduceNe, Int.reduceToNat, Nat.reduceAdd, Nat.reduceMul, Nat.reduceSub, Nat.reduceLeDiff, Nat.reduceLT, Nat.reduceEqDiff, reduceIte, Nat.zero_le, Nat.le_refl, Nat.add_zero, Nat.zero_add, twT hT, twV hV, y40]
      (try refine ⟨fun _ => ?_, fun h9 => (by exfalso; omega)⟩)
      (repeat (refine And.intro (by (first | omega | assumption | trivial | (simp only [inI]; omega) | (simp only [inL]; omega) | (refine jb_01) | (exact jb_in))) ?_))
      refine ⟨0, 0, ⟨by omega, by omega⟩, tw_bestOf (wo := wo) hT hV ⟨y1, m6, fb, by omega, y3⟩ ?_⟩
      intro z hz
      have jz : jko y z := ⟨⟨y 539 34, y 539 35, by rw [up1_id, up1_id]; exact hz 539 (by omega)⟩, fun a a1 a2 => hz a (by omega)⟩
      have hVz := jz.pv hVy
      have hV := hVz
      have at9 := boA_at (ld := ldJ c m) (wo := wo) (n := f0) (kind := v 540 1 % 2) (le := 1) (show 1 ≤ m by omega)
      generalize boA (ldJ c m) wo m f0 (v 540 1 % 2) 1 = best at *
      simp (disch := (first | decide | omega)) only [jxs, hps, jtsw, jlsw, List.length_cons, List.length_nil, true_and, and_true, true_implies, false_implies, implies_true, not_true_eq_false, not_false_eq_true, false_and, and_false, if_true, if_false, or_true, true_or, or_false, false_or, Classical.not_not, and_self, Int.reduceAdd, Int.reduceMul, Int.reduceSub, Int.reduceNeg, Int.reduceLT, Int.reduceLE, Int.reduceEq, Int.reduceNe, Int.reduceToNat, Nat.reduceAdd, Nat.reduceMul, Nat.reduceSub, Nat.reduceLeDiff, Nat.reduceLT, Nat.reduceEqDiff, reduceIte, Nat.zero_le, Nat.le_refl, Nat.add_zero, Nat.zero_add, twT hT, twV hV]
      refine ⟨fun h5 => ?_, fun h5 => ?_⟩
      · rw [if_neg (by omega)] at hQ
        refine tw_gm_9 (el := el) (c := c) (wo := wo) hT m6 fb (by omega) (m + 1).toNat (-1) z hVz (y1.fr (hz 539 (by omega)) (hz 551 (by omega)) (hz 552 (by omega)) (hz 553 (by omega)) (hz 554 (by omega))) (by rw [hz 558 (by omega)]; exact y3) (by omega) (by omega) at9 ?_
        intro x hx
        exact hQ x ((jy.tr jz).tr ⟨⟨z 539 34, z 539 35, by rw [up1_id, up1_id]; exact hx 539 (by omega)⟩, fun a a1 a2 => hx a (by omega)⟩)
      · rw [if_pos (by omega)] at hQ
        (repeat (refine And.intro (by (first | omega | assumption | trivial | (simp only [inI]; omega) | (simp only [inL]; omega) | (refine jb_01) | (exact jb_in))) ?_))
        exact hQ z (jy.tr jz)
    · exact no (fun x => h4 x.2.2.2)
  · simp (disch := (first | decide | omega)) only [jxs, hps, jtsw, jlsw, List.length_cons, List.length_nil, true_and, and_true, true_implies, false_implies, implies_true, not_true_eq_false, not_false_eq_true, false_and, and_false, if_true, if_false, or_true, true_or, or_false, false_or, Classical.not_not, and_self, Int.reduceAdd, Int.reduceMul, Int.reduceSub, Int.reduceNeg, Int.reduceLT, Int.reduceLE, Int.reduceEq, Int.reduceNe, Int.reduceToNat, Nat.reduceAdd, Nat.reduceMul, Nat.reduceSub, Nat.reduceLeDiff, Nat.reduceLT, Nat.reduceEqDiff, reduceIte, Nat.zero_le, Nat.le_refl, Nat.add_zero, Nat.zero_add, twT hT, twV hV]
    exact no (fun x => h3 x.2.2.1)
end TG
