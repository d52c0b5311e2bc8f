/-! ===== the class: the game, whole ===== -/
-- MODE X
set_option maxRecDepth 100000
theorem el_one {el : Int → Int} {m b k : Int} (hm : 0 ≤ m ∧ m ≤ 6) (hM : MON el m) (hk : (0 ≤ k ∧ k < m) ∧ el k = b) {o : Int} (ho : 0 ≤ o ∧ o < fac m) : ONE (fun x => el (dec m o x)) m b := by
  obtain ⟨p, p1, p2⟩ := dec_sur hm ho hk.1
  refine ⟨p, p1, by dsimp only; rw [p2]; exact hk.2, fun i i0 i1 hi => ?_⟩
  dsimp only at hi
  have d1 := (dec_PRM hm ho).1 i i0 i1
  have e1 : dec m o i = k := by
    rcases Int.lt_trichotomy (dec m o i) k with c | c | c
    · have := hM _ _ d1.1 c hk.1.2; rw [hi, hk.2] at this; omega
    · exact c
    · have := hM _ _ hk.1.1 c d1.2; rw [hi, hk.2] at this; omega
  rcases Int.lt_trichotomy i p with c | c | c
  · exact ((dec_PRM hm ho).2 i p i0 c p1.2 (e1.trans p2.symm)).elim
  · exact c
  · exact ((dec_PRM hm ho).2 p i p1.1 c i1 (p2.trans e1.symm)).elim
theorem mvF_at {ld wo : Int → Int} {m n kind best : Int} : ∀ (r : Nat) (mv : Int), (∃ q, (mv ≤ q ∧ q < mv + r) ∧ wo (mvA ld m n q kind) = best) → ∀ r' : Nat, r ≤ r' → mvF ld wo m n kind best r' mv = mvF ld wo m n kind best r mv
  | 0, mv, h, _, _ => by obtain ⟨q, q1, _⟩ := h; omega
  | r + 1, mv, h, 0, h2 => by omega
  | r + 1, mv, h, r' + 1, h2 => by
    unfold mvF
    by_cases c : wo (mvA ld m n mv kind) = best
    · rw [if_pos c, if_pos c]
    · rw [if_neg c, if_neg c]
      obtain ⟨q, q1, q2⟩ := h
      refine mvF_at r (mv + 1) ⟨q, ?_, q2⟩ r' (by omega)
      have : q ≠ mv := fun e => c (by rw [← e]; exact q2)
      omega
section XG
variable {g : jjG} {d : Nat} {T : jjT} {Q : jjQ} {A X : Int → Int} {m : Int} {el : Int → Int}
theorem xw_gm_2 {n b s fi best o : Int} {wo : Int → Int} (hT : PT T) (hm : 2 ≤ m ∧ m ≤ 5) (hR : RN el m (A 0)) (hn : 1 ≤ n ∧ n ≤ 5) (h1 : 0 ≤ A 1 ∧ A 1 < 100000) (hwo : wo = wo0 el m b) (hb : ∀ o, 0 ≤ o → o < fac m → ONE (fun x => el (dec m o x)) m b) (ho : 0 ≤ o ∧ o < fac m) (hbs : inI best) : ∀ (r : Nat) (mv : Int) (v : Int → Int → Int), PV v → CI (v, T) A X → CHB (v 523) A X → v 400 10 = m → -1 ≤ mv → mv + 1 + r = m → EQm m (v 531) (fun x => el (dec m o x)) → (∃ q, (mv ≤ q ∧ q + 1 < m) ∧ plV (ldJ (tbE (tbl A X) el) m) m (A 1) wo (n - 1).toNat 1 (mvA (ldJ (tbE (tbl A X) el) m) m o q (A 1 % 2)) = best) →
    (∀ w, jkK v w → Q (.inl (some (vI (mvF (ldJ (tbE (tbl A X) el) m) (plV (ldJ (tbE (tbl A X) el) m) m (A 1) wo (n - 1).toNat 1) m o (A 1 % 2) best r mv)))) (w, T)) →
    jW bX0_game (g, d + 113, 0, 0, Q) 2 [some (vR 400), some (vI s), some (vI b), some (vI n), some (vI fi), some (vI best), some (vI mv)] [] (v, T) 0 0 := by
  have m6 : 0 ≤ m ∧ m ≤ 6 := by omega
  intro r
  induction r with
  | zero =>
    intro mv v hV hC hB hv hmv hr hE hx hQ
    obtain ⟨q, q1, _⟩ := hx
    omega
  | succ r ih =>
    intro mv v hV hC hB hv hmv hr hE hx hQ
    obtain ⟨q, q1, q2⟩ := hx
    have h0 := hC.tb.1
    have hmv3 : mv = -1 ∨ (0 ≤ mv ∧ mv + 1 < m) := by omega
    have rn : RN (v 531) m (A 0) := fun i i0 i1 => by
      rw [hE i i0 i1]
      have := (dec_PRM m6 ho).1 i i0 i1
      exact hR _ this.1 this.2
    have st := mv_st (c := tbl A X) (o := o) (mv := mv) (kd := (A 1 + 0) % 2) m6 ho hmv3 (by omega) (fun i i0 i1 => by have := hR i i0 i1; omega) hE
    rw [show (A 1 + 0) % 2 = A 1 % 2 by omega] at st
    unfold mvF at hQ
    refine jW_step ?_
    simp (disch := (first | decide | omega)) only [bX0_game, jxs, hps, jtsw, jlsw, List.length_cons, List.length_nil, true_and, and_true, true_implies, false_implies, implies_true, not_true_eq_false, not_false_eq_true, false_and, and_false, if_true, if_false, or_true, true_or, or_false, false_or, Classical.not_not, and_self, Int.reduceAdd, Int.reduceMul, Int.reduceSub, Int.reduceNeg, Int.reduceLT, Int.reduceLE, Int.reduceEq, Int.reduceNe, Int.reduceToNat, Nat.reduceAdd, Nat.reduceMul, Nat.reduceSub, Nat.reduceLeDiff, Nat.reduceLT, Nat.reduceEqDiff, reduceIte, Nat.zero_le, Nat.le_refl, Nat.add_zero, Nat.zero_add, xwT hT, xwV hV, hv]
    (repeat (refine And.intro (by (first | omega | assumption | trivial | (simp only [inI]; omega) | (simp only [inL]; omega) | (refine jb_01) | (exact jb_in))) ?_))
    (first | refine ⟨fun h9 => (by exfalso; omega), fun _ => ?_⟩ | intro _)
    refine ⟨0, 0, ⟨by omega, by omega⟩, xw_moves (d := d + 110) (A := A) (X := X) (k := 0) hT hV hC hB hv ⟨by omega, hm.2⟩ ⟨by omega, hmv3, rn, h1⟩ ?_⟩
    intro u u1 u2
    rw [show (A 1 + 0) % 2 = A 1 % 2 by omega] at u2
    have hu : jkg 0 v u := fun a ha => u1 a (by omega)
    have ju := hu.K (by omega) hV hC.nm
    have hV0 := hV
    have hV := ju.pv
    have hCu := ju.ci hC
    simp (disch := (first | decide | omega)) only [jxs, hps, jtsw, jlsw, List.length_cons, List.length_nil, true_and, and_true, true_implies, false_implies, implies_true, not_true_eq_false, not_false_eq_true, false_and, and_false, if_true, if_false, or_true, true_or, or_false, false_or, Classical.not_not, and_self, Int.reduceAdd, Int.reduceMul, Int.reduceSub, Int.reduceNeg, Int.reduceLT, Int.reduceLE, Int.reduceEq, Int.reduceNe, Int.reduceToNat, Nat.reduceAdd, Nat.reduceMul, Nat.reduceSub, Nat.reduceLeDiff, Nat.reduceLT, Nat.reduceEqDiff, reduceIte, Nat.zero_le, Nat.le_refl, Nat.add_zero, Nat.zero_add, xwT hT, xwV hV]
    refine ⟨0, 0, ⟨by omega, by omega⟩, jmet_le (show 100 + (n - 1).toNat + 4 ≤ d + 113 by omega) (Nat.le_refl 0) (Nat.le_refl 0) (xw_plays (wo := wo) (A := A) (X := X) (el := el) hT hm hR hn.2 h1 hwo hb (n - 1).toNat 1 u _ 100 _ hV hCu (by rw [hu 523 (by omega)]; exact hB) (by rw [hu 400 (by omega)]; exact hv) (by omega) (by omega) st.1 (fun i i0 i1 => (u2 i i0 i1).trans (st.2 i i0 i1)) ?_)⟩
    intro y hy
    have jy := ju.tr (hy.K (by omega) hV hCu.nm)
    have hyv : jkg 0 v y := fun a ha => (hy a (by omega)).trans (hu a ha)
    have hV := jy.pv
    simp (disch := (first | decide | omega)) only [jxs, hps, jtsw, jlsw, List.length_cons, List.length_nil, true_and, and_true, true_implies, false_implies, implies_true, not_true_eq_false, not_false_eq_true, false_and, and_false, if_true, if_false, or_true, true_or, or_false, false_or, Classical.not_not, and_self, Int.reduceAdd, Int.reduceMul, Int.reduceSub, Int.reduceNeg, Int.reduceLT, Int.reduceLE, Int.reduceEq, Int.reduceNe, Int.reduceToNat, Nat.reduceAdd, Nat.reduceMul, Nat.reduceSub, Nat.reduceLeDiff, Nat.reduceLT, Nat.reduceEqDiff, reduceIte, Nat.zero_le, Nat.le_refl, Nat.add_zero, Nat.zero_add, xwT hT, xwV hV]
    refine ⟨fun h => ?_, fun h => ?_⟩
    · rw [if_neg h] at hQ
      (repeat (refine And.intro (by (first | omega | assumption | trivial | (simp only [inI]; omega) | (simp only [inL]; omega) | (refine jb_01) | (exact jb_in))) ?_))
      refine ih (mv + 1) y hV (jy.ci hC) (by rw [hyv 523 (by omega)]; exact hB) (by rw [hyv 400 (by omega)]; exact hv) (by omega) (by omega) (by rw [hyv 531 (by omega)]; exact hE) ⟨q, ?_, q2⟩ (fun w hw => hQ w (jy.tr hw))
      have : q ≠ mv := fun e => h (by rw [← e]; exact q2)
      omega
    · rw [if_pos (by omega)] at hQ
      (repeat (refine And.intro (by (first | omega | assumption | trivial | (simp only [inI]; omega) | (simp only [inL]; omega) | (refine jb_01) | (exact jb_in))) ?_))
      exact hQ y jy
theorem xw_game {s b n fi : Int} {v : Int → Int → Int} (hT : PT T) (hV : PV v) (hC : CI (v, T) A X) (hS : SH A ∧ (0 ≤ A 1 ∧ A 1 < 100000)) (hQ : ∀ w, jkK v w → Q (.inl (some (vI (gmA A X s b n fi)))) (w, T)) : jmet g (d + 114) 0 0 MX0_game [vR 400, vI s, vI b, vI n, vI fi] (v, T) Q := by
  obtain ⟨hH, h1⟩ := hS
  have hE := hC.tb
  have h0 := hE.1
  refine jmet_of (ls := [some (vR 400), some (vI s), some (vI b), some (vI n), some (vI fi), none, none]) sX0_game rfl (by decide +kernel) (by decide) rfl (by simp [jent]) ?_
  have k1 : gmA A X s b n fi = -2 → jW bX0_game (g, d + 113, 0, 0, Q) 1 [some (vR 400), some (vI s), some (vI b), some (vI n), some (vI fi), none, none] [] (v, T) 0 0 := by
    intro e
    rw [e] at hQ
    refine jW_step ?_
    simp (disch := (first | decide | omega)) only [bX0_game, jxs, hps, jtsw, jlsw, List.length_cons, List.length_nil, true_and, and_true, true_implies, false_implies, implies_true, not_true_eq_false, not_false_eq_true, false_and, and_false, if_true, if_false, or_true, true_or, or_false, false_or, Classical.not_not, and_self, Int.reduceAdd, Int.reduceMul, Int.reduceSub, Int.reduceNeg, Int.reduceLT, Int.reduceLE, Int.reduceEq, Int.reduceNe, Int.reduceToNat, Nat.reduceAdd, Nat.reduceMul, Nat.reduceSub, Nat.reduceLeDiff, Nat.reduceLT, Nat.reduceEqDiff, reduceIte, Nat.zero_le, Nat.le_refl, Nat.add_zero, Nat.zero_add, xwT hT, xwV hV]
    (repeat (refine And.intro (by (first | omega | assumption | trivial | (simp only [inI]; omega) | (simp only [inL]; omega) | (refine jb_01) | (exact jb_in))) ?_))
    exact hQ v (jkK.rf hV hC.nm)
  unfold gmA at hQ k1
  refine jW_step ?_
  simp (disch := (first | decide | omega)) only [bX0_game, jxs, hps, jtsw, jlsw, List.length_cons, List.length_nil, true_and, and_true, true_implies, false_implies, implies_true, not_true_eq_false, not_false_eq_true, false_and, and_false, if_true, if_false, or_true, true_or, or_false, false_or, Classical.not_not, and_self, Int.reduceAdd, Int.reduceMul, Int.reduceSub, Int.reduceNeg, Int.reduceLT, Int.reduceLE, Int.reduceEq, Int.reduceNe, Int.reduceToNat, Nat.reduceAdd, Nat.reduceMul, Nat.reduceSub, Nat.reduceLeDiff, Nat.reduceLT, Nat.reduceEqDiff, reduceIte, Nat.zero_le, Nat.le_refl, Nat.add_zero, Nat.zero_add, xwT hT, xwV hV]
  refine ⟨0, 0, ⟨by omega, by omega⟩, xw_isShelf ?_⟩
  simp (disch := (first | decide | omega)) only [jxs, hps, jtsw, jlsw, List.length_cons, List.length_nil, true_and, and_true, true_implies, false_implies, implies_true, not_true_eq_false, not_false_eq_true, false_and, and_false, if_true, if_false, or_true, true_or, or_false, false_or, Classical.not_not, and_self, Int.reduceAdd, Int.reduceMul, Int.reduceSub, Int.reduceNeg, Int.reduceLT, Int.reduceLE, Int.reduceEq, Int.reduceNe, Int.reduceToNat, Nat.reduceAdd, Nat.reduceMul, Nat.reduceSub, Nat.reduceLeDiff, Nat.reduceLT, Nat.reduceEqDiff, reduceIte, Nat.zero_le, Nat.le_refl, Nat.add_zero, Nat.zero_add, xwT hT, xwV hV]
  refine ⟨fun h => ?_, fun h => ?_⟩
  · exact k1 (if_neg (fun q => h q.1))
  · have hs3 : 0 ≤ s ∧ s < 3 := ⟨h.1, by omega⟩
    have hm := hE.2.2.2.2.2.1 (13 + s) (by omega) (by omega)
    refine ⟨0, 0, ⟨by omega, by omega⟩, xw_isOnShelf hT hV hC ?_⟩
    simp (disch := (first | decide | omega)) only [jxs, hps, jtsw, jlsw, List.length_cons, List.length_nil, true_and, and_true, true_implies, false_implies, implies_true, not_true_eq_false, not_false_eq_true, false_and, and_false, if_true, if_false, or_true, true_or, or_false, false_or, Classical.not_not, and_self, Int.reduceAdd, Int.reduceMul, Int.reduceSub, Int.reduceNeg, Int.reduceLT, Int.reduceLE, Int.reduceEq, Int.reduceNe, Int.reduceToNat, Nat.reduceAdd, Nat.reduceMul, Nat.reduceSub, Nat.reduceLeDiff, Nat.reduceLT, Nat.reduceEqDiff, reduceIte, Nat.zero_le, Nat.le_refl, Nat.add_zero, Nat.zero_add, xwT hT, xwV hV]
    refine ⟨fun h2 => ?_, fun h2 => ?_⟩
    · exact k1 (if_neg (fun q => h2 q.2.2.1.1))
    · refine ⟨0, 0, ⟨by omega, by omega⟩, xw_whereIs hT hV hC ⟨h2.1.1, by omega⟩ ?_⟩
      simp (disch := (first | decide | omega)) only [jxs, hps, jtsw, jlsw, List.length_cons, List.length_nil, true_and, and_true, true_implies, false_implies, implies_true, not_true_eq_false, not_false_eq_true, false_and, and_false, if_true, if_false, or_true, true_or, or_false, false_or, Classical.not_not, and_self, Int.reduceAdd, Int.reduceMul, Int.reduceSub, Int.reduceNeg, Int.reduceLT, Int.reduceLE, Int.reduceEq, Int.reduceNe, Int.reduceToNat, Nat.reduceAdd, Nat.reduceMul, Nat.reduceSub, Nat.reduceLeDiff, Nat.reduceLT, Nat.reduceEqDiff, reduceIte, Nat.zero_le, Nat.le_refl, Nat.add_zero, Nat.zero_add, xwT hT, xwV hV]
      refine ⟨fun h3 => ?_, fun h3 => ?_⟩
      · exact k1 (if_neg (fun q => h3 q.2.2.1.2.1))
      · have h3' : A (46 + 6 * b + 5) = s := by omega
        refine ⟨0, 0, ⟨by omega, by omega⟩, xw_many hT hV hC hs3 ?_⟩
        simp (disch := (first | decide | omega)) only [jxs, hps, jtsw, jlsw, List.length_cons, List.length_nil, true_and, and_true, true_implies, false_implies, implies_true, not_true_eq_false, not_false_eq_true, false_and, and_false, if_true, if_false, or_true, true_or, or_false, false_or, Classical.not_not, and_self, Int.reduceAdd, Int.reduceMul, Int.reduceSub, Int.reduceNeg, Int.reduceLT, Int.reduceLE, Int.reduceEq, Int.reduceNe, Int.reduceToNat, Nat.reduceAdd, Nat.reduceMul, Nat.reduceSub, Nat.reduceLeDiff, Nat.reduceLT, Nat.reduceEqDiff, reduceIte, Nat.zero_le, Nat.le_refl, Nat.add_zero, Nat.zero_add, xwT hT, xwV hV]
        refine ⟨0, 0, ⟨by omega, by omega⟩, xw_in ?_⟩
        simp (disch := (first | decide | omega)) only [jxs, hps, jtsw, jlsw, List.length_cons, List.length_nil, true_and, and_true, true_implies, false_implies, implies_true, not_true_eq_false, not_false_eq_true, false_and, and_false, if_true, if_false, or_true, true_or, or_false, false_or, Classical.not_not, and_self, Int.reduceAdd, Int.reduceMul, Int.reduceSub, Int.reduceNeg, Int.reduceLT, Int.reduceLE, Int.reduceEq, Int.reduceNe, Int.reduceToNat, Nat.reduceAdd, Nat.reduceMul, Nat.reduceSub, Nat.reduceLeDiff, Nat.reduceLT, Nat.reduceEqDiff, reduceIte, Nat.zero_le, Nat.le_refl, Nat.add_zero, Nat.zero_add, xwT hT, xwV hV]
        refine ⟨fun h4 => ?_, fun h4 => ?_⟩
        · exact k1 (if_neg (fun q => h4 q.2.1))
        · refine ⟨0, 0, ⟨by omega, by omega⟩, xw_in ?_⟩
          simp (disch := (first | decide | omega)) only [jxs, hps, jtsw, jlsw, List.length_cons, List.length_nil, true_and, and_true, true_implies, false_implies, implies_true, not_true_eq_false, not_false_eq_true, false_and, and_false, if_true, if_false, or_true, true_or, or_false, false_or, Classical.not_not, and_self, Int.reduceAdd, Int.reduceMul, Int.reduceSub, Int.reduceNeg, Int.reduceLT, Int.reduceLE, Int.reduceEq, Int.reduceNe, Int.reduceToNat, Nat.reduceAdd, Nat.reduceMul, Nat.reduceSub, Nat.reduceLeDiff, Nat.reduceLT, Nat.reduceEqDiff, reduceIte, Nat.zero_le, Nat.le_refl, Nat.add_zero, Nat.zero_add, xwT hT, xwV hV]
          refine ⟨fun h5 => ?_, fun h5 => ?_⟩
          · rw [if_pos ⟨h, h4, ⟨h2, h3', by omega⟩, h5⟩] at hQ
            have lz := lrZ_all hE hs3
            have fd := fst_dec hE hH hs3 (by omega)
            have sa := shs_all (X := X) hE hH hs3
            have mon := elZ_MON (s := shsA A s) h0.1
            have rne := elZ_RN (s := shsA A s) h0.1
            rw [sa.2.1] at mon rne
            unfold gmS gmS2 tbS at hQ
            obtain ⟨pb, pb0, pb1, pb2⟩ := hH.2.2.1 b h2.1.1 (by omega) h2.2
            rw [h3'] at pb1 pb2
            obtain ⟨kb, kb1, kb2⟩ := sa.2.2 pb pb0 pb1
            rw [pb2] at kb2
            have hb := fun o o0 o1 => el_one (el := (elZ (A 0) (shsA A s)).1) (m := A (13 + s)) (b := b) (k := kb) ⟨hm.1, by omega⟩ mon ⟨kb1, kb2⟩ (o := o) ⟨o0, o1⟩
            generalize hel : (elZ (A 0) (shsA A s)).1 = el at *
            have fb := fd.1
            have fe := fd.2
            have hf := fac_bd (n := A (13 + s)) (by omega)
            generalize fstA A s = f0 at *
            refine ⟨0, 0, ⟨by omega, by omega⟩, xw_laysChange hT hV hC ?_⟩
            intro u hu hB
            have hV0 := hV
            have hV := hu.pv hV0
            have hCu := hu.ci hC
            simp (disch := (first | decide | omega)) only [jxs, hps, jtsw, jlsw, List.length_cons, List.length_nil, true_and, and_true, true_implies, false_implies, implies_true, not_true_eq_false, not_false_eq_true, false_and, and_false, if_true, if_false, or_true, true_or, or_false, false_or, Classical.not_not, and_self, Int.reduceAdd, Int.reduceMul, Int.reduceSub, Int.reduceNeg, Int.reduceLT, Int.reduceLE, Int.reduceEq, Int.reduceNe, Int.reduceToNat, Nat.reduceAdd, Nat.reduceMul, Nat.reduceSub, Nat.reduceLeDiff, Nat.reduceLT, Nat.reduceEqDiff, reduceIte, Nat.zero_le, Nat.le_refl, Nat.add_zero, Nat.zero_add, xwT hT, xwV hV]
            refine ⟨0, 0, ⟨by omega, by omega⟩, xw_laysRow hT hV hCu hH hs3 ?_⟩
            intro w hw hr e23 _
            obtain ⟨r1, r2, r3, r4⟩ := hr
            rw [lz.1] at r1 r2 r3 r4
            have hVu := hV
            have hV := hw.pv
            have hCw := hw.ci hCu
            obtain ⟨t1, l1⟩ := PTmv hT (k := 0) (by omega)
            have p1 := PVmv hV (k := 0) (by omega)
            rw [Int.add_zero] at t1 l1 p1
            simp (disch := (first | decide | omega)) only [jxs, hps, jtsw, jlsw, List.length_cons, List.length_nil, true_and, and_true, true_implies, false_implies, implies_true, not_true_eq_false, not_false_eq_true, false_and, and_false, if_true, if_false, or_true, true_or, or_false, false_or, Classical.not_not, and_self, Int.reduceAdd, Int.reduceMul, Int.reduceSub, Int.reduceNeg, Int.reduceLT, Int.reduceLE, Int.reduceEq, Int.reduceNe, Int.reduceToNat, Nat.reduceAdd, Nat.reduceMul, Nat.reduceSub, Nat.reduceLeDiff, Nat.reduceLT, Nat.reduceEqDiff, reduceIte, Nat.zero_le, Nat.le_refl, Nat.add_zero, Nat.zero_add, xwT hT, xwV hV, p1, t1, l1, r1, jcpy_eq]
            (repeat (refine And.intro (by (first | omega | assumption | trivial | (simp only [inI]; omega) | (simp only [inL]; omega) | (refine jb_01) | (exact jb_in))) ?_))
            have j3 : jkK w (upA w 531 (fun i => if 0 ≤ i ∧ i < 0 + A (13 + s) then w 524 (0 + (i - 0)) else w 531 i)) := jkK.up hV hCw.nm (by omega)
            have y31 : EQm (A (13 + s)) ((upA w 531 (fun i => if 0 ≤ i ∧ i < 0 + A (13 + s) then w 524 (0 + (i - 0)) else w 531 i)) 531) (fun x => el (dec (A (13 + s)) f0 x)) := by
              intro i i0 i1
              rw [upA_eq, if_pos ⟨i0, by omega⟩, show 0 + (i - 0) = i by omega, r2 i i0 i1, lz.2 i i0 i1]
              dsimp only
              exact (fe i i0 i1).symm
            have yo : ∀ a, a ≠ 531 → (upA w 531 (fun i => if 0 ≤ i ∧ i < 0 + A (13 + s) then w 524 (0 + (i - 0)) else w 531 i)) a = w a := fun a ha => upA_ne ha
            generalize upA w 531 (fun i => if 0 ≤ i ∧ i < 0 + A (13 + s) then w 524 (0 + (i - 0)) else w 531 i) = y at *
            have jy := ((hu.K hV0).tr hw).tr j3
            have hVw := hV
            have hV := j3.pv
            have hCy := j3.ci hCw
            have hBy : CHB (y 523) A X := by rw [yo 523 (by omega), e23]; exact hB
            have y10 : y 400 10 = A (13 + s) := by rw [yo 400 (by omega)]; exact r1
            refine ⟨0, 0, ⟨by omega, by omega⟩, jmet_le (show 100 + n.toNat + 4 ≤ d + 113 by omega) (Nat.le_refl 0) (Nat.le_refl 0) (xw_plays (wo := wo0 el (A (13 + s)) b) (A := A) (X := X) (el := el) hT h4 rne h5.2 h1 rfl hb n.toNat 0 y f0 100 _ hV hCy hBy y10 (by omega) (by omega) fb (by rw [Int.add_zero]; exact y31) ?_)⟩
            intro z hz
            have jz := jy.tr (hz.K (by omega) hV hCy.nm)
            have e1 : woN (ldJ (tbE (tbl A X) el) (A (13 + s))) (A (13 + s)) (A 1) (n - 1).toNat (wo0 el (A (13 + s)) b) = plV (ldJ (tbE (tbl A X) el) (A (13 + s))) (A (13 + s)) (A 1) (wo0 el (A (13 + s)) b) (n - 1).toNat 1 := by
              have := plV_wo (ld := ldJ (tbE (tbl A X) el) (A (13 + s))) (m := A (13 + s)) (ni := A 1) (wo := wo0 el (A (13 + s)) b) (n - 1).toNat 0
              rw [Nat.zero_add] at this
              exact this
            have e2 : plV (ldJ (tbE (tbl A X) el) (A (13 + s))) (A (13 + s)) (A 1) (wo0 el (A (13 + s)) b) n.toNat 0 f0 = boA (ldJ (tbE (tbl A X) el) (A (13 + s))) (plV (ldJ (tbE (tbl A X) el) (A (13 + s))) (A (13 + s)) (A 1) (wo0 el (A (13 + s)) b) (n - 1).toNat 1) (A (13 + s)) f0 (A 1 % 2) 1 := by
              rw [show n.toNat = (n - 1).toNat + 1 by omega]
              unfold plV
              rw [show (A 1 + 0) % 2 = A 1 % 2 by omega, if_pos (by decide)]
              rfl
            rw [e1] at hQ
            rw [e2]
            obtain ⟨q, q1, q2⟩ := boA_at (ld := ldJ (tbE (tbl A X) el) (A (13 + s))) (wo := plV (ldJ (tbE (tbl A X) el) (A (13 + s))) (A (13 + s)) (A 1) (wo0 el (A (13 + s)) b) (n - 1).toNat 1) (m := A (13 + s)) (n := f0) (kind := A 1 % 2) (le := 1) (by omega)
            have bb : inI (boA (ldJ (tbE (tbl A X) el) (A (13 + s))) (plV (ldJ (tbE (tbl A X) el) (A (13 + s))) (A (13 + s)) (A 1) (wo0 el (A (13 + s)) b) (n - 1).toNat 1) (A (13 + s)) f0 (A 1 % 2) 1) := by
              rw [← e2]
              have := plV_bd (ld := ldJ (tbE (tbl A X) el) (A (13 + s))) (wo := wo0 el (A (13 + s)) b) (m := A (13 + s)) (ni := A 1) ⟨hm.1, by omega⟩ (ldJ_LD ⟨hm.1, by omega⟩) h1.1 (fun o o0 o1 => by
                obtain ⟨x, x1, x2, x3⟩ := hb o o0 o1
                unfold wo0
                rw [pwF_pb x1 x2 x3]
                omega) n.toNat 0 f0 (by omega) fb (by omega)
              exact ⟨by omega, by omega⟩
            generalize boA (ldJ (tbE (tbl A X) el) (A (13 + s))) (plV (ldJ (tbE (tbl A X) el) (A (13 + s))) (A (13 + s)) (A 1) (wo0 el (A (13 + s)) b) (n - 1).toNat 1) (A (13 + s)) f0 (A 1 % 2) 1 = best at *
            have hVy := hV
            have hV := jz.pv
            simp (disch := (first | decide | omega)) only [jxs, hps, jtsw, jlsw, List.length_cons, List.length_nil, true_and, and_true, true_implies, false_implies, implies_true, not_true_eq_false, not_false_eq_true, false_and, and_false, if_true, if_false, or_true, true_or, or_false, false_or, Classical.not_not, and_self, Int.reduceAdd, Int.reduceMul, Int.reduceSub, Int.reduceNeg, Int.reduceLT, Int.reduceLE, Int.reduceEq, Int.reduceNe, Int.reduceToNat, Nat.reduceAdd, Nat.reduceMul, Nat.reduceSub, Nat.reduceLeDiff, Nat.reduceLT, Nat.reduceEqDiff, reduceIte, Nat.zero_le, Nat.le_refl, Nat.add_zero, Nat.zero_add, xwT hT, xwV hV]
            refine ⟨fun h6 => ?_, fun h6 => ?_⟩
            · rw [if_neg h6] at hQ
              refine xw_gm_2 (A := A) (X := X) (el := el) (o := f0) hT h4 rne h5 h1 rfl hb fb bb (A (13 + s)).toNat (-1) z hV (jz.ci hC) (by rw [hz 523 (by omega)]; exact hBy) (by rw [hz 400 (by omega)]; exact y10) (by omega) (by omega) (by rw [hz 531 (by omega)]; exact y31) ⟨q, q1, q2⟩ ?_
              intro x hx
              rw [← mvF_at (A (13 + s)).toNat (-1) ⟨q, by omega, q2⟩ (A (13 + s) + 1).toNat (by omega)]
              exact hQ x (jz.tr hx)
            · rw [if_pos (by omega)] at hQ
              (repeat (refine And.intro (by (first | omega | assumption | trivial | (simp only [inI]; omega) | (simp only [inL]; omega) | (refine jb_01) | (exact jb_in))) ?_))
              exact hQ z jz
          · exact k1 (if_neg (fun q => h5 q.2.2.2))
end XG
