/-! ===== the class: doings read ===== -/
-- MODE N
set_option maxRecDepth 100000
theorem TXI.dg {v y : Int → Int → Int} {T T3 : jjT} {X N a : Int} {cs : List clR} {c c' : Nat} {cl : clR} (h : TXI v T X N cs c) (h4 : 204 ≤ cl.1) (hd0 : DOB v T (fun b => X + 2 < b ∧ b ≠ v (X + 2) 1) a cl cs.length)
    (y1 : T.2 ≤ T3.2) (y2 : ∀ b, 0 < b → b < T.2 → T3.1 b = T.1 b) (y3 : ∀ b, 0 < b → b < T.2 → b ≠ X + 2 → (b ≠ v (X + 2) 1 ∨ b < 400) → y b = v b) (y4 : GLS y T3 (X + 2) (((dgC 0 cs).length : Int) + 1) c') (y5 : y (X + 2) 1 = v (X + 2) 1 ∨ y (X + 2) 1 = T.2) (y6 : ∀ i, 0 ≤ i → i < ((dgC 0 cs).length : Int) → aGet (y, T3) (X + 2) i = aGet (v, T) (X + 2) i) (y7 : aGet (y, T3) (X + 2) ((dgC 0 cs).length : Int) = a) : TXI y T3 X N (cs ++ [cl]) c' := by
  obtain ⟨⟨⟨a1, a2⟩, ⟨b1, b2, b3⟩, ⟨c1, c2⟩, G, ee, nn⟩, ⟨l1, l2, l3, l4⟩, hd⟩ := h
  have r1 := G.1.2.2.2.1
  have g1 := G.1.1
  dsimp only at g1 r1
  have a12 := a1.2.1
  have c12 := c1.2.1
  have g12 := g1.2.1
  have nE : v (X + 2) 1 ≠ X := (jok_ne a1 r1 (by decide)).symm
  have eX : y X = v X := y3 X (by omega) a12 (by omega) (Or.inl nE.symm)
  have e1 : y (X + 1) = v (X + 1) := y3 _ c1.1 c12 (by omega) (by omega)
  have j : ∀ b c, jok T b c → jok T3 b c := fun b c q => ⟨q.1, by have := q.2.1; omega, by rw [y2 b q.1 q.2.1]; exact q.2.2⟩
  have fr : ∀ b, 0 < b → b < T.2 → fzX v X b → fzX y X b ∧ y b = v b := fun b b0 b1 b2 => ⟨by unfold fzX at b2 ⊢; omega, y3 b b0 b1 (by unfold fzX at b2; omega) (by unfold fzX at b2; omega)⟩
  have ed : dgC 0 (cs ++ [cl]) = dgC 0 cs ++ [cs.length] := by rw [dgC_app, if_pos h4, Nat.zero_add]
  have mem : ∀ q, q ∈ cs ++ [cl] → q ∈ cs ∨ q = cl := fun q h => by
    rcases List.mem_append.1 h with h | h
    · exact Or.inl h
    · exact Or.inr (List.mem_singleton.1 h)
  refine ⟨⟨⟨j _ _ a1, a2⟩, by rw [eX]; exact ⟨b1, b2, b3⟩, ⟨j _ _ c1, by unfold jln; rw [y2 _ c1.1 c12]; exact c2⟩, ?_, by omega, nn⟩, ⟨?_, ?_, ?_, ?_⟩, ?_⟩
  · rw [ed, List.length_append]
    exact y4
  · intro l l0 l5
    rw [e1]
    refine ⟨fun q hc h1 h2 => ?_, fun hno => (l1 l l0 l5).2 (fun q hc => hno q (List.mem_append_left _ hc))⟩
    rcases mem q hc with m | m
    · exact ((l1 l l0 l5).1 q m h1 h2).mo fr y2 y1
    · rw [m] at h1; omega
  · rw [eX]
    refine ⟨fun q hc h1 => ?_, fun hno => l2.2 (fun q hc => hno q (List.mem_append_left _ hc))⟩
    rcases mem q hc with m | m
    · exact (l2.1 q m h1).mo fr y2 y1
    · rw [m] at h1; omega
  · rw [eX]
    refine ⟨fun q hc h1 => ?_, fun hno => l3.2 (fun q hc => hno q (List.mem_append_left _ hc))⟩
    rcases mem q hc with m | m
    · exact (l3.1 q m h1).mo fr y2 y1
    · rw [m] at h1; omega
  · rw [eX]
    refine ⟨fun q hc h1 => ?_, fun hno => l4.2 (fun q hc => hno q (List.mem_append_left _ hc))⟩
    rcases mem q hc with m | m
    · exact l4.1 q m h1
    · rw [m] at h1; omega
  · intro i hi
    rw [ed] at hi ⊢
    rw [List.length_append] at hi
    simp only [List.length_cons, List.length_nil] at hi
    by_cases q : i < (dgC 0 cs).length
    · obtain ⟨jj, q2, j1, j2, j3⟩ := hd i q
      refine ⟨jj, q2, by rw [List.getElem?_append_left q]; exact j1, by rw [List.getElem?_append_left (List.getElem?_eq_some_iff.1 j2).1]; exact j2, ?_⟩
      rw [y6 i (by omega) (by omega)]
      obtain ⟨z1, z2, z3, z4⟩ := j3
      have ez := fr _ z1.1 z1.2.1 z2
      exact ⟨j _ _ z1, ez.1, z3, by rw [ez.2]; exact z4⟩
    · have ei : i = (dgC 0 cs).length := by omega
      rw [ei, y7]
      refine ⟨cs.length, cl, by rw [List.getElem?_append_right (Nat.le_refl _)]; simp, by rw [List.getElem?_append_right (Nat.le_refl _)]; simp, ?_⟩
      obtain ⟨z1, z2, z3, z4⟩ := hd0
      have ez := fr _ z1.1 z1.2.1 (Or.inr z2)
      exact ⟨j _ _ z1, ez.1, z3, by rw [ez.2]; exact z4⟩
section XG
variable {g : jjG} {d : Nat} {tk : Int} {B : Int → Int} {n : Nat} {kd N : Int} {Q : jjQ}
theorem DOB_nw {w : Int → Int → Int} {T : jjT} {t a s x y z : Int} {N : Nat} {cl : clR} (t0 : jok T a 13) (ht : t ≤ a) (h5 : 562 ≤ a) (hs : s = cl.1) (h1 : 204 ≤ cl.1 ∧ cl.1 ≤ 207 → x = cl.2.1) (h2 : cl.1 = 205 ∨ cl.1 = 207 → y = cl.2.2.1) (h3 : cl.1 = 207 → z = cl.2.2.2.1) : DOB (upA w a (up1 (up1 (up1 (up1 (up1 (w a) 0 s) 1 x) 2 y) 3 z) 4 N)) T (fun b => t ≤ b) a cl N := by
  refine ⟨t0, ht, h5, ?_, ?_, fun q => ?_, fun q => ?_, fun q => ?_⟩
  · rw [upA_eq, up1_ne (by decide), up1_ne (by decide), up1_ne (by decide), up1_ne (by decide), up1_eq]; exact hs
  · rw [upA_eq, up1_eq]
  · rw [upA_eq, up1_ne (by decide), up1_ne (by decide), up1_ne (by decide), up1_eq]; exact h1 q
  · rw [upA_eq, up1_ne (by decide), up1_ne (by decide), up1_eq]; exact h2 q
  · rw [upA_eq, up1_ne (by decide), up1_eq]; exact h3 q
theorem xw_doing_1 {k : Nat} {N : Nat} {v : Int → Int → Int} {T : jjT} {lo hi : Int} (hkd : (kd = 204 ∧ lo = 1 ∧ hi = 99) ∨ (kd = 206 ∧ lo = 0 ∧ hi = 9)) (hN : N ≤ 24) (hS : TKS v T tk B n k 0 kd) (hE : ∀ f p, nm1P B n kd lo hi k = .inl (f, p) → qEr Q v T tk f p)
    (hQ : ∀ x, nm1P B n kd lo hi k = .inr x → ∀ w T' a, GRT tk v T w T' → TKS w T' tk B n x.2 0 kd → DOB w T' (fun b => T.2 ≤ b) a x.1 N → Q (.inl (some (vR a))) (w, T')) : jmet g (d + 12) 2 13 MX3_doing [vR tk, vI N] (v, T) Q := by
  obtain ⟨⟨t0, t2, t3, h2⟩, ⟨f3, f4, f6, f7⟩, ⟨hk, hn⟩, hO, f5⟩ := hS.st
  have gN : GRT tk v T (upA v T.2 (fun _ => 0)) (nt T 13 5) := GRT.nt
  have SN := hS.gr gN (upA_ne (by omega))
  have tD : jok (nt T 13 5) T.2 13 := nt_ok (by omega)
  have tk1 : ∀ c n, jok (nt T c n) tk 3 := fun _ _ => jok_nt t0
  unfold nm1P at hE hQ
  have numb : jmet g (d + 11) 1 8 MX3_number [vR tk, vI lo, vI hi] (upA v T.2 (fun _ => 0), nt T 13 5) (jres (g, d + 11, 2, 13, Q) (ji_const (-1) (ji_const (-1) (ji_iload 1 (ji_callI (g, d + 11, 2, 13, Q) MX13_init 6 (ji_areturn (g, d + 11, 2, 13, Q)))))) [some (vR tk), some (vI N), some (vI kd), none, none] [vI kd, vR T.2, vR T.2] (1 + 1) (5 + 8)) := by
    refine xw_number SN (fun _ => ⟨Nat.le_refl _, Nat.le_refl _⟩) (fun f p hfp => ?_) (fun x hx => ?_)
    · rw [hfp] at hE
      intro w2 T2 a q1 q2 q3 q4 q5
      simp (disch := (first | decide | omega)) only [jxs, hps, jtsw, jlsw, List.length_cons, List.length_nil, true_and, and_true, true_implies, false_implies, implies_true, not_true_eq_false, not_false_eq_true, false_and, and_false, if_true, if_false, or_true, true_or, or_false, false_or, Classical.not_not, and_self, Int.reduceAdd, Int.reduceMul, Int.reduceSub, Int.reduceNeg, Int.reduceLT, Int.reduceLE, Int.reduceEq, Int.reduceNe, Int.reduceToNat, Nat.reduceAdd, Nat.reduceMul, Nat.reduceSub, Nat.reduceLeDiff, Nat.reduceLT, Nat.reduceEqDiff, reduceIte, Nat.zero_le, Nat.le_refl, Nat.add_zero, Nat.zero_add]
      exact hE f p rfl w2 T2 a (gN.tr q1) q2 q3 q4 q5
    · rw [hx] at hQ
      intro w w1 w2
      have gw : GRT tk v T w (nt T 13 5) := gN.tr (GRT.of w1)
      simp (disch := (first | decide | omega)) only [jxs, hps, jtsw, jlsw, List.length_cons, List.length_nil, true_and, and_true, true_implies, false_implies, implies_true, not_true_eq_false, not_false_eq_true, false_and, and_false, if_true, if_false, or_true, true_or, or_false, false_or, Classical.not_not, and_self, Int.reduceAdd, Int.reduceMul, Int.reduceSub, Int.reduceNeg, Int.reduceLT, Int.reduceLE, Int.reduceEq, Int.reduceNe, Int.reduceToNat, Nat.reduceAdd, Nat.reduceMul, Nat.reduceSub, Nat.reduceLeDiff, Nat.reduceLT, Nat.reduceEqDiff, reduceIte, Nat.zero_le, Nat.le_refl, Nat.add_zero, Nat.zero_add]
      (repeat (refine And.intro (by (first | omega | assumption | trivial | (simp only [inI]; omega) | (simp only [inL]; omega) | (refine jb_01) | (exact jb_in))) ?_))
      refine ⟨0, 0, ⟨by omega, by omega⟩, xj_doing (d := d + 8) tD h2 ?_⟩
      simp (disch := (first | decide | omega)) only [jxs, hps, jtsw, jlsw, List.length_cons, List.length_nil, true_and, and_true, true_implies, false_implies, implies_true, not_true_eq_false, not_false_eq_true, false_and, and_false, if_true, if_false, or_true, true_or, or_false, false_or, Classical.not_not, and_self, Int.reduceAdd, Int.reduceMul, Int.reduceSub, Int.reduceNeg, Int.reduceLT, Int.reduceLE, Int.reduceEq, Int.reduceNe, Int.reduceToNat, Nat.reduceAdd, Nat.reduceMul, Nat.reduceSub, Nat.reduceLeDiff, Nat.reduceLT, Nat.reduceEqDiff, reduceIte, Nat.zero_le, Nat.le_refl, Nat.add_zero, Nat.zero_add]
      exact hQ _ rfl _ _ _ (gw.wr (Or.inl (Int.le_refl _))) (w2.fr (fun b b0 b1 => upA_ne (by omega)) (fun _ _ _ => rfl) (Int.le_refl _) (upA_ne (by omega))) (DOB_nw tD (Int.le_refl _) h2 rfl (fun _ => rfl) (fun q => by exfalso; dsimp only at q; omega) (fun q => by exfalso; dsimp only at q; omega))
  refine jmet_of (ls := [some (vR tk), some (vI N), none, none, none]) sX3_doing rfl (by decide +kernel) (by decide) rfl (by simp [jent]) ?_
  rcases hkd with ⟨e1, e2, e3⟩ | ⟨e1, e2, e3⟩
  · subst e1 e2 e3
    refine jW_step ?_
    simp (disch := (first | decide | omega)) only [bX3_doing, jxs, hps, jtsw, jlsw, List.length_cons, List.length_nil, true_and, and_true, true_implies, false_implies, implies_true, not_true_eq_false, not_false_eq_true, false_and, and_false, if_true, if_false, or_true, true_or, or_false, false_or, Classical.not_not, and_self, Int.reduceAdd, Int.reduceMul, Int.reduceSub, Int.reduceNeg, Int.reduceLT, Int.reduceLE, Int.reduceEq, Int.reduceNe, Int.reduceToNat, Nat.reduceAdd, Nat.reduceMul, Nat.reduceSub, Nat.reduceLeDiff, Nat.reduceLT, Nat.reduceEqDiff, reduceIte, Nat.zero_le, Nat.le_refl, Nat.add_zero, Nat.zero_add, t0, f7, jnew_eq, nt_2, tk1]
    exact ⟨⟨1, 8, ⟨by omega, by omega⟩, numb⟩, fun h => (by exfalso; omega)⟩
  · subst e1 e2 e3
    refine jW_step ?_
    simp (disch := (first | decide | omega)) only [bX3_doing, jxs, hps, jtsw, jlsw, List.length_cons, List.length_nil, true_and, and_true, true_implies, false_implies, implies_true, not_true_eq_false, not_false_eq_true, false_and, and_false, if_true, if_false, or_true, true_or, or_false, false_or, Classical.not_not, and_self, Int.reduceAdd, Int.reduceMul, Int.reduceSub, Int.reduceNeg, Int.reduceLT, Int.reduceLE, Int.reduceEq, Int.reduceNe, Int.reduceToNat, Nat.reduceAdd, Nat.reduceMul, Nat.reduceSub, Nat.reduceLeDiff, Nat.reduceLT, Nat.reduceEqDiff, reduceIte, Nat.zero_le, Nat.le_refl, Nat.add_zero, Nat.zero_add, t0, f7, jnew_eq, nt_2, tk1]
    exact ⟨⟨1, 8, ⟨by omega, by omega⟩, numb⟩, fun h => (by exfalso; omega)⟩
theorem xw_doing_0 {k : Nat} {N : Nat} {v : Int → Int → Int} {T : jjT} (hkd : kd = 208 ∨ kd = 209) (hN : N ≤ 24) (hS : TKS v T tk B n k 0 kd)
    (hQ : ∀ w T' a, GRT tk v T w T' → TKS w T' tk B n k 0 kd → DOB w T' (fun b => T.2 ≤ b) a (kd, 0, 0, 0, []) N → Q (.inl (some (vR a))) (w, T')) : jmet g (d + 12) 2 13 MX3_doing [vR tk, vI N] (v, T) Q := by
  obtain ⟨⟨t0, t2, t3, h2⟩, ⟨f3, f4, f6, f7⟩, ⟨hk, hn⟩, hO, f5⟩ := hS.st
  have gN : GRT tk v T (upA v T.2 (fun _ => 0)) (nt T 13 5) := GRT.nt
  have tD : jok (nt T 13 5) T.2 13 := nt_ok (by omega)
  have fin : jmet g (d + 11) 0 0 MX13_init [vR T.2, vI kd, vI (-1), vI (-1), vI (-1), vI N] (upA v T.2 (fun _ => 0), nt T 13 5) (jres (g, d + 11, 2, 13, Q) (ji_areturn (g, d + 11, 2, 13, Q)) [some (vR tk), some (vI N), some (vI kd), none, none] [vR T.2] (1 + 0) (5 + 0)) := by
    refine xj_doing (d := d + 8) tD h2 ?_
    simp (disch := (first | decide | omega)) only [jxs, hps, jtsw, jlsw, List.length_cons, List.length_nil, true_and, and_true, true_implies, false_implies, implies_true, not_true_eq_false, not_false_eq_true, false_and, and_false, if_true, if_false, or_true, true_or, or_false, false_or, Classical.not_not, and_self, Int.reduceAdd, Int.reduceMul, Int.reduceSub, Int.reduceNeg, Int.reduceLT, Int.reduceLE, Int.reduceEq, Int.reduceNe, Int.reduceToNat, Nat.reduceAdd, Nat.reduceMul, Nat.reduceSub, Nat.reduceLeDiff, Nat.reduceLT, Nat.reduceEqDiff, reduceIte, Nat.zero_le, Nat.le_refl, Nat.add_zero, Nat.zero_add]
    have e : upA v T.2 (up1 (up1 (up1 (up1 (up1 (fun _ => 0) 0 kd) 1 (-1)) 2 (-1)) 3 (-1)) 4 (N : Int)) = upA (upA v T.2 (fun _ => 0)) T.2 (up1 (up1 (up1 (up1 (up1 ((upA v T.2 (fun _ => 0)) T.2) 0 kd) 1 (-1)) 2 (-1)) 3 (-1)) 4 (N : Int)) := by rw [upA_same, upA_eq]
    rw [e]
    have gF := gN.wr (f := up1 (up1 (up1 (up1 (up1 ((upA v T.2 (fun _ => 0)) T.2) 0 kd) 1 (-1)) 2 (-1)) 3 (-1)) 4 (N : Int)) (Or.inl (Int.le_refl T.2))
    exact hQ _ _ _ gF (hS.gr gF (by rw [upA_ne (by omega), upA_ne (by omega)])) (DOB_nw tD (Int.le_refl _) h2 rfl (fun q => by exfalso; dsimp only at q; omega) (fun q => by exfalso; dsimp only at q; omega) (fun q => by exfalso; dsimp only at q; omega))
  refine jmet_of (ls := [some (vR tk), some (vI N), none, none, none]) sX3_doing rfl (by decide +kernel) (by decide) rfl (by simp [jent]) ?_
  rcases hkd with e1 | e1
  · subst e1
    refine jW_step ?_
    simp (disch := (first | decide | omega)) only [bX3_doing, jxs, hps, jtsw, jlsw, List.length_cons, List.length_nil, true_and, and_true, true_implies, false_implies, implies_true, not_true_eq_false, not_false_eq_true, false_and, and_false, if_true, if_false, or_true, true_or, or_false, false_or, Classical.not_not, and_self, Int.reduceAdd, Int.reduceMul, Int.reduceSub, Int.reduceNeg, Int.reduceLT, Int.reduceLE, Int.reduceEq, Int.reduceNe, Int.reduceToNat, Nat.reduceAdd, Nat.reduceMul, Nat.reduceSub, Nat.reduceLeDiff, Nat.reduceLT, Nat.reduceEqDiff, reduceIte, Nat.zero_le, Nat.le_refl, Nat.add_zero, Nat.zero_add, t0, f7, jnew_eq, nt_2]
    exact fun _ => ⟨by omega, 0, 0, ⟨by omega, by omega⟩, fin⟩
  · subst e1
    refine jW_step ?_
    simp (disch := (first | decide | omega)) only [bX3_doing, jxs, hps, jtsw, jlsw, List.length_cons, List.length_nil, true_and, and_true, true_implies, false_implies, implies_true, not_true_eq_false, not_false_eq_true, false_and, and_false, if_true, if_false, or_true, true_or, or_false, false_or, Classical.not_not, and_self, Int.reduceAdd, Int.reduceMul, Int.reduceSub, Int.reduceNeg, Int.reduceLT, Int.reduceLE, Int.reduceEq, Int.reduceNe, Int.reduceToNat, Nat.reduceAdd, Nat.reduceMul, Nat.reduceSub, Nat.reduceLeDiff, Nat.reduceLT, Nat.reduceEqDiff, reduceIte, Nat.zero_le, Nat.le_refl, Nat.add_zero, Nat.zero_add, t0, f7, jnew_eq, nt_2]
    exact fun _ => ⟨by omega, 0, 0, ⟨by omega, by omega⟩, fin⟩
end XG
