/-! ===== the class: a text made ===== -/
-- MODE N
set_option maxRecDepth 100000
section XG
variable {g : jjG} {d : Nat} {T : jjT} {Q : jjQ} {v : Int → Int → Int}
theorem xw_txInit {X : Int} (t : jok T X 4) (hX : 562 ≤ X) (hX2 : T.2 = X + 1) (hz : v X = fun _ => 0) (hO : jok T 7 (-8) ∧ jln T 7 = 0) (hQ : ∀ w, (∀ b, 0 < b → b < T.2 → b ≠ X → w b = v b) → TXI w (nt (nt T (-7) 6) 14 3) X 0 [] 0 → Q (.inl none) (w, nt (nt T (-7) 6) 14 3)) : jmet g (d + 7) 2 9 MX4_init [vR X] (v, T) Q := by
  have h2 : 0 < T.2 := by omega
  have h2' : 0 < (nt T (-7) 6).2 := by show 0 < T.2 + 1; omega
  have t1 : jok (nt T (-7) 6) T.2 (-7) := nt_ok h2
  have t2 : jok (nt (nt T (-7) 6) 14 3) (T.2 + 1) 14 := nt_ok h2'
  have tx1 : jok (nt T (-7) 6) X 4 := jok_nt t
  have tx2 : jok (nt (nt T (-7) 6) 14 3) X 4 := jok_nt tx1
  have t12 : jok (nt (nt T (-7) 6) 14 3) T.2 (-7) := jok_nt t1
  have o1 : jok (nt (nt T (-7) 6) 14 3) 7 (-8) := jok_nt (jok_nt hO.1)
  have o2 : jln (nt (nt T (-7) 6) 14 3) 7 = 0 := by rw [jln_nt (jok_nt hO.1), jln_nt hO.1]; exact hO.2
  have o3 : jln (nt (nt T (-7) 6) 14 3) T.2 = 6 := by rw [jln_nt t1]; exact nt_ln
  refine jmet_of (ls := [some (vR X)]) sX4_initO rfl (by decide +kernel) (by decide) rfl (by simp [jent]) ?_
  refine jW_step ?_
  simp (disch := (first | decide | omega)) only [bX4_initO, jxs, hps, jtsw, jlsw, List.length_cons, List.length_nil, true_and, and_true, true_implies, false_implies, implies_true, not_true_eq_false, not_false_eq_true, false_and, and_false, if_true, if_false, or_true, true_or, or_false, false_or, Classical.not_not, and_self, Int.reduceAdd, Int.reduceMul, Int.reduceSub, Int.reduceNeg, Int.reduceLT, Int.reduceLE, Int.reduceEq, Int.reduceNe, Int.reduceToNat, Nat.reduceAdd, Nat.reduceMul, Nat.reduceSub, Nat.reduceLeDiff, Nat.reduceLT, Nat.reduceEqDiff, reduceIte, Nat.zero_le, Nat.le_refl, Nat.add_zero, Nat.zero_add, jx_obj, jnew_eq, nt_2, tx1]
  (repeat (refine And.intro (by (first | omega | assumption | trivial | (simp only [inI]; omega) | (simp only [inL]; omega) | (refine jb_01) | (exact jb_in))) ?_))
  refine ⟨0, 0, ⟨by omega, by omega⟩, xj_linit t2 (by omega) ?_⟩
  simp (disch := (first | decide | omega)) only [jxs, hps, jtsw, jlsw, List.length_cons, List.length_nil, true_and, and_true, true_implies, false_implies, implies_true, not_true_eq_false, not_false_eq_true, false_and, and_false, if_true, if_false, or_true, true_or, or_false, false_or, Classical.not_not, and_self, Int.reduceAdd, Int.reduceMul, Int.reduceSub, Int.reduceNeg, Int.reduceLT, Int.reduceLE, Int.reduceEq, Int.reduceNe, Int.reduceToNat, Nat.reduceAdd, Nat.reduceMul, Nat.reduceSub, Nat.reduceLeDiff, Nat.reduceLT, Nat.reduceEqDiff, reduceIte, Nat.zero_le, Nat.le_refl, Nat.add_zero, Nat.zero_add, jnew_eq, nt_2, tx2]
  (repeat (refine And.intro (by (first | omega | assumption | trivial | (simp only [inI]; omega) | (simp only [inL]; omega) | (refine jb_01) | (exact jb_in))) ?_))
  refine hQ _ ?_ ⟨⟨⟨tx2, hX⟩, ⟨?_, ?_, ?_⟩, ⟨by rw [← hX2]; exact t12, by rw [← hX2]; exact o3⟩, ?_, ?_, by omega, by omega⟩, ⟨?_, ?_, ?_, ?_⟩, ?_⟩
  · intro b b0 b1 b2
    simp (disch := (first | decide | omega)) only [upA_ne, upA_eq]
  · simp (disch := (first | decide | omega)) only [upA_ne, upA_eq, up1_eq, up1_ne]
    omega
  · simp (disch := (first | decide | omega)) only [upA_ne, upA_eq, up1_eq, up1_ne]
    omega
  · simp (disch := (first | decide | omega)) only [upA_ne, upA_eq, up1_eq, up1_ne]
    rw [hz]
  · rw [show X + 2 = T.2 + 1 by omega]
    have e0 : ((dgC 0 []).length : Int) = 0 := rfl
    rw [e0]
    refine ⟨⟨t2, ?_, by omega, ?_, ?_⟩, ?_, by omega, Or.inl ⟨rfl, ?_⟩, ?_, by omega, by omega⟩ <;> (try dsimp only) <;> simp (disch := (first | decide | omega)) only [upA_ne, upA_eq, up1_eq, up1_ne, o1, o2] <;> (first | rfl | (simp [dgC]) | omega)
  · rw [show X + 2 = T.2 + 1 by omega]
    refine Or.inl ?_
    simp (disch := (first | decide | omega)) only [upA_ne, upA_eq, up1_eq, up1_ne]
  · intro l l0 l1
    refine ⟨fun cl hc => absurd hc (by simp), fun _ => ?_⟩
    rw [← hX2]
    simp (disch := (first | decide | omega)) only [upA_ne, upA_eq, up1_eq, up1_ne]
  · refine ⟨fun cl hc => absurd hc (by simp), fun _ => ?_⟩
    simp (disch := (first | decide | omega)) only [upA_ne, upA_eq, up1_eq, up1_ne]
    rw [hz]
  · refine ⟨fun cl hc => absurd hc (by simp), fun _ => ?_⟩
    simp (disch := (first | decide | omega)) only [upA_ne, upA_eq, up1_eq, up1_ne]
    rw [hz]
  · refine ⟨fun cl hc => absurd hc (by simp), fun _ => ?_⟩
    simp (disch := (first | decide | omega)) only [upA_ne, upA_eq, up1_eq, up1_ne]
    rw [hz]
  · intro i hi
    exact absurd hi (by simp [dgC])
end XG
/-- the number of clauses is written -/
theorem TXI.cn {v : Int → Int → Int} {T : jjT} {X N z : Int} {cs : List clR} {c : Nat} (h : TXI v T X N cs c) (hz : 0 ≤ z ∧ z ≤ 24) : TXI (upA v X (up1 (v X) 4 z)) T X z cs c := by
  obtain ⟨⟨⟨a1, a2⟩, ⟨b1, b2, b3⟩, ⟨c1, c2⟩, G, ee, nn⟩, ⟨l1, l2, l3, l4⟩, hd⟩ := h
  have g1 := G.1.1
  have r1 := G.1.2.2.2.1
  dsimp only at g1 r1
  have e1 : (upA v X (up1 (v X) 4 z)) (X + 1) = v (X + 1) := upA_ne (by omega)
  have e2 : (upA v X (up1 (v X) 4 z)) (X + 2) = v (X + 2) := upA_ne (by omega)
  have eX : (upA v X (up1 (v X) 4 z)) X = up1 (v X) 4 z := upA_eq
  have fe : fzX (upA v X (up1 (v X) 4 z)) X = fzX v X := by unfold fzX; rw [e2]
  have fr : ∀ b, 0 < b → b < T.2 → fzX v X b → fzX (upA v X (up1 (v X) 4 z)) X b ∧ (upA v X (up1 (v X) 4 z)) b = v b := fun b b0 b1 b2 => ⟨by rw [fe]; exact b2, upA_ne (by unfold fzX at b2; omega)⟩
  refine ⟨⟨⟨a1, a2⟩, ⟨by rw [eX, up1_ne (by omega)]; exact b1, by rw [eX, up1_ne (by omega)]; exact b2, by rw [eX, up1_eq]⟩, ⟨c1, c2⟩, ?_, by rw [e2]; exact ee, hz⟩, ⟨?_, ?_, ?_, ?_⟩, ?_⟩
  · exact G.fr e2 (fun _ _ _ => rfl) (Int.le_refl _)
  · intro l l0 l5
    rw [e1]
    exact ⟨fun cl hc h1 h2 => ((l1 l l0 l5).1 cl hc h1 h2).mo fr (fun _ _ _ => rfl) (Int.le_refl _), (l1 l l0 l5).2⟩
  · rw [eX, up1_ne (by omega)]
    exact ⟨fun cl hc h1 => (l2.1 cl hc h1).mo fr (fun _ _ _ => rfl) (Int.le_refl _), l2.2⟩
  · rw [eX, up1_ne (by omega)]
    exact ⟨fun cl hc h1 => (l3.1 cl hc h1).mo fr (fun _ _ _ => rfl) (Int.le_refl _), l3.2⟩
  · rw [eX, up1_ne (by omega)]
    exact l4
  · intro i hi
    obtain ⟨j, cl, j1, j2, j3⟩ := hd i hi
    have ge : aGet (upA v X (up1 (v X) 4 z), T) (X + 2) i = aGet (v, T) (X + 2) i := by
      unfold aGet
      dsimp only
      rw [e2, upA_ne (a := X) (b := v (X + 2) 1) (by omega)]
    refine ⟨j, cl, j1, j2, ?_⟩
    rw [ge]
    obtain ⟨z1, z2, z3, z4⟩ := j3
    have ez := fr _ z1.1 z1.2.1 z2
    exact ⟨z1, ez.1, z3, by rw [ez.2]; exact z4⟩
theorem TXI.has {v : Int → Int → Int} {T : jjT} {X N : Int} {cs : List clR} {c : Nat} (h : TXI v T X N cs c) : (¬ v X 1 = 0 ↔ ∃ c ∈ cs, c.1 = 201) ∧ (¬ v X 2 = 0 ↔ ∃ c ∈ cs, c.1 = 202) ∧ (0 < v X 3 ↔ ∃ c ∈ cs, c.1 = 203) := by
  obtain ⟨_, ⟨l1, l2, l3, l4⟩, _⟩ := h
  refine ⟨⟨fun q => Decidable.byContradiction (fun q2 => q (l2.2 (fun cl hc e => q2 ⟨cl, hc, e⟩))), fun ⟨cl, hc, e⟩ q => ?_⟩, ⟨fun q => Decidable.byContradiction (fun q2 => q (l3.2 (fun cl hc e => q2 ⟨cl, hc, e⟩))), fun ⟨cl, hc, e⟩ q => ?_⟩, ⟨fun q => Decidable.byContradiction (fun q2 => ?_), fun ⟨cl, hc, e⟩ => ?_⟩⟩
  · have := (l2.1 cl hc e).at.2
    rw [q] at this
    obtain ⟨_, _, q6⟩ := this
    exact absurd q6.1 (by decide)
  · have := (l3.1 cl hc e).at.2
    rw [q] at this
    obtain ⟨_, _, q6⟩ := this
    exact absurd q6.1 (by decide)
  · have := l4.2 (fun cl hc e => q2 ⟨cl, hc, e⟩)
    omega
  · have := l4.1 cl hc e
    omega
