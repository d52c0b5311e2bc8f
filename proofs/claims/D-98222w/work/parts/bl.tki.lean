/-! ===== the class: a token reader made ===== -/
-- MODE N
set_option maxRecDepth 100000
section XG
variable {g : jjG} {d : Nat} {T : jjT} {Q : jjQ} {v : Int → Int → Int}
theorem xw_tkInit {a b m : Int} (t : jok T a 3) (ha : 562 ≤ a) (hQ : Q (.inl none) (upA v a (up1 (up1 (v a) 0 b) 1 m), T)) : jmet g (d + 2) 0 0 MX3_init [vR a, vR b, vI m] (v, T) Q := by
  refine jmet_of (ls := [some (vR a), some (vR b), some (vI m)]) sX3_initO rfl (by decide +kernel) (by decide) rfl (by simp [jent]) ?_
  refine jW_step ?_
  simp (disch := (first | decide | omega)) only [bX3_initO, jxs, hps, jtsw, jlsw, List.length_cons, List.length_nil, true_and, and_true, true_implies, false_implies, implies_true, not_true_eq_false, not_false_eq_true, false_and, and_false, if_true, if_false, or_true, true_or, or_false, false_or, Classical.not_not, and_self, Int.reduceAdd, Int.reduceMul, Int.reduceSub, Int.reduceNeg, Int.reduceLT, Int.reduceLE, Int.reduceEq, Int.reduceNe, Int.reduceToNat, Nat.reduceAdd, Nat.reduceMul, Nat.reduceSub, Nat.reduceLeDiff, Nat.reduceLT, Nat.reduceEqDiff, reduceIte, Nat.zero_le, Nat.le_refl, Nat.add_zero, Nat.zero_add, jx_obj, t]
  (repeat (refine And.intro (by (first | omega | assumption | trivial | (simp only [inI]; omega) | (simp only [inL]; omega) | (refine jb_01) | (exact jb_in))) ?_))
  exact hQ
theorem TKN.mk {a n' : Int} {B : Int → Int} {n : Nat} {f : Int → Int} (t : jok T a 3) (ha : 562 ≤ a) (hf : v a = fun _ => 0) (hn : n ≤ 300) (hb : jok T 521 (-2) ∧ jln T 521 = 300) (hB : ∀ i : Nat, i < n → v 521 i = sgn (B i) ∧ (0 ≤ B i ∧ B i ≤ 255)) (hO : OLD v T) (h2 : 562 ≤ T.2) : TKN (upA v a (up1 (up1 (v a) 0 521) 1 n)) T a B n 0 0 0 := by
  refine ⟨⟨t, ha⟩, ⟨?_, ?_, ?_, ?_, ?_⟩, ?_, ⟨hn, by omega⟩, hb, ?_, hO.fr (fun b b0 b1 => upA_ne (by omega)) (fun _ _ _ => rfl) (by omega), h2⟩
  · rw [upA_eq, up1_ne (by decide), up1_eq]
  · rw [upA_eq, up1_eq]
  · rw [upA_eq, up1_ne (by decide), up1_ne (by decide), hf]; rfl
  · rw [upA_eq, up1_ne (by decide), up1_ne (by decide), hf]
  · rw [upA_eq, up1_ne (by decide), up1_ne (by decide), hf]
  · rw [upA_eq, up1_ne (by decide), up1_ne (by decide), hf]; decide
  · intro i hi
    rw [upA_ne (by omega)]
    exact hB i hi
end XG
