/-! ===== the reference: round, told ===== -/
set_option maxRecDepth 100000
theorem rnF_cg {f f' : Int → Int} : ∀ n : Nat, EQm n f f' → rnF f n = rnF f' n
  | 0, _ => rfl
  | n + 1, h => by
    unfold rnF
    rw [rnF_cg n (fun i h0 h1 => h i h0 (by omega)), h n (by omega) (by omega)]
theorem roL_cg {N m ni : Int} {c c' : Int → Int} (hc : TAG N c c') (hm : 0 ≤ m) : ∀ (r : Nat) (k : Int) (f f' st st' : Int → Int), EQm m f f' → RN f m N → EQm k st st' → 0 ≤ k →
    (roL c m ni r k f st = none ∧ roL c' m ni r k f' st' = none) ∨ ∃ s s', roL c m ni r k f st = some s ∧ roL c' m ni r k f' st' = some s' ∧ EQm (k + r) s s'
  | 0, k, f, f', st, st', hf, hr, hs, hk => Or.inr ⟨st, st', rfl, rfl, fun i h0 h1 => hs i h0 (by omega)⟩
  | r + 1, k, f, f', st, st', hf, hr, hs, hk => by
    have e : clmR c f m = clmR c' f' m := clmF_cg hc hf hr 10 0 (by omega)
    unfold roL
    rw [e]
    by_cases h : clmR c' f' m = 0
    · rw [if_pos h, if_pos h]
      have q := nitR_cg (kind := (ni + k) % 2) (by omega) hc hf hr
      have er : rnF f m.toNat = rnF f' m.toNat := rnF_cg _ (fun i h0 h1 => hf i h0 (by omega))
      rw [er]
      have t := roL_cg hc hm r (k + 1) _ _ (up1 st k (rnF f' m.toNat)) (up1 st' k (rnF f' m.toNat)) q.1 q.2 (fun i h0 h1 => ?_) (by omega) (ni := ni)
      · rcases t with t | ⟨s, s', t1, t2, t3⟩
        · exact Or.inl t
        · exact Or.inr ⟨s, s', t1, t2, fun i h0 h1 => t3 i h0 (by omega)⟩
      · by_cases e2 : i = k
        · subst e2; rw [up1_eq, up1_eq]
        · rw [up1_ne e2, up1_ne e2]; exact hs i h0 (by omega)
    · rw [if_neg h, if_neg h]
      exact Or.inl ⟨rfl, rfl⟩
theorem inF_cg {st st' : Int → Int} (h : EQm 501 st st') {n : Int} (hn : 0 ≤ n ∧ n ≤ 500) : ∀ (r : Nat) (e : Int), 2 ≤ e → inF st n r e = inF st' n r e
  | 0, _, _ => rfl
  | r + 1, e, he => by
    unfold inF
    by_cases q : 500 < n + e
    · rw [if_pos q, if_pos q]
    · rw [if_neg q, if_neg q, h n (by omega) (by omega), h (n + e) (by omega) (by omega), inF_cg h hn r (e + 2) (by omega)]
theorem ouF_cg {st st' : Int → Int} (h : EQm 501 st st') {len : Int} : ∀ (r : Nat) (n : Int), 0 ≤ n → n + r = 501 → ouF st len r n = ouF st' len r n
  | 0, _, _, _ => rfl
  | r + 1, n, h0, h1 => by
    unfold ouF
    rw [inF_cg h (by omega) 260 2 (by omega), ouF_cg h r (n + 1) (by omega) (by omega)]
def rouA (A X : Int → Int) (s len : Int) : Int := if 0 ≤ s ∧ s ≤ 2 then (match roL (tbl A X) (lrZ A s (-1)).2 (A 1) 501 0 (lrZ A s (-1)).1 (fun _ => 0) with
  | none => -1
  | some st => ouF st len 501 0) else -1
/-- nights to come have been worked out -/
def jkv (v w : Int → Int → Int) : Prop := (∃ m, w 539 = up1 (v 539) 28 m) ∧ ∀ a, a ≠ 539 → (a < 545 ∨ 550 < a) → w a = v a
section TG
variable {g : jjG} {d : Nat} {T : jjT} {Q : jjQ}
theorem tw_round {v : Int → Int → Int} {s len : Int} (hT : PT T) (hV : PV v) (hS : TE v ∧ SH (v 540) ∧ (0 ≤ v 540 1 ∧ v 540 1 < 100000)) (hQ : ∀ w, jkv v w → Q (.inl (some (vI (rouA (v 540) (v 542) s len)))) (w, T)) : jmet g (d + 10) 0 0 MX2_round [vR 539, vI s, vI len] (v, T) Q := by
  obtain ⟨hE, hH, h1⟩ := hS
  have h0 := hE.1.1
  refine jmet_of (ls := [some (vR 539), some (vI s), some (vI len), none, none]) sX2_round rfl (by decide +kernel) (by decide) rfl (by simp [jent]) ?_
  unfold rouA at hQ
  refine jW_step ?_
  simp (disch := (first | decide | omega)) only [bX2_round, jxs, hps, jtsw, jlsw, List.length_cons, List.length_nil, true_and, and_true, true_implies, false_implies, implies_true, not_true_eq_false, not_false_eq_true, false_and, and_false, if_true, if_false, or_true, true_or, or_false, false_or, Classical.not_not, and_self, Int.reduceAdd, Int.reduceMul, Int.reduceSub, Int.reduceNeg, Int.reduceLT, Int.reduceLE, Int.reduceEq, Int.reduceNe, Int.reduceToNat, Nat.reduceAdd, Nat.reduceMul, Nat.reduceSub, Nat.reduceLeDiff, Nat.reduceLT, Nat.reduceEqDiff, reduceIte, Nat.zero_le, Nat.le_refl, Nat.add_zero, Nat.zero_add, twT hT, twV hV]
  (repeat (refine And.intro (by (first | omega | assumption | trivial | (simp only [inI]; omega) | (simp only [inL]; omega) | (refine jb_01) | (exact jb_in))) ?_))
  refine ⟨0, 0, ⟨by omega, by omega⟩, tw_isShelf hT (by (first | assumption | (repeat (first | assumption | refine PV.A ?_ (by decide) | refine PV.F ?_ ?_ | refine twR.up ?_ (by decide) | refine PV.r ?_)))) (by (first | omega | assumption | trivial | (simp only [inI]; omega) | (simp only [inL]; omega) | (refine jb_01) | (exact jb_in))) ?_⟩
  simp (disch := (first | decide | omega)) only [jxs, hps, jtsw, jlsw, List.length_cons, List.length_nil, true_and, and_true, true_implies, false_implies, implies_true, not_true_eq_false, not_false_eq_true, false_and, and_false, if_true, if_false, or_true, true_or, or_false, false_or, Classical.not_not, and_self, Int.reduceAdd, Int.reduceMul, Int.reduceSub, Int.reduceNeg, Int.reduceLT, Int.reduceLE, Int.reduceEq, Int.reduceNe, Int.reduceToNat, Nat.reduceAdd, Nat.reduceMul, Nat.reduceSub, Nat.reduceLeDiff, Nat.reduceLT, Nat.reduceEqDiff, reduceIte, Nat.zero_le, Nat.le_refl, Nat.add_zero, Nat.zero_add, twT hT, twV hV]
  refine ⟨fun h => ?_, fun h => ?_⟩
  · rw [if_pos h] at hQ
    (repeat (refine And.intro (by (first | omega | assumption | trivial | (simp only [inI]; omega) | (simp only [inL]; omega) | (refine jb_01) | (exact jb_in))) ?_))
    refine ⟨0, 0, ⟨by omega, by omega⟩, tw_layRow2 hT hV ⟨hE, hH, by omega⟩ ?_⟩
    intro w hw
    have e28 : w 539 28 = (lrZ (v 540) s (-1)).2 := by rw [hw.2.2.2.1, up1_eq]
    have e40 : w 540 = v 540 := hw.2.2.2.2.2 540 (by omega) (by omega) (by omega) (by omega) (by omega) (by omega)
    have cg := roL_cg (ni := v 540 1) (hw.2.2.2.2.1.tag h0.2) hw.2.2.1.1 501 0 (w 549) (lrZ (v 540) s (-1)).1 (w 550) (fun _ => 0) hw.1 hw.2.1 (fun i h0 h1 => by omega) (by omega)
    simp (disch := (first | decide | omega)) only [jxs, hps, jtsw, jlsw, List.length_cons, List.length_nil, true_and, and_true, true_implies, false_implies, implies_true, not_true_eq_false, not_false_eq_true, false_and, and_false, if_true, if_false, or_true, true_or, or_false, false_or, Classical.not_not, and_self, Int.reduceAdd, Int.reduceMul, Int.reduceSub, Int.reduceNeg, Int.reduceLT, Int.reduceLE, Int.reduceEq, Int.reduceNe, Int.reduceToNat, Nat.reduceAdd, Nat.reduceMul, Nat.reduceSub, Nat.reduceLeDiff, Nat.reduceLT, Nat.reduceEqDiff, reduceIte, Nat.zero_le, Nat.le_refl, Nat.add_zero, Nat.zero_add, twT hT, twV hV]
    (repeat (refine And.intro (by (first | omega | assumption | trivial | (simp only [inI]; omega) | (simp only [inL]; omega) | (refine jb_01) | (exact jb_in))) ?_))
    refine tw_round_1 hT 501 0 w (hw.pv hV) ⟨by rw [e28]; exact hw.2.2.1, fun i i0 i1 => by rw [e28] at i1; have := hw.2.1 i i0 i1; omega⟩ (by omega) (by omega) (by rw [e40]; exact h1) ?_ _
    rw [e28, e40]
    intro u hu
    have j : jkv v u := by
      refine ⟨⟨(lrZ (v 540) s (-1)).2, ?_⟩, ?_⟩
      · rw [hu 539 (by omega) (by omega)]; exact hw.2.2.2.1
      · intro a a1 a2
        rw [hu a (by omega) (by omega)]
        exact hw.2.2.2.2.2 a a1 (by omega) (by omega) (by omega) (by omega) (by omega)
    have hq := hQ u j
    rcases cg with ⟨c1, c2⟩ | ⟨st, st', c1, c2, c3⟩
    · rw [c1]
      rw [c2] at hq
      exact ⟨fun _ => hq, fun st hst => by cases hst⟩
    · rw [c1]
      rw [c2] at hq
      refine ⟨fun hst => (by cases hst), fun st2 hst => ?_⟩
      cases hst
      rw [ouF_cg c3 501 0 (by omega) (by omega)]
      exact hq
  · rw [if_neg h] at hQ
    (repeat (refine And.intro (by (first | omega | assumption | trivial | (simp only [inI]; omega) | (simp only [inL]; omega) | (refine jb_01) | (exact jb_in))) ?_))
    exact hQ v ⟨⟨v 539 28, up1_id.symm⟩, fun _ _ _ => rfl⟩
end TG
