/-! ===== the reference: tape, image, dust, laws ===== -/
set_option maxRecDepth 100000
def byt (x k : Int) : Int := x / 2 ^ k.toNat % 256
def fou (f : Int → Int) (t x : Int) : Int → Int := up1 (up1 (up1 (up1 f t (byt x 24)) (t + 1) (byt x 16)) (t + 1 + 1) (byt x 8)) (t + 1 + 1 + 1) (byt x 0)
theorem byt_eq {x k : Int} (hx : inI x) (h0 : 0 ≤ k) (h1 : k < 32) : jand (jshr x k) 255 = byt x k := by
  rw [jshr_div hx h0 h1, jand_255]; rfl
theorem jor_up {s : Int} {k : Nat} (h0 : 0 ≤ s) (h1 : s < 2 ^ k) (hk : k < 31) : jor s (2 ^ k) = s + 2 ^ k := by
  obtain ⟨n, rfl⟩ : ∃ n : Nat, s = (n : Int) := ⟨s.toNat, by omega⟩
  have e : ((2 : Int) ^ k) = ((2 ^ k : Nat) : Int) := by norm_cast
  rw [e] at h1 ⊢
  have hn : n < 2 ^ k := by omega
  have hp : 2 ^ k ≤ 2 ^ 30 := Nat.pow_le_pow_right (by omega) (by omega)
  rw [jor_nat (by omega) (by omega)]
  have := Nat.two_pow_add_eq_or_of_lt hn 1
  rw [Nat.mul_one] at this
  rw [Nat.or_comm, ← this]
  omega
theorem jor_0 {s : Int} (h : inI s) : jor s 0 = s := by
  show (BitVec.ofInt 32 s ||| BitVec.ofInt 32 0).toInt = s
  have : BitVec.ofInt 32 0 = 0#32 := rfl
  rw [this, BitVec.or_zero, jb_toInt h]
/-- a set gathered bit by bit -/
def gat (p : Int → Bool) : Nat → Int
  | 0 => 0
  | n + 1 => gat p n + (if p n then 2 ^ n else 0)
theorem gat_bd {p : Int → Bool} : ∀ n : Nat, 0 ≤ gat p n ∧ gat p n < 2 ^ n
  | 0 => by unfold gat; simp
  | n + 1 => by
    have := gat_bd (p := p) n
    unfold gat
    have e : (2 : Int) ^ (n + 1) = 2 ^ n + 2 ^ n := by rw [Int.pow_succ]; omega
    rw [e]
    split <;> omega
theorem gat_in {p : Int → Bool} {n : Nat} (h : n ≤ 10) : 0 ≤ gat p n ∧ gat p n ≤ 1023 := by
  have := gat_bd (p := p) n
  have h2 : (2 : Int) ^ n ≤ 1024 := by
    have : (2 : Nat) ^ n ≤ 2 ^ 10 := Nat.pow_le_pow_right (by omega) h
    have e : ((2 : Int) ^ n) = ((2 ^ n : Nat) : Int) := by norm_cast
    omega
  omega
theorem gat_jor {p : Int → Bool} {n : Nat} (h : n ≤ 20) {z : Int} (hz : z = if p n then 2 ^ n else 0) : jor (gat p n) z = gat p (n + 1) := by
  have b := gat_bd (p := p) n
  have h2 : (2 : Int) ^ n ≤ 1048576 := by
    have : (2 : Nat) ^ n ≤ 2 ^ 20 := Nat.pow_le_pow_right (by omega) h
    have e : ((2 : Int) ^ n) = ((2 ^ n : Nat) : Int) := by norm_cast
    omega
  subst hz
  show _ = gat p n + _
  split
  · exact jor_up b.1 b.2 (by omega)
  · rw [jor_0 ⟨by omega, by omega⟩]; omega
section TG
variable {g : jjG} {d : Nat} {T : jjT} {Q : jjQ} {v : Int → Int → Int}
theorem tw_four {x : Int} (hT : PT T) (hV : PV v) (hS : inI x ∧ 0 ≤ v 539 4 ∧ v 539 4 ≤ 296) (hQ : Q (.inl none) (upA (upA v 539 (up1 (v 539) 4 (v 539 4 + 1 + 1 + 1 + 1))) 543 (fou (v 543) (v 539 4) x), T)) : jmet g (d + 1) 0 0 MX2_four [vR 539, vI x] (v, T) Q := by
  obtain ⟨hx, ht⟩ := hS
  refine jmet_of (ls := [some (vR 539), some (vI x), none]) sX2_four rfl (by decide +kernel) (by decide) rfl (by simp [jent]) ?_
  refine jW_step ?_
  simp (disch := (first | decide | omega)) only [bX2_four, jxs, hps, jtsw, jlsw, List.length_cons, List.length_nil, true_and, and_true, true_implies, false_implies, implies_true, not_true_eq_false, not_false_eq_true, false_and, and_false, if_true, if_false, or_true, true_or, or_false, false_or, Classical.not_not, and_self, Int.reduceAdd, Int.reduceMul, Int.reduceSub, Int.reduceNeg, Int.reduceLT, Int.reduceLE, Int.reduceEq, Int.reduceNe, Int.reduceToNat, Nat.reduceAdd, Nat.reduceMul, Nat.reduceSub, Nat.reduceLeDiff, Nat.reduceLT, Nat.reduceEqDiff, reduceIte, Nat.zero_le, Nat.le_refl, Nat.add_zero, Nat.zero_add, twT hT, twV hV]
  refine jW_step ?_
  simp (disch := (first | decide | omega)) only [bX2_four, jxs, hps, jtsw, jlsw, List.length_cons, List.length_nil, true_and, and_true, true_implies, false_implies, implies_true, not_true_eq_false, not_false_eq_true, false_and, and_false, if_true, if_false, or_true, true_or, or_false, false_or, Classical.not_not, and_self, Int.reduceAdd, Int.reduceMul, Int.reduceSub, Int.reduceNeg, Int.reduceLT, Int.reduceLE, Int.reduceEq, Int.reduceNe, Int.reduceToNat, Nat.reduceAdd, Nat.reduceMul, Nat.reduceSub, Nat.reduceLeDiff, Nat.reduceLT, Nat.reduceEqDiff, reduceIte, Nat.zero_le, Nat.le_refl, Nat.add_zero, Nat.zero_add, twT hT, twV hV]
  rw [byt_eq hx (by omega) (by omega)]
  (repeat (refine And.intro (by (first | omega | assumption | trivial | (simp only [inI]; omega) | (simp only [inL]; omega) | (refine jb_01) | (exact jb_in))) ?_))
  refine jW_step ?_
  simp (disch := (first | decide | omega)) only [bX2_four, jxs, hps, jtsw, jlsw, List.length_cons, List.length_nil, true_and, and_true, true_implies, false_implies, implies_true, not_true_eq_false, not_false_eq_true, false_and, and_false, if_true, if_false, or_true, true_or, or_false, false_or, Classical.not_not, and_self, Int.reduceAdd, Int.reduceMul, Int.reduceSub, Int.reduceNeg, Int.reduceLT, Int.reduceLE, Int.reduceEq, Int.reduceNe, Int.reduceToNat, Nat.reduceAdd, Nat.reduceMul, Nat.reduceSub, Nat.reduceLeDiff, Nat.reduceLT, Nat.reduceEqDiff, reduceIte, Nat.zero_le, Nat.le_refl, Nat.add_zero, Nat.zero_add, twT hT, twV hV]
  rw [byt_eq hx (by omega) (by omega)]
  (repeat (refine And.intro (by (first | omega | assumption | trivial | (simp only [inI]; omega) | (simp only [inL]; omega) | (refine jb_01) | (exact jb_in))) ?_))
  refine jW_step ?_
  simp (disch := (first | decide | omega)) only [bX2_four, jxs, hps, jtsw, jlsw, List.length_cons, List.length_nil, true_and, and_true, true_implies, false_implies, implies_true, not_true_eq_false, not_false_eq_true, false_and, and_false, if_true, if_false, or_true, true_or, or_false, false_or, Classical.not_not, and_self, Int.reduceAdd, Int.reduceMul, Int.reduceSub, Int.reduceNeg, Int.reduceLT, Int.reduceLE, Int.reduceEq, Int.reduceNe, Int.reduceToNat, Nat.reduceAdd, Nat.reduceMul, Nat.reduceSub, Nat.reduceLeDiff, Nat.reduceLT, Nat.reduceEqDiff, reduceIte, Nat.zero_le, Nat.le_refl, Nat.add_zero, Nat.zero_add, twT hT, twV hV]
  rw [byt_eq hx (by omega) (by omega)]
  (repeat (refine And.intro (by (first | omega | assumption | trivial | (simp only [inI]; omega) | (simp only [inL]; omega) | (refine jb_01) | (exact jb_in))) ?_))
  refine jW_step ?_
  simp (disch := (first | decide | omega)) only [bX2_four, jxs, hps, jtsw, jlsw, List.length_cons, List.length_nil, true_and, and_true, true_implies, false_implies, implies_true, not_true_eq_false, not_false_eq_true, false_and, and_false, if_true, if_false, or_true, true_or, or_false, false_or, Classical.not_not, and_self, Int.reduceAdd, Int.reduceMul, Int.reduceSub, Int.reduceNeg, Int.reduceLT, Int.reduceLE, Int.reduceEq, Int.reduceNe, Int.reduceToNat, Nat.reduceAdd, Nat.reduceMul, Nat.reduceSub, Nat.reduceLeDiff, Nat.reduceLT, Nat.reduceEqDiff, reduceIte, Nat.zero_le, Nat.le_refl, Nat.add_zero, Nat.zero_add, twT hT, twV hV]
  rw [byt_eq hx (by omega) (by omega)]
  (repeat (refine And.intro (by (first | omega | assumption | trivial | (simp only [inI]; omega) | (simp only [inL]; omega) | (refine jb_01) | (exact jb_in))) ?_))
  refine jW_step ?_
  simp (disch := (first | decide | omega)) only [bX2_four, jxs, hps, jtsw, jlsw, List.length_cons, List.length_nil, true_and, and_true, true_implies, false_implies, implies_true, not_true_eq_false, not_false_eq_true, false_and, and_false, if_true, if_false, or_true, true_or, or_false, false_or, Classical.not_not, and_self, Int.reduceAdd, Int.reduceMul, Int.reduceSub, Int.reduceNeg, Int.reduceLT, Int.reduceLE, Int.reduceEq, Int.reduceNe, Int.reduceToNat, Nat.reduceAdd, Nat.reduceMul, Nat.reduceSub, Nat.reduceLeDiff, Nat.reduceLT, Nat.reduceEqDiff, reduceIte, Nat.zero_le, Nat.le_refl, Nat.add_zero, Nat.zero_add, twT hT, twV hV]
  (repeat (refine And.intro (by (first | omega | assumption | trivial | (simp only [inI]; omega) | (simp only [inL]; omega) | (refine jb_01) | (exact jb_in))) ?_))
  exact hQ
/-- only the tape has grown -/
def jtp (v : Int → Int → Int) (t : Int) (f : Int → Int) (w : Int → Int → Int) : Prop := w 539 = up1 (v 539) 4 t ∧ w 543 = f ∧ ∀ a, a ≠ 539 → a ≠ 543 → w a = v a
theorem jtp.pv {v w : Int → Int → Int} {t : Int} {f : Int → Int} (h : jtp v t f w) (hV : PV v) : PV w := by
  intro q hq
  by_cases e : q.1 = 539
  · rw [e, h.1]
    exact (PV.r hV).up (by decide) q hq e
  · rw [h.2.2 q.1 e (fun e2 => by have := pvL_A q hq; rw [e2] at this; revert this; decide)]
    exact hV q hq
theorem jtp.tr {u v w : Int → Int → Int} {t t' : Int} {f f' : Int → Int} (h : jtp u t f v) (h2 : jtp v t' f' w) : jtp u t' f' w := ⟨by rw [h2.1, h.1, up1_same], h2.2.1, fun a a1 a2 => (h2.2.2 a a1 a2).trans (h.2.2 a a1 a2)⟩
theorem jtp.t {v w : Int → Int → Int} {t : Int} {f : Int → Int} (h : jtp v t f w) : w 539 4 = t := by rw [h.1, up1_eq]
theorem tw_four2 {x : Int} (hT : PT T) (hV : PV v) (hS : inI x ∧ 0 ≤ v 539 4 ∧ v 539 4 ≤ 296) (hQ : ∀ w, jtp v (v 539 4 + 4) (fou (v 543) (v 539 4) x) w → Q (.inl none) (w, T)) : jmet g (d + 1) 0 0 MX2_four [vR 539, vI x] (v, T) Q := by
  refine tw_four hT hV hS ?_
  refine hQ _ ⟨?_, ?_, ?_⟩
  · rw [upA_ne (by omega), upA_eq, show v 539 4 + 1 + 1 + 1 + 1 = v 539 4 + 4 by omega]
  · rw [upA_eq]
  · intro a h1 h2
    rw [upA_ne h2, upA_ne h1]
def fedT (f : Int → Int) (t a b c e h : Int) : Int → Int := fou (fou (fou (fou (fou f t a) (t + 4) b) (t + 8) c) (t + 12) e) (t + 16) h
theorem tw_feed {a b c e h : Int} (hT : PT T) (hV : PV v) (hS : (inI a ∧ inI b ∧ inI c ∧ inI e ∧ inI h) ∧ 0 ≤ v 539 4 ∧ v 539 4 ≤ 300) (hQ : (v 539 4 + 20 ≤ 300 → ∀ w, jtp v (v 539 4 + 20) (fedT (v 543) (v 539 4) a b c e h) w → Q (.inl (some (vI (v 539 4 + 20)))) (w, T)) ∧ (¬ v 539 4 + 20 ≤ 300 → Q (.inl (some (vI (-1)))) (v, T))) : jmet g (d + 2) 0 0 MX2_feed [vR 539, vI a, vI b, vI c, vI e, vI h] (v, T) Q := by
  obtain ⟨⟨ha, hb, hc, he, hh⟩, ht⟩ := hS
  refine jmet_of (ls := [some (vR 539), some (vI a), some (vI b), some (vI c), some (vI e), some (vI h)]) sX2_feed rfl (by decide +kernel) (by decide) rfl (by simp [jent]) ?_
  refine jW_step ?_
  simp (disch := (first | decide | omega)) only [bX2_feed, jxs, hps, jtsw, jlsw, List.length_cons, List.length_nil, true_and, and_true, true_implies, false_implies, implies_true, not_true_eq_false, not_false_eq_true, false_and, and_false, if_true, if_false, or_true, true_or, or_false, false_or, Classical.not_not, and_self, Int.reduceAdd, Int.reduceMul, Int.reduceSub, Int.reduceNeg, Int.reduceLT, Int.reduceLE, Int.reduceEq, Int.reduceNe, Int.reduceToNat, Nat.reduceAdd, Nat.reduceMul, Nat.reduceSub, Nat.reduceLeDiff, Nat.reduceLT, Nat.reduceEqDiff, reduceIte, Nat.zero_le, Nat.le_refl, Nat.add_zero, Nat.zero_add, twT hT, twV hV]
  (repeat (refine And.intro (by (first | omega | assumption | trivial | (simp only [inI]; omega) | (simp only [inL]; omega) | (refine jb_01) | (exact jb_in))) ?_))
  refine ⟨fun h1 => ?_, fun h1 => ?_⟩
  · have hq := hQ.1 h1
    (repeat (refine And.intro (by (first | omega | assumption | trivial | (simp only [inI]; omega) | (simp only [inL]; omega) | (refine jb_01) | (exact jb_in))) ?_))
    refine ⟨0, 0, ⟨by omega, by omega⟩, tw_four2 hT hV ⟨ha, by omega, by omega⟩ ?_⟩
    intro w1 j1
    have t1 := j1.t
    have V1 := j1.pv hV
    simp (disch := (first | decide | omega)) only [jxs, hps, jtsw, jlsw, List.length_cons, List.length_nil, true_and, and_true, true_implies, false_implies, implies_true, not_true_eq_false, not_false_eq_true, false_and, and_false, if_true, if_false, or_true, true_or, or_false, false_or, Classical.not_not, and_self, Int.reduceAdd, Int.reduceMul, Int.reduceSub, Int.reduceNeg, Int.reduceLT, Int.reduceLE, Int.reduceEq, Int.reduceNe, Int.reduceToNat, Nat.reduceAdd, Nat.reduceMul, Nat.reduceSub, Nat.reduceLeDiff, Nat.reduceLT, Nat.reduceEqDiff, reduceIte, Nat.zero_le, Nat.le_refl, Nat.add_zero, Nat.zero_add, twT hT, twV hV]
    (repeat (refine And.intro (by (first | omega | assumption | trivial | (simp only [inI]; omega) | (simp only [inL]; omega) | (refine jb_01) | (exact jb_in))) ?_))
    refine ⟨0, 0, ⟨by omega, by omega⟩, tw_four2 hT V1 ⟨hb, by omega, by omega⟩ ?_⟩
    rw [t1, j1.2.1]
    intro w2 j2
    have t2 := j2.t
    have V2 := j2.pv V1
    simp (disch := (first | decide | omega)) only [jxs, hps, jtsw, jlsw, List.length_cons, List.length_nil, true_and, and_true, true_implies, false_implies, implies_true, not_true_eq_false, not_false_eq_true, false_and, and_false, if_true, if_false, or_true, true_or, or_false, false_or, Classical.not_not, and_self, Int.reduceAdd, Int.reduceMul, Int.reduceSub, Int.reduceNeg, Int.reduceLT, Int.reduceLE, Int.reduceEq, Int.reduceNe, Int.reduceToNat, Nat.reduceAdd, Nat.reduceMul, Nat.reduceSub, Nat.reduceLeDiff, Nat.reduceLT, Nat.reduceEqDiff, reduceIte, Nat.zero_le, Nat.le_refl, Nat.add_zero, Nat.zero_add, twT hT, twV hV]
    (repeat (refine And.intro (by (first | omega | assumption | trivial | (simp only [inI]; omega) | (simp only [inL]; omega) | (refine jb_01) | (exact jb_in))) ?_))
    refine ⟨0, 0, ⟨by omega, by omega⟩, tw_four2 hT V2 ⟨hc, by omega, by omega⟩ ?_⟩
    rw [t2, j2.2.1]
    intro w3 j3
    have t3 := j3.t
    have V3 := j3.pv V2
    simp (disch := (first | decide | omega)) only [jxs, hps, jtsw, jlsw, List.length_cons, List.length_nil, true_and, and_true, true_implies, false_implies, implies_true, not_true_eq_false, not_false_eq_true, false_and, and_false, if_true, if_false, or_true, true_or, or_false, false_or, Classical.not_not, and_self, Int.reduceAdd, Int.reduceMul, Int.reduceSub, Int.reduceNeg, Int.reduceLT, Int.reduceLE, Int.reduceEq, Int.reduceNe, Int.reduceToNat, Nat.reduceAdd, Nat.reduceMul, Nat.reduceSub, Nat.reduceLeDiff, Nat.reduceLT, Nat.reduceEqDiff, reduceIte, Nat.zero_le, Nat.le_refl, Nat.add_zero, Nat.zero_add, twT hT, twV hV]
    (repeat (refine And.intro (by (first | omega | assumption | trivial | (simp only [inI]; omega) | (simp only [inL]; omega) | (refine jb_01) | (exact jb_in))) ?_))
    refine ⟨0, 0, ⟨by omega, by omega⟩, tw_four2 hT V3 ⟨he, by omega, by omega⟩ ?_⟩
    rw [t3, j3.2.1]
    intro w4 j4
    have t4 := j4.t
    have V4 := j4.pv V3
    simp (disch := (first | decide | omega)) only [jxs, hps, jtsw, jlsw, List.length_cons, List.length_nil, true_and, and_true, true_implies, false_implies, implies_true, not_true_eq_false, not_false_eq_true, false_and, and_false, if_true, if_false, or_true, true_or, or_false, false_or, Classical.not_not, and_self, Int.reduceAdd, Int.reduceMul, Int.reduceSub, Int.reduceNeg, Int.reduceLT, Int.reduceLE, Int.reduceEq, Int.reduceNe, Int.reduceToNat, Nat.reduceAdd, Nat.reduceMul, Nat.reduceSub, Nat.reduceLeDiff, Nat.reduceLT, Nat.reduceEqDiff, reduceIte, Nat.zero_le, Nat.le_refl, Nat.add_zero, Nat.zero_add, twT hT, twV hV]
    (repeat (refine And.intro (by (first | omega | assumption | trivial | (simp only [inI]; omega) | (simp only [inL]; omega) | (refine jb_01) | (exact jb_in))) ?_))
    refine ⟨0, 0, ⟨by omega, by omega⟩, tw_four2 hT V4 ⟨hh, by omega, by omega⟩ ?_⟩
    rw [t4, j4.2.1]
    intro w5 j5
    have t5 := j5.t
    have hV := j5.pv V4
    have j := (((j1.tr j2).tr j3).tr j4).tr j5
    simp (disch := (first | decide | omega)) only [jxs, hps, jtsw, jlsw, List.length_cons, List.length_nil, true_and, and_true, true_implies, false_implies, implies_true, not_true_eq_false, not_false_eq_true, false_and, and_false, if_true, if_false, or_true, true_or, or_false, false_or, Classical.not_not, and_self, Int.reduceAdd, Int.reduceMul, Int.reduceSub, Int.reduceNeg, Int.reduceLT, Int.reduceLE, Int.reduceEq, Int.reduceNe, Int.reduceToNat, Nat.reduceAdd, Nat.reduceMul, Nat.reduceSub, Nat.reduceLeDiff, Nat.reduceLT, Nat.reduceEqDiff, reduceIte, Nat.zero_le, Nat.le_refl, Nat.add_zero, Nat.zero_add, twT hT, twV hV, t5]
    (repeat (refine And.intro (by (first | omega | assumption | trivial | (simp only [inI]; omega) | (simp only [inL]; omega) | (refine jb_01) | (exact jb_in))) ?_))
    have a4 : v 539 4 + 4 + 4 = v 539 4 + 8 := by omega
    have a5 : v 539 4 + 8 + 4 = v 539 4 + 12 := by omega
    have a6 : v 539 4 + 12 + 4 = v 539 4 + 16 := by omega
    have a7 : v 539 4 + 16 + 4 = v 539 4 + 20 := by omega
    rw [a4, a5, a6, a7] at j ⊢
    exact hq _ j
  · (repeat (refine And.intro (by (first | omega | assumption | trivial | (simp only [inI]; omega) | (simp only [inL]; omega) | (refine jb_01) | (exact jb_in))) ?_))
    exact hQ.2 h1
theorem tw_copy_L {p q : Int} (hT : PT T) (hp : (p = 540 ∧ q = 541) ∨ (p = 541 ∧ q = 540)) : ∀ (n : Nat) (k : Int) (v : Int → Int → Int), 0 ≤ k → k + n = 3642 →
    Q (.inl none) (upA v q (fun i => if k ≤ i ∧ i < 3642 then v p i else v q i), T) → jW bX2_copy (g, d, 0, 0, Q) 1 [some (vR p), some (vR q), some (vI k)] [] (v, T) 0 0 := by
  have op : jok T p (-1) ∧ jln T p = 3642 := by
    rcases hp with ⟨e, -⟩ | ⟨e, -⟩ <;> subst e
    · exact ⟨pt_540 hT, pl_540 hT⟩
    · exact ⟨pt_541 hT, pl_541 hT⟩
  have oq : jok T q (-1) ∧ jln T q = 3642 := by
    rcases hp with ⟨-, e⟩ | ⟨-, e⟩ <;> subst e
    · exact ⟨pt_541 hT, pl_541 hT⟩
    · exact ⟨pt_540 hT, pl_540 hT⟩
  have pq : ¬ p = q := by omega
  intro n
  induction n with
  | zero =>
    intro k v hk hn hQ
    have e : k = 3642 := by omega
    subst e
    refine jW_step ?_
    simp (disch := omega) only [bX2_copy, jxs, hps, jtsw, jlsw, List.length_cons, List.length_nil, true_and, and_true, true_implies, false_implies, implies_true, not_true_eq_false, not_false_eq_true, false_and, and_false, if_true, if_false, or_true, true_or, or_false, false_or, Classical.not_not, and_self, Int.reduceAdd, Int.reduceMul, Int.reduceSub, Int.reduceNeg, Int.reduceLT, Int.reduceLE, Int.reduceEq, Int.reduceNe, Int.reduceToNat, Nat.reduceAdd, Nat.reduceMul, Nat.reduceSub, Nat.reduceLeDiff, Nat.reduceLT, Nat.reduceEqDiff, reduceIte, Nat.zero_le, Nat.le_refl, Nat.add_zero, Nat.zero_add]
    (repeat (refine And.intro (by (first | omega | assumption | trivial | (simp only [inI]; omega) | (simp only [inL]; omega) | (refine jb_01) | (exact jb_in))) ?_))
    have e2 : upA v q (fun i => if 3642 ≤ i ∧ i < 3642 then v p i else v q i) = v := by
      have : (fun i => if 3642 ≤ i ∧ i < 3642 then v p i else v q i) = v q := by
        funext i; rw [if_neg (by omega)]
      rw [this, upA_id]
    rw [e2] at hQ
    exact hQ
  | succ n ih =>
    intro k v hk hn hQ
    refine jW_step ?_
    simp (disch := omega) only [bX2_copy, jxs, hps, jtsw, jlsw, List.length_cons, List.length_nil, true_and, and_true, true_implies, false_implies, implies_true, not_true_eq_false, not_false_eq_true, false_and, and_false, if_true, if_false, or_true, true_or, or_false, false_or, Classical.not_not, and_self, Int.reduceAdd, Int.reduceMul, Int.reduceSub, Int.reduceNeg, Int.reduceLT, Int.reduceLE, Int.reduceEq, Int.reduceNe, Int.reduceToNat, Nat.reduceAdd, Nat.reduceMul, Nat.reduceSub, Nat.reduceLeDiff, Nat.reduceLT, Nat.reduceEqDiff, reduceIte, Nat.zero_le, Nat.le_refl, Nat.add_zero, Nat.zero_add, op.1, op.2, oq.1, oq.2]
    (first | refine ⟨fun h9 => (by exfalso; omega), fun _ => ?_⟩ | intro _)
    (repeat (refine And.intro (by (first | omega | assumption | trivial | (simp only [inI]; omega) | (simp only [inL]; omega) | (refine jb_01) | (exact jb_in))) ?_))
    refine ih (k + 1) _ (by omega) (by omega) ?_
    rw [upA_same, upA_eq, upA_ne pq]
    have e : (fun i => if k + 1 ≤ i ∧ i < 3642 then v p i else up1 (v q) k (v p k) i) = (fun i => if k ≤ i ∧ i < 3642 then v p i else v q i) := by
      funext i
      by_cases h1 : i = k
      · subst h1; rw [if_neg (by omega), up1_eq, if_pos (by omega)]
      · rw [up1_ne h1]
        by_cases h2 : k ≤ i ∧ i < 3642
        · rw [if_pos h2, if_pos (by omega)]
        · rw [if_neg h2, if_neg (by omega)]
    rw [e]
    exact hQ
/-- a copy as far as the arrays go -/
def cpI (a b : Int → Int) : Int → Int := fun i => if 0 ≤ i ∧ i < 3642 then a i else b i
theorem tw_image (hT : PT T) (hV : PV v) (hQ : Q (.inl (some (vI (v 540 1)))) (upA v 541 (cpI (v 540) (v 541)), T)) : jmet g (d + 2) 0 0 MX2_image [vR 539] (v, T) Q := by
  refine jmet_of (ls := [some (vR 539)]) sX2_image rfl (by decide +kernel) (by decide) rfl (by simp [jent]) ?_
  refine jW_step ?_
  simp (disch := (first | decide | omega)) only [bX2_image, jxs, hps, jtsw, jlsw, List.length_cons, List.length_nil, true_and, and_true, true_implies, false_implies, implies_true, not_true_eq_false, not_false_eq_true, false_and, and_false, if_true, if_false, or_true, true_or, or_false, false_or, Classical.not_not, and_self, Int.reduceAdd, Int.reduceMul, Int.reduceSub, Int.reduceNeg, Int.reduceLT, Int.reduceLE, Int.reduceEq, Int.reduceNe, Int.reduceToNat, Nat.reduceAdd, Nat.reduceMul, Nat.reduceSub, Nat.reduceLeDiff, Nat.reduceLT, Nat.reduceEqDiff, reduceIte, Nat.zero_le, Nat.le_refl, Nat.add_zero, Nat.zero_add, twT hT, twV hV]
  (repeat (refine And.intro (by (first | omega | assumption | trivial | (simp only [inI]; omega) | (simp only [inL]; omega) | (refine jb_01) | (exact jb_in))) ?_))
  refine ⟨0, 0, ⟨by omega, by omega⟩, ?_⟩
  refine jmet_of (ls := [some (vR 540), some (vR 541), none]) sX2_copy rfl (by decide +kernel) (by decide) rfl (by simp [jent]) ?_
  refine jW_step ?_
  simp (disch := (first | decide | omega)) only [bX2_copy, jxs, hps, jtsw, jlsw, List.length_cons, List.length_nil, true_and, and_true, true_implies, false_implies, implies_true, not_true_eq_false, not_false_eq_true, false_and, and_false, if_true, if_false, or_true, true_or, or_false, false_or, Classical.not_not, and_self, Int.reduceAdd, Int.reduceMul, Int.reduceSub, Int.reduceNeg, Int.reduceLT, Int.reduceLE, Int.reduceEq, Int.reduceNe, Int.reduceToNat, Nat.reduceAdd, Nat.reduceMul, Nat.reduceSub, Nat.reduceLeDiff, Nat.reduceLT, Nat.reduceEqDiff, reduceIte, Nat.zero_le, Nat.le_refl, Nat.add_zero, Nat.zero_add, twT hT, twV hV]
  refine tw_copy_L hT (Or.inl ⟨rfl, rfl⟩) 3642 0 v (by omega) (by omega) ?_
  simp (disch := (first | decide | omega)) only [jxs, hps, jtsw, jlsw, List.length_cons, List.length_nil, true_and, and_true, true_implies, false_implies, implies_true, not_true_eq_false, not_false_eq_true, false_and, and_false, if_true, if_false, or_true, true_or, or_false, false_or, Classical.not_not, and_self, Int.reduceAdd, Int.reduceMul, Int.reduceSub, Int.reduceNeg, Int.reduceLT, Int.reduceLE, Int.reduceEq, Int.reduceNe, Int.reduceToNat, Nat.reduceAdd, Nat.reduceMul, Nat.reduceSub, Nat.reduceLeDiff, Nat.reduceLT, Nat.reduceEqDiff, reduceIte, Nat.zero_le, Nat.le_refl, Nat.add_zero, Nat.zero_add, twT hT, twV hV]
  (repeat (refine And.intro (by (first | omega | assumption | trivial | (simp only [inI]; omega) | (simp only [inL]; omega) | (refine jb_01) | (exact jb_in))) ?_))
  exact hQ
theorem tw_back (hT : PT T) (hV : PV v) (hQ : Q (.inl (some (vI (v 541 1)))) (upA v 540 (cpI (v 541) (v 540)), T)) : jmet g (d + 2) 0 0 MX2_back [vR 539] (v, T) Q := by
  refine jmet_of (ls := [some (vR 539)]) sX2_back rfl (by decide +kernel) (by decide) rfl (by simp [jent]) ?_
  refine jW_step ?_
  simp (disch := (first | decide | omega)) only [bX2_back, jxs, hps, jtsw, jlsw, List.length_cons, List.length_nil, true_and, and_true, true_implies, false_implies, implies_true, not_true_eq_false, not_false_eq_true, false_and, and_false, if_true, if_false, or_true, true_or, or_false, false_or, Classical.not_not, and_self, Int.reduceAdd, Int.reduceMul, Int.reduceSub, Int.reduceNeg, Int.reduceLT, Int.reduceLE, Int.reduceEq, Int.reduceNe, Int.reduceToNat, Nat.reduceAdd, Nat.reduceMul, Nat.reduceSub, Nat.reduceLeDiff, Nat.reduceLT, Nat.reduceEqDiff, reduceIte, Nat.zero_le, Nat.le_refl, Nat.add_zero, Nat.zero_add, twT hT, twV hV]
  (repeat (refine And.intro (by (first | omega | assumption | trivial | (simp only [inI]; omega) | (simp only [inL]; omega) | (refine jb_01) | (exact jb_in))) ?_))
  refine ⟨0, 0, ⟨by omega, by omega⟩, ?_⟩
  refine jmet_of (ls := [some (vR 541), some (vR 540), none]) sX2_copy rfl (by decide +kernel) (by decide) rfl (by simp [jent]) ?_
  refine jW_step ?_
  simp (disch := (first | decide | omega)) only [bX2_copy, jxs, hps, jtsw, jlsw, List.length_cons, List.length_nil, true_and, and_true, true_implies, false_implies, implies_true, not_true_eq_false, not_false_eq_true, false_and, and_false, if_true, if_false, or_true, true_or, or_false, false_or, Classical.not_not, and_self, Int.reduceAdd, Int.reduceMul, Int.reduceSub, Int.reduceNeg, Int.reduceLT, Int.reduceLE, Int.reduceEq, Int.reduceNe, Int.reduceToNat, Nat.reduceAdd, Nat.reduceMul, Nat.reduceSub, Nat.reduceLeDiff, Nat.reduceLT, Nat.reduceEqDiff, reduceIte, Nat.zero_le, Nat.le_refl, Nat.add_zero, Nat.zero_add, twT hT, twV hV]
  refine tw_copy_L hT (Or.inr ⟨rfl, rfl⟩) 3642 0 v (by omega) (by omega) ?_
  simp (disch := (first | decide | omega)) only [jxs, hps, jtsw, jlsw, List.length_cons, List.length_nil, true_and, and_true, true_implies, false_implies, implies_true, not_true_eq_false, not_false_eq_true, false_and, and_false, if_true, if_false, or_true, true_or, or_false, false_or, Classical.not_not, and_self, Int.reduceAdd, Int.reduceMul, Int.reduceSub, Int.reduceNeg, Int.reduceLT, Int.reduceLE, Int.reduceEq, Int.reduceNe, Int.reduceToNat, Nat.reduceAdd, Nat.reduceMul, Nat.reduceSub, Nat.reduceLeDiff, Nat.reduceLT, Nat.reduceEqDiff, reduceIte, Nat.zero_le, Nat.le_refl, Nat.add_zero, Nat.zero_add, twT hT, twV hV]
  (repeat (refine And.intro (by (first | omega | assumption | trivial | (simp only [inI]; omega) | (simp only [inL]; omega) | (refine jb_01) | (exact jb_in))) ?_))
  exact hQ
end TG
