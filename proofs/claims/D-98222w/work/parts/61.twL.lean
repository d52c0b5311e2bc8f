/-! ===== the reference: findLeads ===== -/
set_option maxRecDepth 100000
/-- who changes with whom, by places in a set -/
def tbE (c el : Int → Int) : Int → Int := fun i => c (10 * el (i / 10) + el (i % 10))
def ldE (c : Int → Int) (m n k : Int) : Int := ooA (nitR c m k (dec m n)) m
def clE (c : Int → Int) (m n : Int) : Int := clmR c (dec m n) m
def OEL (v : Int → Int → Int) (m : Int) (c : Int → Int) : Prop := v 539 34 = m ∧ (∀ x, 0 ≤ x → x < m → 0 ≤ v 554 x ∧ v 554 x < 10) ∧ ∀ x y, 0 ≤ x → x < m → 0 ≤ y → y < m → v 548 (10 * v 554 x + v 554 y) = c (10 * x + y) ∧ (0 ≤ c (10 * x + y) ∧ c (10 * x + y) ≤ 1)
theorem OEL.fr {v w : Int → Int → Int} {m : Int} {c : Int → Int} (h : OEL v m c) (h1 : w 539 = v 539) (h2 : w 548 = v 548) (h3 : w 554 = v 554) : OEL w m c := by
  unfold OEL
  rw [h1, h2, h3]
  exact h
/-- the first orders' tables are laid out -/
def FLD (w : Int → Int → Int) (c : Int → Int) (m n : Int) : Prop := ∀ x, 0 ≤ x → x < n → (∀ k, 0 ≤ k → k < 2 → w 552 (2 * x + k) = ldE c m x k) ∧ w 553 x = clE c m x
theorem clE_01 {c : Int → Int} {m n : Int} : 0 ≤ clE c m n ∧ clE c m n ≤ 1 := clmF_01 10 0
section TG
variable {g : jjG} {d : Nat} {T : jjT} {Q : jjQ} {c : Int → Int} {m : Int}
theorem tw_doOrder2 {p : Int} {v : Int → Int → Int} (hT : PT T) (hV : PV v) (hS : OEL v m c ∧ PRM (v 555) m ∧ (0 ≤ p ∧ p + 1 < m) ∧ m ≤ 6) (hQ : Q (.inl (some (vI (c (10 * v 555 p + v 555 (p + 1)))))) (v, T)) : jmet g (d + 1) 0 0 MX2_doOrder [vR 539, vI p] (v, T) Q := by
  obtain ⟨hO, hP, hp, hm⟩ := hS
  have a := hP.1 p (by omega) (by omega)
  have b := hP.1 (p + 1) (by omega) (by omega)
  have o := hO.2.2 (v 555 p) (v 555 (p + 1)) (by omega) (by omega) (by omega) (by omega)
  refine tw_doOrder hT hV ⟨by omega, by omega, by omega, hO.2.1 _ a.1 a.2, hO.2.1 _ b.1 b.2, ?_⟩ ?_
  · rw [o.1]; exact o.2
  · rw [o.1]; exact hQ
theorem tw_fl_3 {k kd : Int} (hT : PT T) (hm : 0 ≤ m ∧ m ≤ 6) (hk : 0 ≤ k ∧ k < fac m) (hkd : 0 ≤ kd ∧ kd ≤ 1) : ∀ (r : Nat) (p : Int) (v : Int → Int → Int), PV v → OEL v m c → PRM (v 555) m → 0 ≤ p → m < p + 2 * r + 1 → p ≤ 20 →
    (∀ w, w 552 = up1 (v 552) (2 * k + kd) (ooA (nitL c m r p (v 555)) m) → (∀ a, a ≠ 552 → a ≠ 555 → w a = v a) → jW bX2_findLeads (g, d + 1, 0, 0, Q) 2 [some (vR 539), some (vI k), some (vI (kd + 1)), none] [] (w, T) 0 0) →
    jW bX2_findLeads (g, d + 1, 0, 0, Q) 3 [some (vR 539), some (vI k), some (vI kd), some (vI p)] [] (v, T) 0 0 := by
  have hf := fac_bd hm.2
  have ex : ∀ (p : Int) (v : Int → Int → Int), PV v → OEL v m c → 0 ≤ p → p ≤ 20 → m ≤ p + 1 →
    (∀ w, w 552 = up1 (v 552) (2 * k + kd) (ooA (v 555) m) → (∀ a, a ≠ 552 → a ≠ 555 → w a = v a) → jW bX2_findLeads (g, d + 1, 0, 0, Q) 2 [some (vR 539), some (vI k), some (vI (kd + 1)), none] [] (w, T) 0 0) →
    jW bX2_findLeads (g, d + 1, 0, 0, Q) 3 [some (vR 539), some (vI k), some (vI kd), some (vI p)] [] (v, T) 0 0 := by
    intro p v hV hO hp hp2 hmp hQ
    have h34 := hO.1
    refine jW_step ?_
    simp (disch := (first | decide | omega)) only [bX2_findLeads, jxs, hps, jtsw, jlsw, List.length_cons, List.length_nil, true_and, and_true, true_implies, false_implies, implies_true, not_true_eq_false, not_false_eq_true, false_and, and_false, if_true, if_false, or_true, true_or, or_false, false_or, Classical.not_not, and_self, Int.reduceAdd, Int.reduceMul, Int.reduceSub, Int.reduceNeg, Int.reduceLT, Int.reduceLE, Int.reduceEq, Int.reduceNe, Int.reduceToNat, Nat.reduceAdd, Nat.reduceMul, Nat.reduceSub, Nat.reduceLeDiff, Nat.reduceLT, Nat.reduceEqDiff, reduceIte, Nat.zero_le, Nat.le_refl, Nat.add_zero, Nat.zero_add, twT hT, twV hV, h34]
    (repeat (refine And.intro (by (first | omega | assumption | trivial | (simp only [inI]; omega) | (simp only [inL]; omega) | (refine jb_01) | (exact jb_in))) ?_))
    (try refine ⟨fun _ => ?_, fun h9 => (by exfalso; omega)⟩)
    (repeat (refine And.intro (by (first | omega | assumption | trivial | (simp only [inI]; omega) | (simp only [inL]; omega) | (refine jb_01) | (exact jb_in))) ?_))
    refine ⟨0, 0, ⟨by omega, by omega⟩, tw_orderOf hT hV (by rw [h34]; exact hm) ?_⟩
    rw [h34]
    simp (disch := (first | decide | omega)) only [jxs, hps, jtsw, jlsw, List.length_cons, List.length_nil, true_and, and_true, true_implies, false_implies, implies_true, not_true_eq_false, not_false_eq_true, false_and, and_false, if_true, if_false, or_true, true_or, or_false, false_or, Classical.not_not, and_self, Int.reduceAdd, Int.reduceMul, Int.reduceSub, Int.reduceNeg, Int.reduceLT, Int.reduceLE, Int.reduceEq, Int.reduceNe, Int.reduceToNat, Nat.reduceAdd, Nat.reduceMul, Nat.reduceSub, Nat.reduceLeDiff, Nat.reduceLT, Nat.reduceEqDiff, reduceIte, Nat.zero_le, Nat.le_refl, Nat.add_zero, Nat.zero_add, twT hT, twV hV]
    (repeat (refine And.intro (by (first | omega | assumption | trivial | (simp only [inI]; omega) | (simp only [inL]; omega) | (refine jb_01) | (exact jb_in))) ?_))
    refine jW_sub (ls' := [some (vR 539), some (vI k), some (vI (kd + 1)), none]) (by simp [jsub]) ?_
    exact hQ _ upA_eq (fun a a1 _ => upA_ne a1)
  intro r
  induction r with
  | zero =>
    intro p v hV hO hP hp hm2 hp2 hQ
    exact ex p v hV hO hp hp2 (by omega) hQ
  | succ r ih =>
    intro p v hV hO hP hp hm2 hp2 hQ
    unfold nitL at hQ
    by_cases h : m ≤ p + 1
    · rw [if_pos h] at hQ
      exact ex p v hV hO hp hp2 h hQ
    · rw [if_neg h] at hQ
      have h34 := hO.1
      refine jW_step ?_
      simp (disch := (first | decide | omega)) only [bX2_findLeads, jxs, hps, jtsw, jlsw, List.length_cons, List.length_nil, true_and, and_true, true_implies, false_implies, implies_true, not_true_eq_false, not_false_eq_true, false_and, and_false, if_true, if_false, or_true, true_or, or_false, false_or, Classical.not_not, and_self, Int.reduceAdd, Int.reduceMul, Int.reduceSub, Int.reduceNeg, Int.reduceLT, Int.reduceLE, Int.reduceEq, Int.reduceNe, Int.reduceToNat, Nat.reduceAdd, Nat.reduceMul, Nat.reduceSub, Nat.reduceLeDiff, Nat.reduceLT, Nat.reduceEqDiff, reduceIte, Nat.zero_le, Nat.le_refl, Nat.add_zero, Nat.zero_add, twT hT, twV hV, h34]
      (repeat (refine And.intro (by (first | omega | assumption | trivial | (simp only [inI]; omega) | (simp only [inL]; omega) | (refine jb_01) | (exact jb_in))) ?_))
      (first | refine ⟨fun h9 => (by exfalso; omega), fun _ => ?_⟩ | intro _)
      refine ⟨0, 0, ⟨by omega, by omega⟩, tw_doOrder2 hT hV ⟨hO, hP, by omega, hm.2⟩ ?_⟩
      simp (disch := (first | decide | omega)) only [jxs, hps, jtsw, jlsw, List.length_cons, List.length_nil, true_and, and_true, true_implies, false_implies, implies_true, not_true_eq_false, not_false_eq_true, false_and, and_false, if_true, if_false, or_true, true_or, or_false, false_or, Classical.not_not, and_self, Int.reduceAdd, Int.reduceMul, Int.reduceSub, Int.reduceNeg, Int.reduceLT, Int.reduceLE, Int.reduceEq, Int.reduceNe, Int.reduceToNat, Nat.reduceAdd, Nat.reduceMul, Nat.reduceSub, Nat.reduceLeDiff, Nat.reduceLT, Nat.reduceEqDiff, reduceIte, Nat.zero_le, Nat.le_refl, Nat.add_zero, Nat.zero_add, twT hT, twV hV]
      refine ⟨fun h2 => ?_, fun h2 => ?_⟩
      · rw [if_pos h2] at hQ
        refine jW_step ?_
        simp (disch := (first | decide | omega)) only [bX2_findLeads, jxs, hps, jtsw, jlsw, List.length_cons, List.length_nil, true_and, and_true, true_implies, false_implies, implies_true, not_true_eq_false, not_false_eq_true, false_and, and_false, if_true, if_false, or_true, true_or, or_false, false_or, Classical.not_not, and_self, Int.reduceAdd, Int.reduceMul, Int.reduceSub, Int.reduceNeg, Int.reduceLT, Int.reduceLE, Int.reduceEq, Int.reduceNe, Int.reduceToNat, Nat.reduceAdd, Nat.reduceMul, Nat.reduceSub, Nat.reduceLeDiff, Nat.reduceLT, Nat.reduceEqDiff, reduceIte, Nat.zero_le, Nat.le_refl, Nat.add_zero, Nat.zero_add, twT hT, twV hV]
        (repeat (refine And.intro (by (first | omega | assumption | trivial | (simp only [inI]; omega) | (simp only [inL]; omega) | (refine jb_01) | (exact jb_in))) ?_))
        exact ih (p + 2) v hV hO hP (by omega) (by omega) (by omega) hQ
      · rw [if_neg h2] at hQ
        refine ⟨0, 0, ⟨by omega, by omega⟩, tw_changeOrder hT hV (by omega) ?_⟩
        simp (disch := (first | decide | omega)) only [jxs, hps, jtsw, jlsw, List.length_cons, List.length_nil, true_and, and_true, true_implies, false_implies, implies_true, not_true_eq_false, not_false_eq_true, false_and, and_false, if_true, if_false, or_true, true_or, or_false, false_or, Classical.not_not, and_self, Int.reduceAdd, Int.reduceMul, Int.reduceSub, Int.reduceNeg, Int.reduceLT, Int.reduceLE, Int.reduceEq, Int.reduceNe, Int.reduceToNat, Nat.reduceAdd, Nat.reduceMul, Nat.reduceSub, Nat.reduceLeDiff, Nat.reduceLT, Nat.reduceEqDiff, reduceIte, Nat.zero_le, Nat.le_refl, Nat.add_zero, Nat.zero_add, twT hT, twV hV]
        refine jW_step ?_
        simp (disch := (first | decide | omega)) only [bX2_findLeads, jxs, hps, jtsw, jlsw, List.length_cons, List.length_nil, true_and, and_true, true_implies, false_implies, implies_true, not_true_eq_false, not_false_eq_true, false_and, and_false, if_true, if_false, or_true, true_or, or_false, false_or, Classical.not_not, and_self, Int.reduceAdd, Int.reduceMul, Int.reduceSub, Int.reduceNeg, Int.reduceLT, Int.reduceLE, Int.reduceEq, Int.reduceNe, Int.reduceToNat, Nat.reduceAdd, Nat.reduceMul, Nat.reduceSub, Nat.reduceLeDiff, Nat.reduceLT, Nat.reduceEqDiff, reduceIte, Nat.zero_le, Nat.le_refl, Nat.add_zero, Nat.zero_add, twT hT, twV hV]
        (repeat (refine And.intro (by (first | omega | assumption | trivial | (simp only [inI]; omega) | (simp only [inL]; omega) | (refine jb_01) | (exact jb_in))) ?_))
        refine ih (p + 2) (upA v 555 (swp (v 555) p)) (by (first | assumption | (repeat (first | assumption | refine PV.A ?_ (by decide) | refine PV.F ?_ ?_ | refine twR.up ?_ (by decide) | refine PV.r ?_)))) (hO.fr (upA_ne (by omega)) (upA_ne (by omega)) (upA_ne (by omega))) (by rw [upA_eq]; exact hP.sw (by omega)) (by omega) (by omega) (by omega) ?_
        rw [upA_eq, upA_ne (by omega)]
        intro w h3 h4
        exact hQ w h3 (fun a a1 a2 => (h4 a a1 a2).trans (upA_ne a2))
theorem tw_fl_2 {k kd : Int} {v : Int → Int → Int} (hT : PT T) (hm : 0 ≤ m ∧ m ≤ 6) (hk : 0 ≤ k ∧ k < fac m) (hkd : 0 ≤ kd ∧ kd ≤ 1) (hV : PV v) (hO : OEL v m c) (hR : ORD (v 551) m (fac m) 0)
    (hQ : ∀ w, w 552 = up1 (v 552) (2 * k + kd) (ldE c m k kd) → (∀ a, a ≠ 552 → a ≠ 555 → w a = v a) → jW bX2_findLeads (g, d + 1, 0, 0, Q) 2 [some (vR 539), some (vI k), some (vI (kd + 1)), none] [] (w, T) 0 0) :
    jW bX2_findLeads (g, d + 1, 0, 0, Q) 2 [some (vR 539), some (vI k), some (vI kd), none] [] (v, T) 0 0 := by
  have hf := fac_bd hm.2
  have h34 := hO.1
  refine jW_step ?_
  simp (disch := (first | decide | omega)) only [bX2_findLeads, jxs, hps, jtsw, jlsw, List.length_cons, List.length_nil, true_and, and_true, true_implies, false_implies, implies_true, not_true_eq_false, not_false_eq_true, false_and, and_false, if_true, if_false, or_true, true_or, or_false, false_or, Classical.not_not, and_self, Int.reduceAdd, Int.reduceMul, Int.reduceSub, Int.reduceNeg, Int.reduceLT, Int.reduceLE, Int.reduceEq, Int.reduceNe, Int.reduceToNat, Nat.reduceAdd, Nat.reduceMul, Nat.reduceSub, Nat.reduceLeDiff, Nat.reduceLT, Nat.reduceEqDiff, reduceIte, Nat.zero_le, Nat.le_refl, Nat.add_zero, Nat.zero_add, twT hT, twV hV]
  (first | refine ⟨fun h9 => (by exfalso; omega), fun _ => ?_⟩ | intro _)
  refine ⟨0, 0, ⟨by omega, by omega⟩, tw_takeOrder hT hV ⟨by omega, by rw [h34]; exact hm⟩ ?_⟩
  rw [h34]
  simp (disch := (first | decide | omega)) only [jxs, hps, jtsw, jlsw, List.length_cons, List.length_nil, true_and, and_true, true_implies, false_implies, implies_true, not_true_eq_false, not_false_eq_true, false_and, and_false, if_true, if_false, or_true, true_or, or_false, false_or, Classical.not_not, and_self, Int.reduceAdd, Int.reduceMul, Int.reduceSub, Int.reduceNeg, Int.reduceLT, Int.reduceLE, Int.reduceEq, Int.reduceNe, Int.reduceToNat, Nat.reduceAdd, Nat.reduceMul, Nat.reduceSub, Nat.reduceLeDiff, Nat.reduceLT, Nat.reduceEqDiff, reduceIte, Nat.zero_le, Nat.le_refl, Nat.add_zero, Nat.zero_add, twT hT, twV hV]
  have e : EQm m (fun i => if 0 ≤ i ∧ i < m then v 551 (6 * k + i) else v 555 i) (dec m k) := by
    intro i i0 i1
    show (if 0 ≤ i ∧ i < m then v 551 (6 * k + i) else v 555 i) = _
    rw [if_pos ⟨i0, i1⟩]
    exact hR k i hk.1 i0 i1 (by omega)
  generalize (fun i => if 0 ≤ i ∧ i < m then v 551 (6 * k + i) else v 555 i) = w0 at *
  have pd := dec_PRM hm hk
  have hP : PRM w0 m := pd.cg (fun i i0 i1 => (e i i0 i1).symm)
  refine tw_fl_3 hT hm hk hkd 6 kd (upA v 555 w0) (by (first | assumption | (repeat (first | assumption | refine PV.A ?_ (by decide) | refine PV.F ?_ ?_ | refine twR.up ?_ (by decide) | refine PV.r ?_)))) (hO.fr (upA_ne (by omega)) (upA_ne (by omega)) (upA_ne (by omega))) (by rw [upA_eq]; exact hP) (by omega) (by omega) (by omega) ?_
  rw [upA_eq, upA_ne (by omega)]
  intro w h1 h2
  have cg := nitL_cg (N := m) (c := c) (c' := c) (m := m) (fun _ _ _ _ _ _ => rfl) 6 kd w0 (dec m k) e (fun i i0 i1 => hP.1 i i0 i1) (by omega)
  refine hQ w ?_ (fun a a1 a2 => (h2 a a1 a2).trans (upA_ne a2))
  rw [h1, ooA_cg cg.1 hm.1]
  rfl
theorem tw_fl_5 {k : Int} (hT : PT T) (hm : 0 ≤ m ∧ m ≤ 6) (hk : 0 ≤ k ∧ k < fac m) : ∀ (r : Nat) (p : Int) (v : Int → Int → Int), PV v → OEL v m c → PRM (v 555) m → 0 ≤ p → m < p + r + 1 → p ≤ 20 → (0 ≤ v 553 k ∧ v 553 k ≤ 1) →
    (∀ w, w 553 = up1 (v 553) k (if v 553 k = 0 then 0 else clmF c (v 555) m r p) → (∀ a, a ≠ 553 → w a = v a) → jW bX2_findLeads (g, d + 1, 0, 0, Q) 1 [some (vR 539), some (vI (k + 1)), none, none] [] (w, T) 0 0) →
    jW bX2_findLeads (g, d + 1, 0, 0, Q) 5 [some (vR 539), some (vI k), some (vI p), none] [] (v, T) 0 0 := by
  have hf := fac_bd hm.2
  have ex : ∀ (p : Int) (v : Int → Int → Int), PV v → OEL v m c → 0 ≤ p → p ≤ 20 → m ≤ p + 1 → (0 ≤ v 553 k ∧ v 553 k ≤ 1) →
    (∀ w, w 553 = up1 (v 553) k (if v 553 k = 0 then 0 else 1) → (∀ a, a ≠ 553 → w a = v a) → jW bX2_findLeads (g, d + 1, 0, 0, Q) 1 [some (vR 539), some (vI (k + 1)), none, none] [] (w, T) 0 0) →
    jW bX2_findLeads (g, d + 1, 0, 0, Q) 5 [some (vR 539), some (vI k), some (vI p), none] [] (v, T) 0 0 := by
    intro p v hV hO hp hp2 hmp hz hQ
    have h34 := hO.1
    refine jW_step ?_
    simp (disch := (first | decide | omega)) only [bX2_findLeads, jxs, hps, jtsw, jlsw, List.length_cons, List.length_nil, true_and, and_true, true_implies, false_implies, implies_true, not_true_eq_false, not_false_eq_true, false_and, and_false, if_true, if_false, or_true, true_or, or_false, false_or, Classical.not_not, and_self, Int.reduceAdd, Int.reduceMul, Int.reduceSub, Int.reduceNeg, Int.reduceLT, Int.reduceLE, Int.reduceEq, Int.reduceNe, Int.reduceToNat, Nat.reduceAdd, Nat.reduceMul, Nat.reduceSub, Nat.reduceLeDiff, Nat.reduceLT, Nat.reduceEqDiff, reduceIte, Nat.zero_le, Nat.le_refl, Nat.add_zero, Nat.zero_add, twT hT, twV hV, h34]
    (repeat (refine And.intro (by (first | omega | assumption | trivial | (simp only [inI]; omega) | (simp only [inL]; omega) | (refine jb_01) | (exact jb_in))) ?_))
    (try refine ⟨fun _ => ?_, fun h9 => (by exfalso; omega)⟩)
    (repeat (refine And.intro (by (first | omega | assumption | trivial | (simp only [inI]; omega) | (simp only [inL]; omega) | (refine jb_01) | (exact jb_in))) ?_))
    refine jW_sub (ls' := [some (vR 539), some (vI (k + 1)), none, none]) (by simp [jsub]) ?_
    refine hQ v ?_ (fun _ _ => rfl)
    have : (if v 553 k = 0 then (0 : Int) else 1) = v 553 k := by split <;> omega
    rw [this, up1_id]
  intro r
  induction r with
  | zero =>
    intro p v hV hO hP hp hm2 hp2 hz hQ
    unfold clmF at hQ
    exact ex p v hV hO hp hp2 (by omega) hz hQ
  | succ r ih =>
    intro p v hV hO hP hp hm2 hp2 hz hQ
    unfold clmF at hQ
    by_cases h : m ≤ p + 1
    · rw [if_pos h] at hQ
      exact ex p v hV hO hp hp2 h hz hQ
    · rw [if_neg h] at hQ
      have h34 := hO.1
      have k7 : ∀ z, (0 ≤ z ∧ z ≤ 1) → (if z = 0 then 0 else clmF c (v 555) m r (p + 1)) = (if v 553 k = 0 then 0 else if c (10 * v 555 p + v 555 (p + 1)) = 0 then clmF c (v 555) m r (p + 1) else 0) → jW bX2_findLeads (g, d + 1, 0, 0, Q) 7 [some (vR 539), some (vI k), some (vI p), none] [vI z, vI k, vR 553] (v, T) 0 0 := by
        intro z z1 hz2
        refine jW_step ?_
        simp (disch := (first | decide | omega)) only [bX2_findLeads, jxs, hps, jtsw, jlsw, List.length_cons, List.length_nil, true_and, and_true, true_implies, false_implies, implies_true, not_true_eq_false, not_false_eq_true, false_and, and_false, if_true, if_false, or_true, true_or, or_false, false_or, Classical.not_not, and_self, Int.reduceAdd, Int.reduceMul, Int.reduceSub, Int.reduceNeg, Int.reduceLT, Int.reduceLE, Int.reduceEq, Int.reduceNe, Int.reduceToNat, Nat.reduceAdd, Nat.reduceMul, Nat.reduceSub, Nat.reduceLeDiff, Nat.reduceLT, Nat.reduceEqDiff, reduceIte, Nat.zero_le, Nat.le_refl, Nat.add_zero, Nat.zero_add, twT hT, twV hV]
        (repeat (refine And.intro (by (first | omega | assumption | trivial | (simp only [inI]; omega) | (simp only [inL]; omega) | (refine jb_01) | (exact jb_in))) ?_))
        refine ih (p + 1) (upA v 553 (up1 (v 553) k z)) (by (first | assumption | (repeat (first | assumption | refine PV.A ?_ (by decide) | refine PV.F ?_ ?_ | refine twR.up ?_ (by decide) | refine PV.r ?_)))) (hO.fr (upA_ne (by omega)) (upA_ne (by omega)) (upA_ne (by omega))) (by rw [upA_ne (by omega)]; exact hP) (by omega) (by omega) (by omega) (by rw [upA_eq, up1_eq]; exact z1) ?_
        rw [upA_eq, upA_ne (by omega), up1_eq, up1_same, hz2]
        intro w h3 h4
        exact hQ w h3 (fun a a1 => (h4 a a1).trans (upA_ne a1))
      have k6 : (v 553 k = 0 ∨ c (10 * v 555 p + v 555 (p + 1)) ≠ 0) → jW bX2_findLeads (g, d + 1, 0, 0, Q) 6 [some (vR 539), some (vI k), some (vI p), none] [vI k, vR 553] (v, T) 0 0 := by
        intro hh
        refine jW_step ?_
        simp (disch := (first | decide | omega)) only [bX2_findLeads, jxs, hps, jtsw, jlsw, List.length_cons, List.length_nil, true_and, and_true, true_implies, false_implies, implies_true, not_true_eq_false, not_false_eq_true, false_and, and_false, if_true, if_false, or_true, true_or, or_false, false_or, Classical.not_not, and_self, Int.reduceAdd, Int.reduceMul, Int.reduceSub, Int.reduceNeg, Int.reduceLT, Int.reduceLE, Int.reduceEq, Int.reduceNe, Int.reduceToNat, Nat.reduceAdd, Nat.reduceMul, Nat.reduceSub, Nat.reduceLeDiff, Nat.reduceLT, Nat.reduceEqDiff, reduceIte, Nat.zero_le, Nat.le_refl, Nat.add_zero, Nat.zero_add, twT hT, twV hV]
        refine k7 0 (by omega) ?_
        rw [if_pos rfl]
        by_cases h0 : v 553 k = 0
        · rw [if_pos h0]
        · rw [if_neg h0, if_neg (hh.resolve_left h0)]
      refine jW_step ?_
      simp (disch := (first | decide | omega)) only [bX2_findLeads, jxs, hps, jtsw, jlsw, List.length_cons, List.length_nil, true_and, and_true, true_implies, false_implies, implies_true, not_true_eq_false, not_false_eq_true, false_and, and_false, if_true, if_false, or_true, true_or, or_false, false_or, Classical.not_not, and_self, Int.reduceAdd, Int.reduceMul, Int.reduceSub, Int.reduceNeg, Int.reduceLT, Int.reduceLE, Int.reduceEq, Int.reduceNe, Int.reduceToNat, Nat.reduceAdd, Nat.reduceMul, Nat.reduceSub, Nat.reduceLeDiff, Nat.reduceLT, Nat.reduceEqDiff, reduceIte, Nat.zero_le, Nat.le_refl, Nat.add_zero, Nat.zero_add, twT hT, twV hV, h34]
      (repeat (refine And.intro (by (first | omega | assumption | trivial | (simp only [inI]; omega) | (simp only [inL]; omega) | (refine jb_01) | (exact jb_in))) ?_))
      (first | refine ⟨fun h9 => (by exfalso; omega), fun _ => ?_⟩ | intro _)
      (repeat (refine And.intro (by (first | omega | assumption | trivial | (simp only [inI]; omega) | (simp only [inL]; omega) | (refine jb_01) | (exact jb_in))) ?_))
      refine ⟨fun h2 => ?_, fun h2 => ?_⟩
      · exact k6 (Or.inl h2)
      · refine ⟨0, 0, ⟨by omega, by omega⟩, tw_doOrder2 hT hV ⟨hO, hP, by omega, hm.2⟩ ?_⟩
        simp (disch := (first | decide | omega)) only [jxs, hps, jtsw, jlsw, List.length_cons, List.length_nil, true_and, and_true, true_implies, false_implies, implies_true, not_true_eq_false, not_false_eq_true, false_and, and_false, if_true, if_false, or_true, true_or, or_false, false_or, Classical.not_not, and_self, Int.reduceAdd, Int.reduceMul, Int.reduceSub, Int.reduceNeg, Int.reduceLT, Int.reduceLE, Int.reduceEq, Int.reduceNe, Int.reduceToNat, Nat.reduceAdd, Nat.reduceMul, Nat.reduceSub, Nat.reduceLeDiff, Nat.reduceLT, Nat.reduceEqDiff, reduceIte, Nat.zero_le, Nat.le_refl, Nat.add_zero, Nat.zero_add, twT hT, twV hV]
        refine ⟨fun h3 => ?_, fun h3 => ?_⟩
        · exact k6 (Or.inr h3)
        · refine k7 1 (by omega) ?_
          rw [if_neg (by omega), if_neg h2, if_pos (by omega)]
theorem tw_fl_1 (hT : PT T) (hm : 0 ≤ m ∧ m ≤ 6) : ∀ (r : Nat) (n : Int) (v : Int → Int → Int), PV v → OEL v m c → v 539 35 = fac m → ORD (v 551) m (fac m) 0 → 0 ≤ n → n + r = fac m → FLD v c m n →
    (∀ w, FLD w c m (fac m) → (∀ a, a ≠ 552 → a ≠ 553 → a ≠ 555 → w a = v a) → Q (.inl none) (w, T)) →
    jW bX2_findLeads (g, d + 1, 0, 0, Q) 1 [some (vR 539), some (vI n), none, none] [] (v, T) 0 0 := by
  have hf := fac_bd hm.2
  intro r
  induction r with
  | zero =>
    intro n v hV hO h35 hR hn hr hF hQ
    refine jW_step ?_
    simp (disch := (first | decide | omega)) only [bX2_findLeads, jxs, hps, jtsw, jlsw, List.length_cons, List.length_nil, true_and, and_true, true_implies, false_implies, implies_true, not_true_eq_false, not_false_eq_true, false_and, and_false, if_true, if_false, or_true, true_or, or_false, false_or, Classical.not_not, and_self, Int.reduceAdd, Int.reduceMul, Int.reduceSub, Int.reduceNeg, Int.reduceLT, Int.reduceLE, Int.reduceEq, Int.reduceNe, Int.reduceToNat, Nat.reduceAdd, Nat.reduceMul, Nat.reduceSub, Nat.reduceLeDiff, Nat.reduceLT, Nat.reduceEqDiff, reduceIte, Nat.zero_le, Nat.le_refl, Nat.add_zero, Nat.zero_add, twT hT, twV hV, h35]
    (repeat (refine And.intro (by (first | omega | assumption | trivial | (simp only [inI]; omega) | (simp only [inL]; omega) | (refine jb_01) | (exact jb_in))) ?_))
    (try refine ⟨fun _ => ?_, fun h9 => (by exfalso; omega)⟩)
    (repeat (refine And.intro (by (first | omega | assumption | trivial | (simp only [inI]; omega) | (simp only [inL]; omega) | (refine jb_01) | (exact jb_in))) ?_))
    exact hQ v (by rwa [show fac m = n by omega]) (fun _ _ _ _ => rfl)
  | succ r ih =>
    intro n v hV hO h35 hR hn hr hF hQ
    have hVv := hV
    have hk : 0 ≤ n ∧ n < fac m := ⟨hn, by omega⟩
    refine jW_step ?_
    simp (disch := (first | decide | omega)) only [bX2_findLeads, jxs, hps, jtsw, jlsw, List.length_cons, List.length_nil, true_and, and_true, true_implies, false_implies, implies_true, not_true_eq_false, not_false_eq_true, false_and, and_false, if_true, if_false, or_true, true_or, or_false, false_or, Classical.not_not, and_self, Int.reduceAdd, Int.reduceMul, Int.reduceSub, Int.reduceNeg, Int.reduceLT, Int.reduceLE, Int.reduceEq, Int.reduceNe, Int.reduceToNat, Nat.reduceAdd, Nat.reduceMul, Nat.reduceSub, Nat.reduceLeDiff, Nat.reduceLT, Nat.reduceEqDiff, reduceIte, Nat.zero_le, Nat.le_refl, Nat.add_zero, Nat.zero_add, twT hT, twV hV, h35]
    (repeat (refine And.intro (by (first | omega | assumption | trivial | (simp only [inI]; omega) | (simp only [inL]; omega) | (refine jb_01) | (exact jb_in))) ?_))
    (first | refine ⟨fun h9 => (by exfalso; omega), fun _ => ?_⟩ | intro _)
    refine tw_fl_2 (kd := 0) hT hm hk (by omega) hV hO hR ?_
    intro w h1 h2
    have hVw : PV w := hV.fr (fun a ha => h2 a (fun e => by subst e; revert ha; decide) (fun e => by subst e; revert ha; decide))
    have hOw : OEL w m c := hO.fr (h2 539 (by omega) (by omega)) (h2 548 (by omega) (by omega)) (h2 554 (by omega) (by omega))
    refine tw_fl_2 (kd := 1) hT hm hk (by omega) hVw hOw (by rw [h2 551 (by omega) (by omega)]; exact hR) ?_
    intro u h3 h4
    have hVu : PV u := hVw.fr (fun a ha => h4 a (fun e => by subst e; revert ha; decide) (fun e => by subst e; revert ha; decide))
    have hOu : OEL u m c := hOw.fr (h4 539 (by omega) (by omega)) (h4 548 (by omega) (by omega)) (h4 554 (by omega) (by omega))
    have ou : ∀ a, a ≠ 552 → a ≠ 555 → u a = v a := fun a a1 a2 => (h4 a a1 a2).trans (h2 a a1 a2)
    have h34 := hOu.1
    have hV := hVu
    refine jW_step ?_
    simp (disch := (first | decide | omega)) only [bX2_findLeads, jxs, hps, jtsw, jlsw, List.length_cons, List.length_nil, true_and, and_true, true_implies, false_implies, implies_true, not_true_eq_false, not_false_eq_true, false_and, and_false, if_true, if_false, or_true, true_or, or_false, false_or, Classical.not_not, and_self, Int.reduceAdd, Int.reduceMul, Int.reduceSub, Int.reduceNeg, Int.reduceLT, Int.reduceLE, Int.reduceEq, Int.reduceNe, Int.reduceToNat, Nat.reduceAdd, Nat.reduceMul, Nat.reduceSub, Nat.reduceLeDiff, Nat.reduceLT, Nat.reduceEqDiff, reduceIte, Nat.zero_le, Nat.le_refl, Nat.add_zero, Nat.zero_add, twT hT, twV hV]
    (try refine ⟨fun _ => ?_, fun h9 => (by exfalso; omega)⟩)
    refine ⟨0, 0, ⟨by omega, by omega⟩, tw_takeOrder hT hV ⟨by omega, by rw [h34]; exact hm⟩ ?_⟩
    rw [h34, ou 551 (by omega) (by omega)]
    simp (disch := (first | decide | omega)) only [jxs, hps, jtsw, jlsw, List.length_cons, List.length_nil, true_and, and_true, true_implies, false_implies, implies_true, not_true_eq_false, not_false_eq_true, false_and, and_false, if_true, if_false, or_true, true_or, or_false, false_or, Classical.not_not, and_self, Int.reduceAdd, Int.reduceMul, Int.reduceSub, Int.reduceNeg, Int.reduceLT, Int.reduceLE, Int.reduceEq, Int.reduceNe, Int.reduceToNat, Nat.reduceAdd, Nat.reduceMul, Nat.reduceSub, Nat.reduceLeDiff, Nat.reduceLT, Nat.reduceEqDiff, reduceIte, Nat.zero_le, Nat.le_refl, Nat.add_zero, Nat.zero_add, twT hT, twV hV]
    (repeat (refine And.intro (by (first | omega | assumption | trivial | (simp only [inI]; omega) | (simp only [inL]; omega) | (refine jb_01) | (exact jb_in))) ?_))
    have e : EQm m (fun i => if 0 ≤ i ∧ i < m then v 551 (6 * n + i) else u 555 i) (dec m n) := by
      intro i i0 i1
      show (if 0 ≤ i ∧ i < m then v 551 (6 * n + i) else u 555 i) = _
      rw [if_pos ⟨i0, i1⟩]
      exact hR n i hk.1 i0 i1 (by omega)
    generalize (fun i => if 0 ≤ i ∧ i < m then v 551 (6 * n + i) else u 555 i) = w0 at *
    have hP : PRM w0 m := (dec_PRM hm hk).cg (fun i i0 i1 => (e i i0 i1).symm)
    have ec : clmF c w0 m 10 0 = clE c m n := clmF_cg (N := m) (fun _ _ _ _ _ _ => rfl) e (fun i i0 i1 => hP.1 i i0 i1) 10 0 (by omega)
    refine tw_fl_5 hT hm hk 10 0 (upA (upA u 553 (up1 (u 553) n 1)) 555 w0) (by (first | assumption | (repeat (first | assumption | refine PV.A ?_ (by decide) | refine PV.F ?_ ?_ | refine twR.up ?_ (by decide) | refine PV.r ?_)))) (hOu.fr (by rw [upA_ne (by omega), upA_ne (by omega)]) (by rw [upA_ne (by omega), upA_ne (by omega)]) (by rw [upA_ne (by omega), upA_ne (by omega)])) (by rw [upA_eq]; exact hP) (by omega) (by omega) (by omega) (by rw [upA_ne (by omega), upA_eq, up1_eq]; omega) ?_
    rw [upA_eq, upA_ne (by omega), upA_eq, up1_eq, up1_same, if_neg (by omega), ec]
    intro y h5 h6
    have oy : ∀ a, a ≠ 552 → a ≠ 553 → a ≠ 555 → y a = v a := fun a a1 a2 a3 => by rw [h6 a a2, upA_ne a3, upA_ne a2, ou a a1 a3]
    have y52 : y 552 = u 552 := by rw [h6 552 (by omega), upA_ne (by omega), upA_ne (by omega)]
    refine ih (n + 1) y (hVv.fr (fun a ha => oy a (fun e => by subst e; revert ha; decide) (fun e => by subst e; revert ha; decide) (fun e => by subst e; revert ha; decide))) (hO.fr (oy 539 (by omega) (by omega) (by omega)) (oy 548 (by omega) (by omega) (by omega)) (oy 554 (by omega) (by omega) (by omega))) (by rw [oy 539 (by omega) (by omega) (by omega)]; exact h35) (by rw [oy 551 (by omega) (by omega) (by omega)]; exact hR) (by omega) (by omega) ?_ ?_
    · intro x x0 x1
      by_cases e1 : x = n
      · refine ⟨fun kk k0 k1 => ?_, by rw [h5, e1, up1_eq]⟩
        rw [y52, h3, e1]
        by_cases e2 : kk = 1
        · rw [e2, up1_eq]
        · rw [up1_ne (by omega), h1, show kk = 0 by omega, up1_eq]
      · have q := hF x x0 (by omega)
        refine ⟨fun kk k0 k1 => ?_, ?_⟩
        · rw [y52, h3, up1_ne (by omega), h1, up1_ne (by omega)]
          exact q.1 kk k0 k1
        · rw [h5, up1_ne e1, ou 553 (by omega) (by omega)]
          exact q.2
    · intro w2 h7 h8
      exact hQ w2 h7 (fun a a1 a2 a3 => (h8 a a1 a2 a3).trans (oy a a1 a2 a3))
theorem tw_findLeads {v : Int → Int → Int} (hT : PT T) (hV : PV v) (hS : (0 ≤ m ∧ m ≤ 6) ∧ OEL v m c ∧ v 539 35 = fac m ∧ ORD (v 551) m (fac m) 0) (hQ : ∀ w, FLD w c m (fac m) → (∀ a, a ≠ 552 → a ≠ 553 → a ≠ 555 → w a = v a) → Q (.inl none) (w, T)) : jmet g (d + 2) 0 0 MX2_findLeads [vR 539] (v, T) Q := by
  obtain ⟨hm, hO, h35, hR⟩ := hS
  have hf := fac_bd hm.2
  refine jmet_of (ls := [some (vR 539), none, none, none]) sX2_findLeads rfl (by decide +kernel) (by decide) rfl (by simp [jent]) ?_
  refine jW_step ?_
  simp (disch := (first | decide | omega)) only [bX2_findLeads, jxs, hps, jtsw, jlsw, List.length_cons, List.length_nil, true_and, and_true, true_implies, false_implies, implies_true, not_true_eq_false, not_false_eq_true, false_and, and_false, if_true, if_false, or_true, true_or, or_false, false_or, Classical.not_not, and_self, Int.reduceAdd, Int.reduceMul, Int.reduceSub, Int.reduceNeg, Int.reduceLT, Int.reduceLE, Int.reduceEq, Int.reduceNe, Int.reduceToNat, Nat.reduceAdd, Nat.reduceMul, Nat.reduceSub, Nat.reduceLeDiff, Nat.reduceLT, Nat.reduceEqDiff, reduceIte, Nat.zero_le, Nat.le_refl, Nat.add_zero, Nat.zero_add, twT hT, twV hV]
  exact tw_fl_1 hT hm (fac m).toNat 0 v hV hO h35 hR (by omega) (by omega) (fun x x0 x1 => by omega) hQ
end TG
