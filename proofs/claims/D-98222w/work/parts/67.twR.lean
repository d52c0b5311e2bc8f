/-! ===== the reference: a shelf's orders ===== -/
set_option maxRecDepth 100000
theorem lwF_mon {el w : Int → Int} {M m p : Int} (hM : MON el M) (hw : ∀ i, 0 ≤ i → i < m → 0 ≤ w i ∧ w i < M) (hp : 0 ≤ p ∧ p < m) : ∀ (n : Nat) (q : Int), 0 ≤ q → q + n ≤ m → lwF (fun i => el (w i)) p n q = lwF w p n q
  | 0, _, _, _ => rfl
  | n + 1, q, hq, hn => by
    unfold lwF
    rw [lwF_mon hM hw hp n (q + 1) (by omega) (by omega)]
    have a := hw p hp.1 hp.2
    have b := hw q hq (by omega)
    have e : (el (w q) < el (w p)) ↔ (w q < w p) := by
      constructor
      · intro h
        rcases Int.lt_trichotomy (w q) (w p) with g | g | g
        · exact g
        · rw [g] at h; omega
        · have := hM (w p) (w q) a.1 g b.2; omega
      · intro h
        exact hM (w q) (w p) b.1 h a.2
    by_cases h : w q < w p
    · rw [if_pos h, if_pos (e.2 h)]
    · rw [if_neg h, if_neg (fun g => h (e.1 g))]
theorem ooF_mon {el w : Int → Int} {M m : Int} (hM : MON el M) (hw : ∀ i, 0 ≤ i → i < m → 0 ≤ w i ∧ w i < M) : ∀ (n : Nat) (p x : Int), 0 ≤ p → m = p + n → ooF (fun i => el (w i)) m n p x = ooF w m n p x
  | 0, _, _, _, _ => rfl
  | n + 1, p, x, hp, hn => by
    unfold ooF
    rw [lwF_mon hM hw ⟨hp, by omega⟩ (m - p - 1).toNat (p + 1) (by omega) (by omega)]
    exact ooF_mon hM hw n (p + 1) _ (by omega) (by omega)
theorem ooA_mon {el w : Int → Int} {M m : Int} (hm : 0 ≤ m) (hM : MON el M) (hw : ∀ i, 0 ≤ i → i < m → 0 ≤ w i ∧ w i < M) : ooA (fun i => el (w i)) m = ooA w m := ooF_mon hM hw m.toNat 0 0 (by omega) (by omega)
theorem lt_bits {x : Int} {N : Nat} (h0 : 0 ≤ x) : ∀ k : Nat, x < 2 ^ (N + k) → (∀ j, N ≤ j → j < N + k → x / 2 ^ j % 2 = 0) → x < 2 ^ N
  | 0, h, _ => h
  | k + 1, h, hb => by
    refine lt_bits h0 k ?_ (fun j j0 j1 => hb j j0 (by omega))
    have z := hb (N + k) (by omega) (by omega)
    have e : (2 : Int) ^ (N + (k + 1)) = 2 ^ (N + k) * 2 := by rw [← Nat.add_assoc, Int.pow_succ]
    rw [e] at h
    have p0 : (0 : Int) < 2 ^ (N + k) := Int.pow_pos (by omega)
    have q1 : x / 2 ^ (N + k) < 2 := Int.ediv_lt_of_lt_mul p0 (by omega)
    have q0 : 0 ≤ x / 2 ^ (N + k) := Int.ediv_nonneg h0 (by omega)
    have q2 : x / 2 ^ (N + k) = 0 := by omega
    have := Int.emod_add_mul_ediv x (2 ^ (N + k))
    rw [q2, Int.mul_zero, Int.add_zero] at this
    rw [← this]
    exact Int.emod_lt_of_pos x p0
/-- a shelf's set: its books are the shelf's -/
theorem shs_all {A X : Int → Int} {s : Int} (hB : TB A) (hH : SH A) (hs : 0 ≤ s ∧ s < 3) : (0 ≤ shsA A s ∧ shsA A s < 2 ^ (A 0).toNat) ∧ (elZ (A 0) (shsA A s)).2 = A (13 + s) ∧ ∀ p, 0 ≤ p → p < A (13 + s) → ∃ k, (0 ≤ k ∧ k < A (13 + s)) ∧ (elZ (A 0) (shsA A s)).1 k = A (16 + 10 * s + p) := by
  have h0 := hB.1
  have hm := hB.2.2.2.2.2.1 (13 + s) (by omega) (by omega)
  have h1 : ∀ p, 0 ≤ p → p < A (13 + s) → 0 ≤ A (16 + 10 * s + p) ∧ A (16 + 10 * s + p) < A 0 := fun p p0 p1 => ⟨(hB.2.2.2.2.2.2 (16 + 10 * s + p) (by omega) (by omega)).1, (hH.1 s p hs.1 hs.2 p0 p1).1⟩
  have sp := shsF_sp h0.2 h1 (fun p q a b c e f => hH.2.1 s p q hs.1 hs.2 a b c e f) (A (13 + s)).toNat 0 0 (by omega) (by omega) (by omega) (fun j => ⟨fun h => by
    rw [Int.zero_ediv] at h
    omega, fun ⟨q, q1, q2⟩ => by omega⟩) rfl
  have e : shsF A s (A (13 + s)).toNat 0 0 = shsA A s := rfl
  rw [e] at sp
  have lt : shsA A s < 2 ^ (A 0).toNat := by
    refine lt_bits sp.1.1 (10 - (A 0).toNat) ?_ (fun j j0 j1 => ?_)
    · rw [show (A 0).toNat + (10 - (A 0).toNat) = 10 by omega]
      exact sp.1.2
    · have : ¬ shsA A s / 2 ^ j % 2 = 1 := by
        intro h
        obtain ⟨q, q1, q2⟩ := (sp.2.1 j).1 h
        have := h1 q q1.1 q1.2
        omega
      omega
  have em := elZ_bc h0 sp.1.1 lt
  rw [sp.2.2] at em
  refine ⟨⟨sp.1.1, lt⟩, em, fun p p0 p1 => ?_⟩
  have b := h1 p p0 p1
  have hb := (sp.2.1 (A (16 + 10 * s + p)).toNat).2 ⟨p, ⟨p0, p1⟩, by omega⟩
  obtain ⟨k, k1, k2⟩ := elZ_in (N := A 0) hb ⟨b.1, b.2⟩
  exact ⟨k, ⟨k1.1, by omega⟩, k2⟩
/-- the number of the order that stands on a shelf -/
def fstA (A : Int → Int) (s : Int) : Int := ooA (fun p => A (16 + 10 * s + p)) (A (13 + s))
theorem fst_of {A : Int → Int} {s : Int} {w : Int → Int} (hB : TB A) (hH : SH A) (hs : 0 ≤ s ∧ s < 3) (hw : ∀ p, 0 ≤ p → p < A (13 + s) → (0 ≤ w p ∧ w p < A (13 + s)) ∧ (elZ (A 0) (shsA A s)).1 (w p) = A (16 + 10 * s + p)) : ooA w (A (13 + s)) = fstA A s ∧ PRM w (A (13 + s)) := by
  have hm := hB.2.2.2.2.2.1 (13 + s) (by omega) (by omega)
  have al := shs_all (X := A) hB hH hs
  have sp := (elZ_sp (N := A 0) (s := shsA A s) hB.1.1).2.1
  rw [al.2.1] at sp
  constructor
  · rw [← ooA_mon hm.1 sp (fun i i0 i1 => (hw i i0 i1).1)]
    exact ooA_cg (fun i i0 i1 => (hw i i0 i1).2) hm.1
  · refine ⟨fun p p0 p1 => (hw p p0 p1).1, fun p q p0 pq q1 e => ?_⟩
    have a := (hw p p0 (by omega)).2
    have b := (hw q (by omega) q1).2
    rw [e, b] at a
    have := hH.2.1 s q p hs.1 hs.2 (by omega) q1 p0 (by omega) a
    omega
theorem fst_dec {A : Int → Int} {s : Int} (hB : TB A) (hH : SH A) (hs : 0 ≤ s ∧ s < 3) (h6 : A (13 + s) ≤ 6) : (0 ≤ fstA A s ∧ fstA A s < fac (A (13 + s))) ∧ ∀ p, 0 ≤ p → p < A (13 + s) → (elZ (A 0) (shsA A s)).1 (dec (A (13 + s)) (fstA A s) p) = A (16 + 10 * s + p) := by
  have hm := hB.2.2.2.2.2.1 (13 + s) (by omega) (by omega)
  have al := shs_all (X := A) hB hH hs
  have hw : ∀ p, 0 ≤ p → p < A (13 + s) → (0 ≤ (fun p => if h : 0 ≤ p ∧ p < A (13 + s) then Classical.choose (al.2.2 p h.1 h.2) else 0) p ∧ (fun p => if h : 0 ≤ p ∧ p < A (13 + s) then Classical.choose (al.2.2 p h.1 h.2) else 0) p < A (13 + s)) ∧ (elZ (A 0) (shsA A s)).1 ((fun p => if h : 0 ≤ p ∧ p < A (13 + s) then Classical.choose (al.2.2 p h.1 h.2) else 0) p) = A (16 + 10 * s + p) := by
    intro p p0 p1
    dsimp only
    rw [dif_pos ⟨p0, p1⟩]
    exact Classical.choose_spec (al.2.2 p p0 p1)
  generalize (fun p => if h : 0 ≤ p ∧ p < A (13 + s) then Classical.choose (al.2.2 p h.1 h.2) else 0) = w at hw
  have f := fst_of hB hH hs hw
  have r := prm_dec ⟨hm.1, h6⟩ f.2
  rw [f.1] at r
  refine ⟨r.1, fun p p0 p1 => ?_⟩
  rw [← r.2 p p0 p1]
  exact (hw p p0 p1).2
section TG
variable {g : jjG} {d : Nat} {T : jjT} {Q : jjQ}
theorem tw_ls_1 {s N : Int} {v : Int → Int → Int} (hT : PT T) (hV : PV v) (hs : 0 ≤ s ∧ s < 3) (hm : v 540 (13 + s) ≤ 10) (hb : ∀ p, 0 ≤ p → p < v 540 (13 + s) → 0 ≤ v 540 (16 + 10 * s + p) ∧ v 540 (16 + 10 * s + p) < 10) : ∀ (n : Nat) (p x : Int), 0 ≤ p → p + n = v 540 (13 + s) → (0 ≤ x ∧ x < 1024) →
    jW bX2_layShelf (g, d + 8, 0, 0, Q) 1 [some (vR 539), some (vI s), some (vI (shsF (v 540) s n p x)), some (vI (v 540 (13 + s))), none] [] (v, T) 0 0 →
    jW bX2_layShelf (g, d + 8, 0, 0, Q) 1 [some (vR 539), some (vI s), some (vI x), some (vI p), none] [] (v, T) 0 0 := by
  intro n
  induction n with
  | zero =>
    intro p x hp hn hx hQ
    unfold shsF at hQ
    rwa [show v 540 (13 + s) = p by omega] at hQ
  | succ n ih =>
    intro p x hp hn hx hQ
    unfold shsF at hQ
    have b := hb p hp (by omega)
    have jb := jor_bits hx b
    refine jW_step ?_
    simp (disch := (first | decide | omega)) only [bX2_layShelf, jxs, hps, jtsw, jlsw, List.length_cons, List.length_nil, true_and, and_true, true_implies, false_implies, implies_true, not_true_eq_false, not_false_eq_true, false_and, and_false, if_true, if_false, or_true, true_or, or_false, false_or, Classical.not_not, and_self, Int.reduceAdd, Int.reduceMul, Int.reduceSub, Int.reduceNeg, Int.reduceLT, Int.reduceLE, Int.reduceEq, Int.reduceNe, Int.reduceToNat, Nat.reduceAdd, Nat.reduceMul, Nat.reduceSub, Nat.reduceLeDiff, Nat.reduceLT, Nat.reduceEqDiff, reduceIte, Nat.zero_le, Nat.le_refl, Nat.add_zero, Nat.zero_add, twT hT, twV hV]
    (repeat (refine And.intro (by (first | omega | assumption | trivial | (simp only [inI]; omega) | (simp only [inL]; omega) | (refine jb_01) | (exact jb_in))) ?_))
    (first | refine ⟨fun h9 => (by exfalso; omega), fun _ => ?_⟩ | intro _)
    refine ⟨0, 0, ⟨by omega, by omega⟩, tw_bookAt hT (by (first | assumption | (repeat (first | assumption | refine PV.A ?_ (by decide) | refine PV.F ?_ ?_ | refine twR.up ?_ (by decide) | refine PV.r ?_)))) (by (first | omega | assumption | trivial | (simp only [inI]; omega) | (simp only [inL]; omega) | (refine jb_01) | (exact jb_in))) ?_⟩
    simp (disch := (first | decide | omega)) only [jxs, hps, jtsw, jlsw, List.length_cons, List.length_nil, true_and, and_true, true_implies, false_implies, implies_true, not_true_eq_false, not_false_eq_true, false_and, and_false, if_true, if_false, or_true, true_or, or_false, false_or, Classical.not_not, and_self, Int.reduceAdd, Int.reduceMul, Int.reduceSub, Int.reduceNeg, Int.reduceLT, Int.reduceLE, Int.reduceEq, Int.reduceNe, Int.reduceToNat, Nat.reduceAdd, Nat.reduceMul, Nat.reduceSub, Nat.reduceLeDiff, Nat.reduceLT, Nat.reduceEqDiff, reduceIte, Nat.zero_le, Nat.le_refl, Nat.add_zero, Nat.zero_add, twT hT, twV hV]
    rw [jshl_1 b.1 (by omega)]
    (repeat (refine And.intro (by (first | omega | assumption | trivial | (simp only [inI]; omega) | (simp only [inL]; omega) | (refine jb_01) | (exact jb_in))) ?_))
    exact ih (p + 1) _ (by omega) (by omega) jb.1 hQ
theorem tw_ls_3 {s S p k m : Int} {el : Int → Int} {v : Int → Int → Int} (hT : PT T) (hV : PV v) (hs : 0 ≤ s ∧ s < 3) (hp : 0 ≤ p ∧ p < 6) (hm : m ≤ 6) (hM : MON el m) (he : EQm m (v 554) el) (hk : (0 ≤ k ∧ k < m) ∧ el k = v 540 (16 + 10 * s + p))
    (hQ : jW bX2_layShelf (g, d + 8, 0, 0, Q) 2 [some (vR 539), some (vI s), some (vI S), some (vI (p + 1)), none] [] (upA v 555 (up1 (v 555) p k), T) 0 0) : ∀ (n : Nat) (e : Int), 0 ≤ e → e + n = k →
    jW bX2_layShelf (g, d + 8, 0, 0, Q) 3 [some (vR 539), some (vI s), some (vI S), some (vI p), some (vI e)] [] (v, T) 0 0 := by
  intro n
  induction n with
  | zero =>
    intro e e0 en
    have ek : e = k := by omega
    have e1 : v 554 e = v 540 (16 + 10 * s + p) := by rw [ek, he k hk.1.1 hk.1.2]; exact hk.2
    refine jW_step ?_
    simp (disch := (first | decide | omega)) only [bX2_layShelf, jxs, hps, jtsw, jlsw, List.length_cons, List.length_nil, true_and, and_true, true_implies, false_implies, implies_true, not_true_eq_false, not_false_eq_true, false_and, and_false, if_true, if_false, or_true, true_or, or_false, false_or, Classical.not_not, and_self, Int.reduceAdd, Int.reduceMul, Int.reduceSub, Int.reduceNeg, Int.reduceLT, Int.reduceLE, Int.reduceEq, Int.reduceNe, Int.reduceToNat, Nat.reduceAdd, Nat.reduceMul, Nat.reduceSub, Nat.reduceLeDiff, Nat.reduceLT, Nat.reduceEqDiff, reduceIte, Nat.zero_le, Nat.le_refl, Nat.add_zero, Nat.zero_add, twT hT, twV hV]
    (repeat (refine And.intro (by (first | omega | assumption | trivial | (simp only [inI]; omega) | (simp only [inL]; omega) | (refine jb_01) | (exact jb_in))) ?_))
    refine ⟨0, 0, ⟨by omega, by omega⟩, tw_bookAt hT (by (first | assumption | (repeat (first | assumption | refine PV.A ?_ (by decide) | refine PV.F ?_ ?_ | refine twR.up ?_ (by decide) | refine PV.r ?_)))) (by (first | omega | assumption | trivial | (simp only [inI]; omega) | (simp only [inL]; omega) | (refine jb_01) | (exact jb_in))) ?_⟩
    simp (disch := (first | decide | omega)) only [jxs, hps, jtsw, jlsw, List.length_cons, List.length_nil, true_and, and_true, true_implies, false_implies, implies_true, not_true_eq_false, not_false_eq_true, false_and, and_false, if_true, if_false, or_true, true_or, or_false, false_or, Classical.not_not, and_self, Int.reduceAdd, Int.reduceMul, Int.reduceSub, Int.reduceNeg, Int.reduceLT, Int.reduceLE, Int.reduceEq, Int.reduceNe, Int.reduceToNat, Nat.reduceAdd, Nat.reduceMul, Nat.reduceSub, Nat.reduceLeDiff, Nat.reduceLT, Nat.reduceEqDiff, reduceIte, Nat.zero_le, Nat.le_refl, Nat.add_zero, Nat.zero_add, twT hT, twV hV]
    refine ⟨fun _ => ?_, fun h => absurd e1 h⟩
    (repeat (refine And.intro (by (first | omega | assumption | trivial | (simp only [inI]; omega) | (simp only [inL]; omega) | (refine jb_01) | (exact jb_in))) ?_))
    rw [ek]
    exact jW_sub (by simp [jsub]) hQ
  | succ n ih =>
    intro e e0 en
    have e1 : ¬ v 554 e = v 540 (16 + 10 * s + p) := by
      rw [he e e0 (by omega), ← hk.2]
      have := hM e k e0 (by omega) hk.1.2
      omega
    refine jW_step ?_
    simp (disch := (first | decide | omega)) only [bX2_layShelf, jxs, hps, jtsw, jlsw, List.length_cons, List.length_nil, true_and, and_true, true_implies, false_implies, implies_true, not_true_eq_false, not_false_eq_true, false_and, and_false, if_true, if_false, or_true, true_or, or_false, false_or, Classical.not_not, and_self, Int.reduceAdd, Int.reduceMul, Int.reduceSub, Int.reduceNeg, Int.reduceLT, Int.reduceLE, Int.reduceEq, Int.reduceNe, Int.reduceToNat, Nat.reduceAdd, Nat.reduceMul, Nat.reduceSub, Nat.reduceLeDiff, Nat.reduceLT, Nat.reduceEqDiff, reduceIte, Nat.zero_le, Nat.le_refl, Nat.add_zero, Nat.zero_add, twT hT, twV hV]
    (repeat (refine And.intro (by (first | omega | assumption | trivial | (simp only [inI]; omega) | (simp only [inL]; omega) | (refine jb_01) | (exact jb_in))) ?_))
    refine ⟨0, 0, ⟨by omega, by omega⟩, tw_bookAt hT (by (first | assumption | (repeat (first | assumption | refine PV.A ?_ (by decide) | refine PV.F ?_ ?_ | refine twR.up ?_ (by decide) | refine PV.r ?_)))) (by (first | omega | assumption | trivial | (simp only [inI]; omega) | (simp only [inL]; omega) | (refine jb_01) | (exact jb_in))) ?_⟩
    simp (disch := (first | decide | omega)) only [jxs, hps, jtsw, jlsw, List.length_cons, List.length_nil, true_and, and_true, true_implies, false_implies, implies_true, not_true_eq_false, not_false_eq_true, false_and, and_false, if_true, if_false, or_true, true_or, or_false, false_or, Classical.not_not, and_self, Int.reduceAdd, Int.reduceMul, Int.reduceSub, Int.reduceNeg, Int.reduceLT, Int.reduceLE, Int.reduceEq, Int.reduceNe, Int.reduceToNat, Nat.reduceAdd, Nat.reduceMul, Nat.reduceSub, Nat.reduceLeDiff, Nat.reduceLT, Nat.reduceEqDiff, reduceIte, Nat.zero_le, Nat.le_refl, Nat.add_zero, Nat.zero_add, twT hT, twV hV]
    refine ⟨fun h => absurd h e1, fun _ => ?_⟩
    (repeat (refine And.intro (by (first | omega | assumption | trivial | (simp only [inI]; omega) | (simp only [inL]; omega) | (refine jb_01) | (exact jb_in))) ?_))
    exact ih (e + 1) (by omega) (by omega)
theorem tw_ls_2 {s S m : Int} {el : Int → Int} {A : Int → Int} (hT : PT T) (hs : 0 ≤ s ∧ s < 3) (hm : m ≤ 6) (hM : MON el m) (hA : ∀ p, 0 ≤ p → p < m → ∃ k, (0 ≤ k ∧ k < m) ∧ el k = A (16 + 10 * s + p)) : ∀ (r : Nat) (p : Int) (v : Int → Int → Int), PV v → v 539 34 = m → v 540 = A → EQm m (v 554) el → 0 ≤ p → p + r = m → (∀ q, 0 ≤ q → q < p → (0 ≤ v 555 q ∧ v 555 q < m) ∧ el (v 555 q) = A (16 + 10 * s + q)) →
    (∀ w, (∀ q, 0 ≤ q → q < m → (0 ≤ w 555 q ∧ w 555 q < m) ∧ el (w 555 q) = A (16 + 10 * s + q)) → (∀ a, a ≠ 555 → w a = v a) → jW bX2_layShelf (g, d + 8, 0, 0, Q) 2 [some (vR 539), some (vI s), some (vI S), some (vI m), none] [] (w, T) 0 0) →
    jW bX2_layShelf (g, d + 8, 0, 0, Q) 2 [some (vR 539), some (vI s), some (vI S), some (vI p), none] [] (v, T) 0 0 := by
  intro r
  induction r with
  | zero =>
    intro p v hV h34 hv he hp hr hq hQ
    have e : m = p := by omega
    have := hQ v (fun q q0 q1 => hq q q0 (by omega)) (fun _ _ => rfl)
    rw [e] at this
    exact this
  | succ r ih =>
    intro p v hV h34 hv he hp hr hq hQ
    obtain ⟨k, k1, k2⟩ := hA p hp (by omega)
    refine jW_step ?_
    simp (disch := (first | decide | omega)) only [bX2_layShelf, jxs, hps, jtsw, jlsw, List.length_cons, List.length_nil, true_and, and_true, true_implies, false_implies, implies_true, not_true_eq_false, not_false_eq_true, false_and, and_false, if_true, if_false, or_true, true_or, or_false, false_or, Classical.not_not, and_self, Int.reduceAdd, Int.reduceMul, Int.reduceSub, Int.reduceNeg, Int.reduceLT, Int.reduceLE, Int.reduceEq, Int.reduceNe, Int.reduceToNat, Nat.reduceAdd, Nat.reduceMul, Nat.reduceSub, Nat.reduceLeDiff, Nat.reduceLT, Nat.reduceEqDiff, reduceIte, Nat.zero_le, Nat.le_refl, Nat.add_zero, Nat.zero_add, twT hT, twV hV, h34]
    (repeat (refine And.intro (by (first | omega | assumption | trivial | (simp only [inI]; omega) | (simp only [inL]; omega) | (refine jb_01) | (exact jb_in))) ?_))
    (first | refine ⟨fun h9 => (by exfalso; omega), fun _ => ?_⟩ | intro _)
    refine tw_ls_3 hT hV hs (by omega) hm hM he (k := k) ⟨k1, by rw [hv]; exact k2⟩ ?_ k.toNat 0 (by omega) (by omega)
    refine ih (p + 1) _ (by (first | assumption | (repeat (first | assumption | refine PV.A ?_ (by decide) | refine PV.F ?_ ?_ | refine twR.up ?_ (by decide) | refine PV.r ?_)))) (by rw [upA_ne (by omega)]; exact h34) (by rw [upA_ne (by omega)]; exact hv) (by rw [upA_ne (by omega)]; exact he) (by omega) (by omega) ?_ ?_
    · intro q q0 q1
      rw [upA_eq]
      by_cases e : q = p
      · rw [e, up1_eq]; exact ⟨k1, k2⟩
      · rw [up1_ne e]; exact hq q q0 (by omega)
    · intro w w1 w2
      exact hQ w w1 (fun a ha => (w2 a ha).trans (upA_ne ha))
theorem tw_layShelf {v : Int → Int → Int} {s : Int} (hT : PT T) (hV : PV v) (hS : TE v ∧ SH (v 540) ∧ (0 ≤ s ∧ s < 3) ∧ v 540 (13 + s) ≤ 6) (hQ : ∀ w, LAID w (v 540 (13 + s)) (elZ (v 540 0) (shsA (v 540) s)).1 (tbS (v 540) (v 542) (shsA (v 540) s)) → OEL w (v 540 (13 + s)) (tbS (v 540) (v 542) (shsA (v 540) s)) → jko v w → Q (.inl (some (vI (fstA (v 540) s)))) (w, T)) : jmet g (d + 9) 0 0 MX2_layShelf [vR 539, vI s] (v, T) Q := by
  obtain ⟨hE, hH, hs, h6⟩ := hS
  have hB := hE.1
  have h0 := hB.1
  have hm := hB.2.2.2.2.2.1 (13 + s) (by omega) (by omega)
  have al := shs_all (X := v 540) hB hH hs
  have pw := pow_bd h0
  have sp := elZ_sp (N := v 540 0) (s := shsA (v 540) s) h0.1
  refine jmet_of (ls := [some (vR 539), some (vI s), none, none, none]) sX2_layShelf rfl (by decide +kernel) (by decide) rfl (by simp [jent]) ?_
  refine jW_step ?_
  simp (disch := (first | decide | omega)) only [bX2_layShelf, jxs, hps, jtsw, jlsw, List.length_cons, List.length_nil, true_and, and_true, true_implies, false_implies, implies_true, not_true_eq_false, not_false_eq_true, false_and, and_false, if_true, if_false, or_true, true_or, or_false, false_or, Classical.not_not, and_self, Int.reduceAdd, Int.reduceMul, Int.reduceSub, Int.reduceNeg, Int.reduceLT, Int.reduceLE, Int.reduceEq, Int.reduceNe, Int.reduceToNat, Nat.reduceAdd, Nat.reduceMul, Nat.reduceSub, Nat.reduceLeDiff, Nat.reduceLT, Nat.reduceEqDiff, reduceIte, Nat.zero_le, Nat.le_refl, Nat.add_zero, Nat.zero_add, twT hT, twV hV]
  refine tw_ls_1 (N := v 540 0) hT hV hs hm.2 (fun p p0 p1 => ⟨(hB.2.2.2.2.2.2 (16 + 10 * s + p) (by omega) (by omega)).1, by have := (hH.1 s p hs.1 hs.2 p0 p1).1; omega⟩) (v 540 (13 + s)).toNat 0 0 (by omega) (by omega) (by omega) ?_
  have e : shsF (v 540) s (v 540 (13 + s)).toNat 0 0 = shsA (v 540) s := rfl
  rw [e]
  have fs := fun w hw => fst_of (w := w) hB hH hs hw
  generalize shsA (v 540) s = S at *
  refine jW_step ?_
  simp (disch := (first | decide | omega)) only [bX2_layShelf, jxs, hps, jtsw, jlsw, List.length_cons, List.length_nil, true_and, and_true, true_implies, false_implies, implies_true, not_true_eq_false, not_false_eq_true, false_and, and_false, if_true, if_false, or_true, true_or, or_false, false_or, Classical.not_not, and_self, Int.reduceAdd, Int.reduceMul, Int.reduceSub, Int.reduceNeg, Int.reduceLT, Int.reduceLE, Int.reduceEq, Int.reduceNe, Int.reduceToNat, Nat.reduceAdd, Nat.reduceMul, Nat.reduceSub, Nat.reduceLeDiff, Nat.reduceLT, Nat.reduceEqDiff, reduceIte, Nat.zero_le, Nat.le_refl, Nat.add_zero, Nat.zero_add, twT hT, twV hV]
  (repeat (refine And.intro (by (first | omega | assumption | trivial | (simp only [inI]; omega) | (simp only [inL]; omega) | (refine jb_01) | (exact jb_in))) ?_))
  (try refine ⟨fun _ => ?_, fun h9 => (by exfalso; omega)⟩)
  refine ⟨0, 0, ⟨by omega, by omega⟩, tw_laySet hT hV ⟨hE, ⟨by omega, by omega⟩, by rw [al.2.1]; exact h6⟩ ?_⟩
  intro w hw jw hC
  have hO := hw.oel h0 hC
  rw [al.2.1] at hw hO sp
  have hVw := jw.pv hV
  have ea := jw.a
  simp (disch := (first | decide | omega)) only [jxs, hps, jtsw, jlsw, List.length_cons, List.length_nil, true_and, and_true, true_implies, false_implies, implies_true, not_true_eq_false, not_false_eq_true, false_and, and_false, if_true, if_false, or_true, true_or, or_false, false_or, Classical.not_not, and_self, Int.reduceAdd, Int.reduceMul, Int.reduceSub, Int.reduceNeg, Int.reduceLT, Int.reduceLE, Int.reduceEq, Int.reduceNe, Int.reduceToNat, Nat.reduceAdd, Nat.reduceMul, Nat.reduceSub, Nat.reduceLeDiff, Nat.reduceLT, Nat.reduceEqDiff, reduceIte, Nat.zero_le, Nat.le_refl, Nat.add_zero, Nat.zero_add, twT hT, twV hV]
  refine tw_ls_2 (A := v 540) hT hs h6 sp.2.1 al.2.2 (v 540 (13 + s)).toNat 0 w hVw hw.1 ea hw.2.2.1 (by omega) (by omega) (fun q q0 q1 => by omega) ?_
  intro u u1 u2
  have ju : jko w u := ⟨⟨w 539 34, w 539 35, by rw [up1_id, up1_id]; exact u2 539 (by omega)⟩, fun a a1 a2 => u2 a (by omega)⟩
  have hVu := ju.pv hVw
  have hOu := hO.fr (u2 539 (by omega)) (u2 548 (by omega)) (u2 554 (by omega))
  have hLu : LAID u (v 540 (13 + s)) (elZ (v 540 0) S).1 (tbS (v 540) (v 542) S) := by
    unfold LAID FLD
    rw [u2 539 (by omega), u2 554 (by omega), u2 551 (by omega), u2 552 (by omega), u2 553 (by omega)]
    exact hw
  have h34 := hOu.1
  have hV := hVu
  refine jW_step ?_
  simp (disch := (first | decide | omega)) only [bX2_layShelf, jxs, hps, jtsw, jlsw, List.length_cons, List.length_nil, true_and, and_true, true_implies, false_implies, implies_true, not_true_eq_false, not_false_eq_true, false_and, and_false, if_true, if_false, or_true, true_or, or_false, false_or, Classical.not_not, and_self, Int.reduceAdd, Int.reduceMul, Int.reduceSub, Int.reduceNeg, Int.reduceLT, Int.reduceLE, Int.reduceEq, Int.reduceNe, Int.reduceToNat, Nat.reduceAdd, Nat.reduceMul, Nat.reduceSub, Nat.reduceLeDiff, Nat.reduceLT, Nat.reduceEqDiff, reduceIte, Nat.zero_le, Nat.le_refl, Nat.add_zero, Nat.zero_add, twT hT, twV hV, h34]
  (repeat (refine And.intro (by (first | omega | assumption | trivial | (simp only [inI]; omega) | (simp only [inL]; omega) | (refine jb_01) | (exact jb_in))) ?_))
  (try refine ⟨fun _ => ?_, fun h9 => (by exfalso; omega)⟩)
  refine ⟨0, 0, ⟨by omega, by omega⟩, tw_orderOf hT hV (by rw [h34]; omega) ?_⟩
  rw [h34, (fs (u 555) u1).1]
  simp (disch := (first | decide | omega)) only [jxs, hps, jtsw, jlsw, List.length_cons, List.length_nil, true_and, and_true, true_implies, false_implies, implies_true, not_true_eq_false, not_false_eq_true, false_and, and_false, if_true, if_false, or_true, true_or, or_false, false_or, Classical.not_not, and_self, Int.reduceAdd, Int.reduceMul, Int.reduceSub, Int.reduceNeg, Int.reduceLT, Int.reduceLE, Int.reduceEq, Int.reduceNe, Int.reduceToNat, Nat.reduceAdd, Nat.reduceMul, Nat.reduceSub, Nat.reduceLeDiff, Nat.reduceLT, Nat.reduceEqDiff, reduceIte, Nat.zero_le, Nat.le_refl, Nat.add_zero, Nat.zero_add, twT hT, twV hV]
  (repeat (refine And.intro (by (first | omega | assumption | trivial | (simp only [inI]; omega) | (simp only [inL]; omega) | (refine jb_01) | (exact jb_in))) ?_))
  exact hQ u hLu hOu (jw.tr ju)
end TG
