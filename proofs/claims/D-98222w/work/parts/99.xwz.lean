/-! ===== the class: nights ===== -/
-- MODE X
set_option maxRecDepth 100000
/-- what the steps tell of pushes: step by step at most ten more -/
def WN (A : Int → Int) : Prop := (∀ k, 0 ≤ k → k < A 7 → 0 ≤ A (154 + 48 * k + 4) ∧ A (154 + 48 * k + 4) ≤ A 9 ∧ A 9 ≤ A (154 + 48 * k + 4) + 10 * (A 7 - k)) ∧ ∀ k j, 0 ≤ k → k ≤ j → j < A 7 → A (154 + 48 * k + 4) ≤ A (154 + 48 * j + 4) ∧ A (154 + 48 * j + 4) ≤ A (154 + 48 * k + 4) + 10 * (j - k)
theorem WN.kp {A B : Int → Int} (h : WN A) (h7 : 0 ≤ A 7 ∧ A 7 ≤ 30) (h9 : 0 ≤ A 9) (e : ∀ i, 154 ≤ i → i < 1594 → B i = keepA A i) (e7 : B 7 = keepA A 7) (e9 : A 9 ≤ B 9 ∧ B 9 ≤ A 9 + 10) : WN B := by
  have sh : 0 ≤ A 7 - shK A ∧ A 7 - shK A ≤ 29 ∧ 0 ≤ shK A ∧ shK A ≤ 1 := by unfold shK; split <;> omega
  have nw := (keepA_new h7).1.2.2.2.2
  have od : ∀ k, 0 ≤ k → k < A 7 - shK A → B (154 + 48 * k + 4) = A (154 + 48 * (k + shK A) + 4) := fun k k0 k1 => by
    rw [e _ (by omega) (by omega)]
    exact keepA_old h7 ⟨k0, k1⟩ (by omega)
  have ne : B (154 + 48 * (A 7 - shK A) + 4) = A 9 := by rw [e _ (by omega) (by omega)]; exact nw
  rw [keepA_7v] at e7
  unfold WN
  rw [e7]
  refine ⟨fun k k0 k1 => ?_, fun k j k0 kj j1 => ?_⟩
  · by_cases ek : k = A 7 - shK A
    · rw [ek, ne]; omega
    · rw [od k k0 (by omega)]
      have := h.1 (k + shK A) (by omega) (by omega)
      omega
  · by_cases ej : j = A 7 - shK A
    · rw [ej, ne]
      by_cases ek : k = A 7 - shK A
      · rw [ek, ne]; omega
      · rw [od k k0 (by omega)]
        have := h.1 (k + shK A) (by omega) (by omega)
        omega
    · rw [od j (by omega) (by omega), od k k0 (by omega)]
      have := h.2 (k + shK A) (j + shK A) (by omega) (by omega) (by omega)
      omega
theorem WN.wb {A : Int → Int} (h : WN A) (h7 : 0 ≤ A 7 ∧ A 7 ≤ 30) : WB A 300 := fun k k0 k1 => by have := h.1 k k0 k1; omega
theorem SI.kp {A B : Int → Int} (h : SI A) (hB : TB A) (h7 : 0 ≤ A 7 ∧ A 7 ≤ 30) (e : ∀ i, 154 ≤ i → i < 1594 → B i = keepA A i) (e7 : B 7 = keepA A 7) : SI B := by
  have sh : 0 ≤ A 7 - shK A ∧ A 7 - shK A ≤ 29 ∧ 0 ≤ shK A ∧ shK A ≤ 1 := by unfold shK; split <;> omega
  have nw := (keepA_new h7).2.1
  rw [keepA_7v] at e7
  intro k k0 k1 s s0 s1
  rw [e7] at k1
  rw [e _ (by omega) (by omega)]
  by_cases ek : k = A 7 - shK A
  · rw [ek, nw s s0 (by omega)]
    exact (hB.2.2.2.2.2.1 (13 + s) (by omega) (by omega)).2
  · have od := keepA_old (A := A) h7 (k := k) (j := 5 + s) ⟨k0, by omega⟩ (by omega)
    rw [show 154 + 48 * k + (5 + s) = 154 + 48 * k + 5 + s by omega, show 154 + 48 * (k + shK A) + (5 + s) = 154 + 48 * (k + shK A) + 5 + s by omega] at od
    rw [od]
    exact h (k + shK A) (by omega) (by omega) s s0 s1
/-- all that stays sound -/
def TK (A : Int → Int) : Prop := TI A ∧ SI A ∧ WN A
theorem nitA_st {A X : Int → Int} (h : TI A) : (∀ i, 154 ≤ i → i < 1594 → nitA A X i = keepA A i) ∧ nitA A X 7 = keepA A 7 ∧ (A 9 ≤ nitA A X 9 ∧ nitA A X 9 ≤ A 9 + 10) := by
  have n2 := (nit2_ok (X := X) h.1).2.2
  have s2 := (nit2_SH (X := X) h).2
  have aO := nitA_ok (X := X) h.1
  have hB3 : TB (nit3 A X) := TB.n1 n2.1
  have fr := (fallA_ok (X := X) hB3).2.1
  have e : ∀ i, (i < 13 ∨ 106 ≤ i) → i ≠ 1 → nitA A X i = (nit2 A X).1 i := by
    intro i hi h1
    show (fallA (nit3 A X) X).1 i = _
    rw [fr i hi]
    unfold nit3
    rw [up1_ne h1]
  refine ⟨fun i i0 i1 => ?_, ?_, aO.2.2.1, ?_⟩
  · rw [e i (by omega) (by omega)]
    exact n2.2.1.1 i (by omega) (by omega)
  · rw [e 7 (by omega) (by omega)]
    exact n2.2.1.1 7 (by omega) (by omega)
  · rw [e 9 (by omega) (by omega)]
    exact s2
theorem TK.nit {A X : Int → Int} (h : TK A) (hn : A 1 + 1 ≤ 9999) : TK (nitA A X) := by
  have st := nitA_st (X := X) h.1
  have h7 := h.1.1.2.2.1
  exact ⟨nitA_TI h.1 hn, h.2.1.kp h.1.1.1 h7 st.1 st.2.1, h.2.2.kp h7 h.1.1.2.2.2.1 st.1 st.2.1 st.2.2⟩
theorem ffL_bk {X : Int → Int} {k s m b w : Int} (hs : 0 ≤ s ∧ s < 3) (hm : 0 ≤ m ∧ m ≤ 10) (hb : 0 ≤ b) (hw : 0 ≤ w ∧ w < 5) : ∀ (n : Nat) (p gn : Int) (A : Int → Int), TB A → 0 ≤ gn → gn ≤ p → p + n = m → A (13 + s) = m - gn → (ffL X k s m n p gn A).1 (46 + 6 * b + w) = A (46 + 6 * b + w)
  | 0, p, gn, A, hB, h0, h1, h2, h3 => rfl
  | n + 1, p, gn, A, hB, h0, h1, h2, h3 => by
    unfold ffL
    split
    · exact ffL_bk hs hm hb hw n (p + 1) gn A hB h0 (by omega) (by omega) h3
    · have q : 0 ≤ p - gn ∧ p - gn < A (13 + s) := by omega
      rw [ffL_bk hs hm hb hw n (p + 1) (gn + 1) (pullA A s (p - gn) 4) (hB.pull hs q (by omega)) (by omega) (by omega) (by omega) (by rw [pullA_m hB hs q]; omega)]
      exact pullA_o hs q (by omega) hb hw
theorem ffW_bk {X : Int → Int} {s b w : Int} (hs : 0 ≤ s ∧ s < 3) (hb : 0 ≤ b) (hw : 0 ≤ w ∧ w < 5) : ∀ (n : Nat) (gn : Int) (A : Int → Int), TB A → A (13 + s) = n → (ffW X s n gn A).1 (46 + 6 * b + w) = A (46 + 6 * b + w)
  | 0, gn, A, hB, h => rfl
  | n + 1, gn, A, hB, h => by
    have hm := hB.2.2.2.2.2.1 (13 + s) (by omega) (by omega)
    unfold ffW
    split
    · rfl
    · have q : 0 ≤ A (13 + s) - 1 ∧ A (13 + s) - 1 < A (13 + s) := by omega
      rw [ffW_bk hs hb hw n (gn + 1) (pullA A s (A (13 + s) - 1) 4) (hB.pull hs q (by omega)) (by rw [pullA_m hB hs q]; omega)]
      exact pullA_o hs q (by omega) hb hw
theorem ffA_bk {A X : Int → Int} {s b w : Int} (hB : TB A) (hs : 0 ≤ s ∧ s < 3) (hb : 0 ≤ b) (hw : 0 ≤ w ∧ w < 5) : (ffA A X s).1 (46 + 6 * b + w) = A (46 + 6 * b + w) := by
  have hm := hB.2.2.2.2.2.1 (13 + s) (by omega) (by omega)
  have o := ff1_ok (X := X) hB hs
  unfold ffA
  rw [ffW_bk hs hb hw _ _ _ o.1 (by omega)]
  unfold ff1
  split
  · rfl
  · exact ffL_bk hs hm hb hw _ 0 0 A hB (by omega) (by omega) (by omega) (by omega)
theorem fallA_bk {A X : Int → Int} {b w : Int} (hB : TB A) (hb : 0 ≤ b) (hw : 0 ≤ w ∧ w < 5) : (fallA A X).1 (46 + 6 * b + w) = A (46 + 6 * b + w) := by
  have h0 := ffA_ok (X := X) (s := 0) hB (by omega)
  have h1 := ffA_ok (X := X) (s := 1) h0.1 (by omega)
  show (ffA (ffA (ffA A X 0).1 X 1).1 X 2).1 (46 + 6 * b + w) = _
  rw [ffA_bk h1.1 (by omega) hb hw, ffA_bk h0.1 (by omega) hb hw, ffA_bk hB (by omega) hb hw]
theorem fallA_ag {A X : Int → Int} (hB : TB A) : AGR A (fallA A X).1 := by
  have fr := (fallA_ok (X := X) hB).2.1
  intro i hi
  by_cases h : i < 13
  · exact fr i (by omega)
  · have := fallA_bk (X := X) hB (b := (i - 46) / 6) (w := (i - 46) % 6) (by omega) (by omega)
    rw [show 46 + 6 * ((i - 46) / 6) + (i - 46) % 6 = i by omega] at this
    exact this
section XG
variable {g : jjG} {d : Nat} {T : jjT} {Q : jjQ} {X : Int → Int}
theorem xw_nightComes {A : Int → Int} {v : Int → Int → Int} (hT : PT T) (hV : PV v) (hK : TK A) (hn : A 1 + 1 ≤ 9999) (hC : CI (v, T) (keepA A) X) (hB : CHB (v 523) (keepA A) X) (hQ : ∀ w, CI (w, T) (nitA A X) X → jkM v w → w 523 = v 523 → Q (.inl (some (vI (nitN A X)))) (w, T)) : jmet g (d + 115) 0 0 MX0_nightComes [vR 400] (v, T) Q := by
  obtain ⟨hI, hS, hW⟩ := hK
  have hTN := hI.1
  have h7 := hTN.2.2.1
  have h9 := hTN.2.2.2.1
  have hKB := hC.tb
  have k0 : keepA A 0 = A 0 := keepA_lo h7 (by omega) (by omega)
  have k1 : keepA A 1 = A 1 := keepA_lo h7 (by omega) (by omega)
  have k9 : keepA A 9 = A 9 := keepA_lo h7 (by omega) (by omega)
  have hKS : SI (keepA A) := hS.kp hTN.1 h7 (fun _ _ _ => rfl) rfl
  have hKW : WN (keepA A) := hW.kp h7 h9 (fun _ _ _ => rfl) rfl (by omega)
  have hN : NS (keepA A) 300 := ⟨keepA_SH hI.2.1 hTN.1 h7, hKS, by omega, hKW.wb (by have := keepA_7 h7; omega)⟩
  have n2 := nit2_ok (X := X) hTN
  have n0 : chL X 0 6 (A 1 % 2) 0 (keepA A) = nit0 A X := rfl
  have n1 : chL X 1 6 (A 1 % 2) (nit0 A X).2 (nit0 A X).1 = nit1 A X := rfl
  have n2' : chL X 2 6 (A 1 % 2) (nit1 A X).2 (nit1 A X).1 = nit2 A X := rfl
  have hA1 : 0 ≤ A 1 := hTN.2.2.2.2
  have kni := hC.ni
  rw [k1] at kni
  refine jmet_of (ls := [some (vR 400), none, none, none]) sX0_nightComes rfl (by decide +kernel) (by decide) rfl (by simp [jent]) ?_
  refine jW_step ?_
  simp (disch := (first | decide | omega)) only [bX0_nightComes, jxs, hps, jtsw, jlsw, List.length_cons, List.length_nil, true_and, and_true, true_implies, false_implies, implies_true, not_true_eq_false, not_false_eq_true, false_and, and_false, if_true, if_false, or_true, true_or, or_false, false_or, Classical.not_not, and_self, Int.reduceAdd, Int.reduceMul, Int.reduceSub, Int.reduceNeg, Int.reduceLT, Int.reduceLE, Int.reduceEq, Int.reduceNe, Int.reduceToNat, Nat.reduceAdd, Nat.reduceMul, Nat.reduceSub, Nat.reduceLeDiff, Nat.reduceLT, Nat.reduceEqDiff, reduceIte, Nat.zero_le, Nat.le_refl, Nat.add_zero, Nat.zero_add, xwT hT, xwV hV, kni]
  (repeat (refine And.intro (by (first | omega | assumption | trivial | (simp only [inI]; omega) | (simp only [inL]; omega) | (refine jb_01) | (exact jb_in))) ?_))
  refine xw_nc_s (A := keepA A) (X := X) (s := 0) (c := 300) hT hV hC (by omega) (by omega) hN (by omega) hB (by omega) ?_
  rw [n0]
  intro w w1 w2 w3 w4 w5 w6
  have hVw := w5.pv
  refine xw_nc_s (A := (nit0 A X).1) (X := X) (s := 1) (c := 312) hT hVw w1 (by omega) (by omega) w2 (by omega) (by rw [w6]; exact hB.ag hKB.1.2 w3 w4) (by omega) ?_
  rw [n1]
  intro u u1 u2 u3 u4 u5 u6
  have hVu := u5.pv
  refine xw_nc_s (A := (nit1 A X).1) (X := X) (s := 2) (c := 324) hT hVu u1 (by omega) (by omega) u2 (by omega) (by rw [u6, w6]; exact hB.ag hKB.1.2 (w3.tr u3) (u4.trans w4)) (by omega) ?_
  rw [n2']
  intro y y1 y2 y3 y4 y5 y6
  have hVy := y5.pv
  have fc := n2.2.2.2.1
  have e1 : (nit2 A X).1 1 = A 1 := by rw [fc.1 1 (by omega) (by omega)]; exact k1
  have yni := y1.ni
  rw [e1] at yni
  have ci := y1.num (i := 1) (k := 44) (z := A 1 + 1) (by omega) (fun h => by omega)
  have e3 : up1 (nit2 A X).1 1 (A 1 + 1) = nit3 A X := rfl
  rw [e3] at ci
  have ju : jkM y (upA y 404 (up1 (y 404) 44 (A 1 + 1))) := (jkR.up).M hVy
  have hH3 : SH (nit3 A X) := y2.1.ext (up1_ne (by omega)) (fun j j0 j1 => up1_ne (by omega)) y1.tb
  have hW3 : TW (nit3 A X) := fun j j0 j1 => by
    unfold nit3
    rw [up1_ne (by omega), fc.1 j (by omega) (by omega)]
    exact keepA_TW hTN.2.1 h7 j j0 j1
  have hV := hVy
  refine jW_step ?_
  simp (disch := (first | decide | omega)) only [bX0_nightComes, jxs, hps, jtsw, jlsw, List.length_cons, List.length_nil, true_and, and_true, true_implies, false_implies, implies_true, not_true_eq_false, not_false_eq_true, false_and, and_false, if_true, if_false, or_true, true_or, or_false, false_or, Classical.not_not, and_self, Int.reduceAdd, Int.reduceMul, Int.reduceSub, Int.reduceNeg, Int.reduceLT, Int.reduceLE, Int.reduceEq, Int.reduceNe, Int.reduceToNat, Nat.reduceAdd, Nat.reduceMul, Nat.reduceSub, Nat.reduceLeDiff, Nat.reduceLT, Nat.reduceEqDiff, reduceIte, Nat.zero_le, Nat.le_refl, Nat.add_zero, Nat.zero_add, xwT hT, xwV hV, yni]
  (try refine ⟨fun _ => ?_, fun h9 => (by exfalso; omega)⟩)
  (repeat (refine And.intro (by (first | omega | assumption | trivial | (simp only [inI]; omega) | (simp only [inL]; omega) | (refine jb_01) | (exact jb_in))) ?_))
  refine ⟨0, 0, ⟨by omega, by omega⟩, xw_fall hT ju.pv ci hH3 hW3 ?_⟩
  intro z z1 z2 z3
  have hVz := z3.pv ju.pv
  have aO := nitA_ok (X := X) hTN
  have eN : nitN A X = (nit2 A X).2 := rfl
  rw [eN] at aO hQ
  have hV := hVz
  simp (disch := (first | decide | omega)) only [jxs, hps, jtsw, jlsw, List.length_cons, List.length_nil, true_and, and_true, true_implies, false_implies, implies_true, not_true_eq_false, not_false_eq_true, false_and, and_false, if_true, if_false, or_true, true_or, or_false, false_or, Classical.not_not, and_self, Int.reduceAdd, Int.reduceMul, Int.reduceSub, Int.reduceNeg, Int.reduceLT, Int.reduceLE, Int.reduceEq, Int.reduceNe, Int.reduceToNat, Nat.reduceAdd, Nat.reduceMul, Nat.reduceSub, Nat.reduceLeDiff, Nat.reduceLT, Nat.reduceEqDiff, reduceIte, Nat.zero_le, Nat.le_refl, Nat.add_zero, Nat.zero_add, xwT hT, xwV hV]
  (repeat (refine And.intro (by (first | omega | assumption | trivial | (simp only [inI]; omega) | (simp only [inL]; omega) | (refine jb_01) | (exact jb_in))) ?_))
  refine hQ z z1 ((((w5.tr u5).tr y5).tr ju).tr (z3.M ju.pv)) ?_
  rw [z3 523 (by omega) (by omega), upA_ne (by omega), y6, u6, w6]
theorem xw_night_2 {n0 : Int} (hT : PT T) (hn0 : n0 ≤ 99) : ∀ (n : Nat) (k c f : Int) (A : Int → Int) (v : Int → Int → Int), PV v → CI (v, T) A X → TK A → CHB (v 523) A X → A 1 + n ≤ 9999 → 0 ≤ k → k + n = n0 → (0 ≤ c ∧ c ≤ 20 * k) →
    (∀ w, CI (w, T) (ntL X n A f c).1 X → jkM v w → Q (.inl (some (vI (ntL X n A f c).2.2))) (w, T)) →
    jW bX0_night (g, d + 115, 0, 0, Q) 2 [some (vR 400), some (vI n0), some (vI c), some (vI k)] [] (v, T) 0 0 := by
  intro n
  induction n with
  | zero =>
    intro k c f A v hV hC hK hB hn hk hkn hc hQ
    unfold ntL at hQ
    refine jW_step ?_
    simp (disch := (first | decide | omega)) only [bX0_night, jxs, hps, jtsw, jlsw, List.length_cons, List.length_nil, true_and, and_true, true_implies, false_implies, implies_true, not_true_eq_false, not_false_eq_true, false_and, and_false, if_true, if_false, or_true, true_or, or_false, false_or, Classical.not_not, and_self, Int.reduceAdd, Int.reduceMul, Int.reduceSub, Int.reduceNeg, Int.reduceLT, Int.reduceLE, Int.reduceEq, Int.reduceNe, Int.reduceToNat, Nat.reduceAdd, Nat.reduceMul, Nat.reduceSub, Nat.reduceLeDiff, Nat.reduceLT, Nat.reduceEqDiff, reduceIte, Nat.zero_le, Nat.le_refl, Nat.add_zero, Nat.zero_add, xwT hT, xwV hV]
    (try refine ⟨fun _ => ?_, fun h9 => (by exfalso; omega)⟩)
    (repeat (refine And.intro (by (first | omega | assumption | trivial | (simp only [inI]; omega) | (simp only [inL]; omega) | (refine jb_01) | (exact jb_in))) ?_))
    exact hQ v hC (jkM.rf hV)
  | succ n ih =>
    intro k c f A v hV hC hK hB hn hk hkn hc hQ
    unfold ntL at hQ
    have h7 := hK.1.1.2.2.1
    have aO := nitA_ok (X := X) hK.1.1
    have hTB := hC.tb
    refine jW_step ?_
    simp (disch := (first | decide | omega)) only [bX0_night, jxs, hps, jtsw, jlsw, List.length_cons, List.length_nil, true_and, and_true, true_implies, false_implies, implies_true, not_true_eq_false, not_false_eq_true, false_and, and_false, if_true, if_false, or_true, true_or, or_false, false_or, Classical.not_not, and_self, Int.reduceAdd, Int.reduceMul, Int.reduceSub, Int.reduceNeg, Int.reduceLT, Int.reduceLE, Int.reduceEq, Int.reduceNe, Int.reduceToNat, Nat.reduceAdd, Nat.reduceMul, Nat.reduceSub, Nat.reduceLeDiff, Nat.reduceLT, Nat.reduceEqDiff, reduceIte, Nat.zero_le, Nat.le_refl, Nat.add_zero, Nat.zero_add, xwT hT, xwV hV]
    (first | refine ⟨fun h9 => (by exfalso; omega), fun _ => ?_⟩ | intro _)
    refine ⟨0, 0, ⟨by omega, by omega⟩, xw_keeps hT hV hC hK.2.1 ?_⟩
    intro w hCw jw w4
    have hVw := jw.pv hV
    have ew : w 523 = v 523 := jw 523 (by omega) (by omega)
    have agk : AGR A (keepA A) := fun i hi => keepA_lo h7 (by omega) (by omega)
    have hBw : CHB (w 523) (keepA A) X := by rw [ew]; exact hB.ag hTB.1.2 agk (keepA_lo h7 (by omega) (by omega))
    have jw0 := jw.M hV
    have hV := hVw
    simp (disch := (first | decide | omega)) only [jxs, hps, jtsw, jlsw, List.length_cons, List.length_nil, true_and, and_true, true_implies, false_implies, implies_true, not_true_eq_false, not_false_eq_true, false_and, and_false, if_true, if_false, or_true, true_or, or_false, false_or, Classical.not_not, and_self, Int.reduceAdd, Int.reduceMul, Int.reduceSub, Int.reduceNeg, Int.reduceLT, Int.reduceLE, Int.reduceEq, Int.reduceNe, Int.reduceToNat, Nat.reduceAdd, Nat.reduceMul, Nat.reduceSub, Nat.reduceLeDiff, Nat.reduceLT, Nat.reduceEqDiff, reduceIte, Nat.zero_le, Nat.le_refl, Nat.add_zero, Nat.zero_add, xwT hT, xwV hV]
    refine ⟨0, 0, ⟨by omega, by omega⟩, xw_nightComes hT hVw hK (by omega) hCw hBw ?_⟩
    intro y hCy jy ey
    have hV := jy.pv
    simp (disch := (first | decide | omega)) only [jxs, hps, jtsw, jlsw, List.length_cons, List.length_nil, true_and, and_true, true_implies, false_implies, implies_true, not_true_eq_false, not_false_eq_true, false_and, and_false, if_true, if_false, or_true, true_or, or_false, false_or, Classical.not_not, and_self, Int.reduceAdd, Int.reduceMul, Int.reduceSub, Int.reduceNeg, Int.reduceLT, Int.reduceLE, Int.reduceEq, Int.reduceNe, Int.reduceToNat, Nat.reduceAdd, Nat.reduceMul, Nat.reduceSub, Nat.reduceLeDiff, Nat.reduceLT, Nat.reduceEqDiff, reduceIte, Nat.zero_le, Nat.le_refl, Nat.add_zero, Nat.zero_add, xwT hT, xwV hV]
    (repeat (refine And.intro (by (first | omega | assumption | trivial | (simp only [inI]; omega) | (simp only [inL]; omega) | (refine jb_01) | (exact jb_in))) ?_))
    have agn : AGR A (nitA A X) ∧ nitA A X 0 = A 0 := by
      have n2 := (nit2_ok (X := X) hK.1.1).2.2
      have hB3 : TB (nit3 A X) := TB.n1 n2.1
      have fr := (fallA_ok (X := X) hB3).2.1
      have a3 : AGR A (nit3 A X) := by
        intro i hi
        unfold nit3
        rw [up1_ne (by omega), n2.2.1.1 i (by omega) (by omega)]
        exact agk i hi
      refine ⟨a3.tr (fallA_ag hB3), ?_⟩
      show (fallA (nit3 A X) X).1 0 = A 0
      rw [fr 0 (by omega)]
      unfold nit3
      rw [up1_ne (by omega), n2.2.1.1 0 (by omega) (by omega)]
      exact keepA_lo h7 (by omega) (by omega)
    refine ih (k + 1) (c + nitN A X) (f + nitF A X) (nitA A X) y hV hCy (hK.nit (by omega)) ?_ (by rw [aO.2.2.2.1]; omega) (by omega) (by omega) (by omega) ?_
    · rw [ey, ew]
      exact hB.ag hTB.1.2 agn.1 agn.2
    · intro x x1 x2
      exact hQ x x1 ((jw0.tr jy).tr x2)
theorem xw_night {n f : Int} {A : Int → Int} {v : Int → Int → Int} (hT : PT T) (hV : PV v) (hC : CI (v, T) A X) (hK : TK A) (hQ : ∀ w, CI (w, T) (opNight A X f n).1 X → jkM v w → Q (.inl (some (vI (opNight A X f n).2.2))) (w, T)) : jmet g (d + 116) 0 0 MX0_night [vR 400, vI n] (v, T) Q := by
  have hA1 := hK.1.1.2.2.2.2
  have hA9 := hK.1.2.2.1
  unfold opNight at hQ
  have no : ¬ ((1 ≤ n ∧ n ≤ 99) ∧ A 1 + n ≤ 9999) → jW bX0_night (g, d + 115, 0, 0, Q) 1 [some (vR 400), some (vI n), none, none] [] (v, T) 0 0 := by
    intro hh
    rw [if_neg hh] at hQ
    refine jW_step ?_
    simp (disch := (first | decide | omega)) only [bX0_night, jxs, hps, jtsw, jlsw, List.length_cons, List.length_nil, true_and, and_true, true_implies, false_implies, implies_true, not_true_eq_false, not_false_eq_true, false_and, and_false, if_true, if_false, or_true, true_or, or_false, false_or, Classical.not_not, and_self, Int.reduceAdd, Int.reduceMul, Int.reduceSub, Int.reduceNeg, Int.reduceLT, Int.reduceLE, Int.reduceEq, Int.reduceNe, Int.reduceToNat, Nat.reduceAdd, Nat.reduceMul, Nat.reduceSub, Nat.reduceLeDiff, Nat.reduceLT, Nat.reduceEqDiff, reduceIte, Nat.zero_le, Nat.le_refl, Nat.add_zero, Nat.zero_add, xwT hT, xwV hV]
    (repeat (refine And.intro (by (first | omega | assumption | trivial | (simp only [inI]; omega) | (simp only [inL]; omega) | (refine jb_01) | (exact jb_in))) ?_))
    exact hQ v hC (jkM.rf hV)
  refine jmet_of (ls := [some (vR 400), some (vI n), none, none]) sX0_night rfl (by decide +kernel) (by decide) rfl (by simp [jent]) ?_
  refine jW_step ?_
  simp (disch := (first | decide | omega)) only [bX0_night, jxs, hps, jtsw, jlsw, List.length_cons, List.length_nil, true_and, and_true, true_implies, false_implies, implies_true, not_true_eq_false, not_false_eq_true, false_and, and_false, if_true, if_false, or_true, true_or, or_false, false_or, Classical.not_not, and_self, Int.reduceAdd, Int.reduceMul, Int.reduceSub, Int.reduceNeg, Int.reduceLT, Int.reduceLE, Int.reduceEq, Int.reduceNe, Int.reduceToNat, Nat.reduceAdd, Nat.reduceMul, Nat.reduceSub, Nat.reduceLeDiff, Nat.reduceLT, Nat.reduceEqDiff, reduceIte, Nat.zero_le, Nat.le_refl, Nat.add_zero, Nat.zero_add, xwT hT, xwV hV]
  refine ⟨0, 0, ⟨by omega, by omega⟩, xw_in ?_⟩
  simp (disch := (first | decide | omega)) only [jxs, hps, jtsw, jlsw, List.length_cons, List.length_nil, true_and, and_true, true_implies, false_implies, implies_true, not_true_eq_false, not_false_eq_true, false_and, and_false, if_true, if_false, or_true, true_or, or_false, false_or, Classical.not_not, and_self, Int.reduceAdd, Int.reduceMul, Int.reduceSub, Int.reduceNeg, Int.reduceLT, Int.reduceLE, Int.reduceEq, Int.reduceNe, Int.reduceToNat, Nat.reduceAdd, Nat.reduceMul, Nat.reduceSub, Nat.reduceLeDiff, Nat.reduceLT, Nat.reduceEqDiff, reduceIte, Nat.zero_le, Nat.le_refl, Nat.add_zero, Nat.zero_add, xwT hT, xwV hV, hC.ni]
  refine ⟨fun h => ?_, fun h => ?_⟩
  · exact no (fun x => h x.1)
  (repeat (refine And.intro (by (first | omega | assumption | trivial | (simp only [inI]; omega) | (simp only [inL]; omega) | (refine jb_01) | (exact jb_in))) ?_))
  refine ⟨fun h2 => ?_, fun h2 => ?_⟩
  · rw [if_pos ⟨h, h2⟩] at hQ
    refine ⟨0, 0, ⟨by omega, by omega⟩, xw_laysChange hT hV hC ?_⟩
    intro w hw hB
    have hVw := hw.pv hV
    have jw := hw.M hV
    have hV := hVw
    simp (disch := (first | decide | omega)) only [jxs, hps, jtsw, jlsw, List.length_cons, List.length_nil, true_and, and_true, true_implies, false_implies, implies_true, not_true_eq_false, not_false_eq_true, false_and, and_false, if_true, if_false, or_true, true_or, or_false, false_or, Classical.not_not, and_self, Int.reduceAdd, Int.reduceMul, Int.reduceSub, Int.reduceNeg, Int.reduceLT, Int.reduceLE, Int.reduceEq, Int.reduceNe, Int.reduceToNat, Nat.reduceAdd, Nat.reduceMul, Nat.reduceSub, Nat.reduceLeDiff, Nat.reduceLT, Nat.reduceEqDiff, reduceIte, Nat.zero_le, Nat.le_refl, Nat.add_zero, Nat.zero_add, xwT hT, xwV hV]
    exact xw_night_2 (X := X) hT (by omega) n.toNat 0 0 f A w hVw (hw.ci hC) hK hB (by omega) (by omega) (by omega) (by omega) (fun y y1 y2 => hQ y y1 (jw.tr y2))
  · exact no (fun x => h2 x.2)
end XG
