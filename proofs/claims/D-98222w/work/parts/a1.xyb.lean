/-! ===== the class: the game ===== -/
-- MODE X
set_option maxRecDepth 100000
theorem PVmv {v : Int → Int → Int} (hV : PV v) {k : Int} (h : 0 ≤ k ∧ k < 6) : v 530 k = 531 + k := by
  have key : ∀ b : Fin 6, ((530 : Int), ((b.val : Nat) : Int), (531 : Int) + b.val) ∈ pvL := by decide
  have := hV _ (key ⟨k.toNat, by omega⟩)
  dsimp only at this
  rwa [show ((k.toNat : Nat) : Int) = k by omega] at this
theorem PTmv {T : jjT} (hT : PT T) {k : Int} (h : 0 ≤ k ∧ k < 6) : jok T (531 + k) (-1) ∧ jln T (531 + k) = 5 := by
  have key : ∀ b : Fin 6, ((531 : Int) + b.val, (-1 : Int), (5 : Int)) ∈ ptL := by decide
  have m := key ⟨k.toNat, by omega⟩
  dsimp only at m
  rw [show ((k.toNat : Nat) : Int) = k by omega] at m
  exact ⟨hT.ok _ _ _ m, hT.ln _ _ _ m⟩
/-- what the rest of a game is worth, k moves made, some to come -/
def plV (ld : Int → Int) (m ni : Int) (wo : Int → Int) : Nat → Int → Int → Int
  | 0, _, o => wo o
  | r + 1, k, o => boA ld (plV ld m ni wo r (k + 1)) m o ((ni + k) % 2) (if k % 2 = 0 then 1 else 0)
theorem plV_wo {ld : Int → Int} {m ni : Int} {wo : Int → Int} : ∀ (j r : Nat), woN ld m ni j (plV ld m ni wo r ((j : Int) + 1)) = plV ld m ni wo (r + j) 1
  | 0, r => rfl
  | j + 1, r => by
    unfold woN
    have e : wrS ld m ni ((j : Int) + 1) (plV ld m ni wo r (((j + 1 : Nat) : Int) + 1)) = plV ld m ni wo (r + 1) ((j : Int) + 1) := by
      funext o
      rfl
    rw [e, plV_wo j (r + 1), show r + 1 + j = r + (j + 1) by omega]
theorem pwF_pb {el w : Int → Int} {b q : Int} {m : Int} (hq : 0 ≤ q ∧ q < m) (h : el (w q) = b) (hu : ∀ i, 0 ≤ i → i < m → el (w i) = b → i = q) : pbF el w b m.toNat 0 0 = q := by
  have key : ∀ (n : Nat) (p x : Int), 0 ≤ p → p + n = m → (q < p → x = q) → pbF el w b n p x = q := by
    intro n
    induction n with
    | zero => intro p x hp hn hx; exact hx (by omega)
    | succ n ih =>
      intro p x hp hn hx
      unfold pbF
      refine ih (p + 1) _ (by omega) (by omega) (fun c => ?_)
      by_cases e : el (w p) = b
      · rw [if_pos e]; exact hu p hp (by omega) e
      · rw [if_neg e]
        by_cases c2 : q = p
        · rw [← c2] at e; exact (e h).elim
        · exact hx (by omega)
  exact key m.toNat 0 0 (by omega) (by omega) (fun c => by omega)
section XG
variable {g : jjG} {d : Nat} {T : jjT} {Q : jjQ} {A X : Int → Int} {m : Int} {el : Int → Int}
theorem xw_moves {k mv : Int} {v : Int → Int → Int} (hT : PT T) (hV : PV v) (hC : CI (v, T) A X) (hB : CHB (v 523) A X) (hv : v 400 10 = m) (hm : 0 ≤ m ∧ m ≤ 5) (hS : (0 ≤ k ∧ k < 5) ∧ (mv = -1 ∨ (0 ≤ mv ∧ mv + 1 < m)) ∧ RN (v (531 + k)) m (A 0) ∧ (0 ≤ A 1 ∧ A 1 < 100000))
    (hQ : ∀ w, (∀ a, a ≠ 531 + (k + 1) → w a = v a) → EQm m (w (531 + (k + 1))) (nitR (tbl A X) m ((A 1 + k) % 2) (if mv = -1 then v (531 + k) else swp (v (531 + k)) mv)) → Q (.inl none) (w, T)) : jmet g (d + 3) 0 0 MX0_moves [vR 400, vI k, vI mv] (v, T) Q := by
  obtain ⟨hk, hmv, hR, h1⟩ := hS
  have h0 := hC.tb.1
  obtain ⟨t1, l1⟩ := PTmv hT (k := k) ⟨hk.1, by omega⟩
  obtain ⟨t2, l2⟩ := PTmv hT (k := k + 1) ⟨by omega, by omega⟩
  have p1 := PVmv hV (k := k) ⟨hk.1, by omega⟩
  have p2 := PVmv hV (k := k + 1) ⟨by omega, by omega⟩
  have nA : 531 + (k + 1) ∉ pvA := by
    have key : ∀ b ∈ pvA, b < 531 ∨ 537 < b := by decide
    intro c
    have := key _ c
    omega
  have k1 : ∀ u, (∀ a, a ≠ 531 + (k + 1) → u a = v a) → EQm m (u (531 + (k + 1))) (if mv = -1 then v (531 + k) else swp (v (531 + k)) mv) → jW bX0_moves (g, d + 2, 0, 0, Q) 1 [some (vR 400), some (vI k), some (vI mv), none] [] (u, T) 0 0 := by
    intro u hu he
    have hVu : PV u := hV.fr (fun a ha => hu a (fun e => nA (e ▸ ha)))
    have ju : jkK v u := jkK.of1 hV hC.nm (b := 531 + (k + 1)) (by omega) hu
    have hCu := ju.ci hC
    have p3 : u 530 (k + 1) = 531 + (k + 1) := by rw [hu 530 (by omega)]; exact p2
    have hvu : u 400 10 = m := by rw [hu 400 (by omega)]; exact hv
    have rn : RN (if mv = -1 then v (531 + k) else swp (v (531 + k)) mv) m (A 0) := by
      by_cases c : mv = -1
      · rw [if_pos c]; exact hR
      · rw [if_neg c]; exact hR.sw (hmv.resolve_left c)
    have rnu : RN (u (531 + (k + 1))) m (A 0) := fun i i0 i1 => by rw [he i i0 i1]; exact rn i i0 i1
    have hV := hVu
    refine jW_step ?_
    simp (disch := (first | decide | omega)) only [bX0_moves, jxs, hps, jtsw, jlsw, List.length_cons, List.length_nil, true_and, and_true, true_implies, false_implies, implies_true, not_true_eq_false, not_false_eq_true, false_and, and_false, if_true, if_false, or_true, true_or, or_false, false_or, Classical.not_not, and_self, Int.reduceAdd, Int.reduceMul, Int.reduceSub, Int.reduceNeg, Int.reduceLT, Int.reduceLE, Int.reduceEq, Int.reduceNe, Int.reduceToNat, Nat.reduceAdd, Nat.reduceMul, Nat.reduceSub, Nat.reduceLeDiff, Nat.reduceLT, Nat.reduceEqDiff, reduceIte, Nat.zero_le, Nat.le_refl, Nat.add_zero, Nat.zero_add, xwT hT, xwV hV, p3, t2, l2, hvu, hCu.ni]
    (repeat (refine And.intro (by (first | omega | assumption | trivial | (simp only [inI]; omega) | (simp only [inL]; omega) | (refine jb_01) | (exact jb_in))) ?_))
    refine ⟨0, 0, ⟨by omega, by omega⟩, xw_nightOn0 (A := A) (X := X) hT hV h0 ⟨t2, by omega, by rw [l2]; omega, nA, by omega⟩ (by omega) (by rw [hu 523 (by omega)]; exact hB) rnu (by omega) ?_⟩
    intro c
    have cg := nitR_cg (kind := (A 1 + k) % 2) (c := tbl A X) (c' := tbl A X) (N := A 0) (by omega) (fun _ _ _ _ _ _ => rfl) he rnu
    have y1 : (upA u (531 + (k + 1)) (nitR (tbl A X) m ((A 1 + k) % 2) (u (531 + (k + 1))))) (531 + (k + 1)) = nitR (tbl A X) m ((A 1 + k) % 2) (u (531 + (k + 1))) := upA_eq
    have yo : ∀ a, a ≠ 531 + (k + 1) → (upA u (531 + (k + 1)) (nitR (tbl A X) m ((A 1 + k) % 2) (u (531 + (k + 1))))) a = u a := fun a ha => upA_ne ha
    generalize upA u (531 + (k + 1)) (nitR (tbl A X) m ((A 1 + k) % 2) (u (531 + (k + 1)))) = y at *
    simp (disch := (first | decide | omega)) only [jxs, hps, jtsw, jlsw, List.length_cons, List.length_nil, true_and, and_true, true_implies, false_implies, implies_true, not_true_eq_false, not_false_eq_true, false_and, and_false, if_true, if_false, or_true, true_or, or_false, false_or, Classical.not_not, and_self, Int.reduceAdd, Int.reduceMul, Int.reduceSub, Int.reduceNeg, Int.reduceLT, Int.reduceLE, Int.reduceEq, Int.reduceNe, Int.reduceToNat, Nat.reduceAdd, Nat.reduceMul, Nat.reduceSub, Nat.reduceLeDiff, Nat.reduceLT, Nat.reduceEqDiff, reduceIte, Nat.zero_le, Nat.le_refl, Nat.add_zero, Nat.zero_add, xwT hT, xwV hV]
    (repeat (refine And.intro (by (first | omega | assumption | trivial | (simp only [inI]; omega) | (simp only [inL]; omega) | (refine jb_01) | (exact jb_in))) ?_))
    exact hQ y (fun a ha => (yo a ha).trans (hu a ha)) (by rw [y1]; exact cg.1)
  refine jmet_of (ls := [some (vR 400), some (vI k), some (vI mv), none]) sX0_moves rfl (by decide +kernel) (by decide) rfl (by simp [jent]) ?_
  refine jW_step ?_
  simp (disch := (first | decide | omega)) only [bX0_moves, jxs, hps, jtsw, jlsw, List.length_cons, List.length_nil, true_and, and_true, true_implies, false_implies, implies_true, not_true_eq_false, not_false_eq_true, false_and, and_false, if_true, if_false, or_true, true_or, or_false, false_or, Classical.not_not, and_self, Int.reduceAdd, Int.reduceMul, Int.reduceSub, Int.reduceNeg, Int.reduceLT, Int.reduceLE, Int.reduceEq, Int.reduceNe, Int.reduceToNat, Nat.reduceAdd, Nat.reduceMul, Nat.reduceSub, Nat.reduceLeDiff, Nat.reduceLT, Nat.reduceEqDiff, reduceIte, Nat.zero_le, Nat.le_refl, Nat.add_zero, Nat.zero_add, xwT hT, xwV hV, p1, p2, t1, t2, l1, l2, hv, jcpy_eq]
  (repeat (refine And.intro (by (first | omega | assumption | trivial | (simp only [inI]; omega) | (simp only [inL]; omega) | (refine jb_01) | (exact jb_in))) ?_))
  have c1 : (upA v (531 + (k + 1)) (fun i => if 0 ≤ i ∧ i < 0 + m then v (531 + k) (0 + (i - 0)) else v (531 + (k + 1)) i)) (531 + (k + 1)) = (fun i => if 0 ≤ i ∧ i < 0 + m then v (531 + k) (0 + (i - 0)) else v (531 + (k + 1)) i) := upA_eq
  have c2 : EQm m (fun i => if 0 ≤ i ∧ i < 0 + m then v (531 + k) (0 + (i - 0)) else v (531 + (k + 1)) i) (v (531 + k)) := by
    intro i i0 i1
    dsimp only
    rw [if_pos ⟨i0, by omega⟩, show 0 + (i - 0) = i by omega]
  generalize (fun i => if 0 ≤ i ∧ i < 0 + m then v (531 + k) (0 + (i - 0)) else v (531 + (k + 1)) i) = f at *
  refine ⟨fun h => ?_, fun h => ?_⟩
  · refine k1 _ (fun a ha => upA_ne ha) ?_
    rw [if_pos (by omega), upA_eq]
    exact c2
  · have hq := hmv.resolve_left h
    (repeat (refine And.intro (by (first | omega | assumption | trivial | (simp only [inI]; omega) | (simp only [inL]; omega) | (refine jb_01) | (exact jb_in))) ?_))
    refine k1 _ (fun a ha => upA_ne ha) ?_
    rw [if_neg h, upA_eq]
    intro i i0 i1
    unfold swp up1
    by_cases a : i = mv + 1
    · rw [if_pos a, if_pos a]
    · rw [if_neg a, if_neg a]
      by_cases b : i = mv
      · rw [if_pos b, if_pos b]
      · rw [if_neg b, if_neg b]; exact c2 i i0 i1
/-- an order after a move and a night -/
theorem mv_st {c : Int → Int} {o mv kd : Int} (hm : 0 ≤ m ∧ m ≤ 6) (ho : 0 ≤ o ∧ o < fac m) (hmv : mv = -1 ∨ (0 ≤ mv ∧ mv + 1 < m)) (hk : 0 ≤ kd ∧ kd ≤ 1) (hR : RN el m 10) {f : Int → Int} (hf : EQm m f (fun x => el (dec m o x))) :
    (0 ≤ mvA (ldJ (tbE c el) m) m o mv kd ∧ mvA (ldJ (tbE c el) m) m o mv kd < fac m) ∧ EQm m (nitR c m kd (if mv = -1 then f else swp f mv)) (fun x => el (dec m (mvA (ldJ (tbE c el) m) m o mv kd) x)) := by
  have b := mvA_bd (mv := mv) (kind := kd) hm (ldJ_LD (c := tbE c el) hm) ho hmv hk
  refine ⟨b, ?_⟩
  have key : ∃ n, (0 ≤ n ∧ n < fac m) ∧ n = (if mv = -1 then o else ndA m o mv) ∧ EQm m (if mv = -1 then f else swp f mv) (fun x => el (dec m n x)) := by
    by_cases q : mv = -1
    · exact ⟨o, ho, by rw [if_pos q], by rw [if_pos q]; exact hf⟩
    · have hq := hmv.resolve_left q
      refine ⟨ndA m o mv, ndA_bd hm ho hq, by rw [if_neg q], ?_⟩
      rw [if_neg q]
      have pd := prm_dec hm ((dec_PRM hm ho).sw hq)
      intro i i0 i1
      rw [swp_cg hf hq i i0 i1, swp_el]
      dsimp only
      rw [pd.2 i i0 i1]
      rfl
  obtain ⟨n, n1, n2, n3⟩ := key
  have e1 : mvA (ldJ (tbE c el) m) m o mv kd = ooA (nitR (tbE c el) m kd (dec m n)) m := by
    unfold mvA ldJ ldE
    rw [← n2, show (2 * n + kd) / 2 = n by omega, show (2 * n + kd) % 2 = kd by omega]
  have rn : RN (if mv = -1 then f else swp f mv) m 10 := fun i i0 i1 => by
    rw [n3 i i0 i1]
    have := (dec_PRM hm n1).1 i i0 i1
    exact hR _ this.1 this.2
  have cg := nitR_cg (kind := kd) (c := c) (c' := c) (N := 10) hk.1 (fun _ _ _ _ _ _ => rfl) n3 rn
  have en : nitR c m kd (fun x => el (dec m n x)) = fun x => el (nitR (tbE c el) m kd (dec m n) x) := nitL_el 6 kd (dec m n) hk.1 (dec_RN hm n1)
  have pn : PRM (nitR (tbE c el) m kd (dec m n)) m := PRM.nit 6 kd (dec m n) hk.1 (dec_PRM hm n1)
  have pd := prm_dec hm pn
  intro i i0 i1
  rw [cg.1 i i0 i1, en, e1]
  dsimp only
  rw [pd.2 i i0 i1]
theorem plV_bd {ld wo : Int → Int} {ni : Int} (hm : 0 ≤ m ∧ m ≤ 6) (hL : LD ld (fac m)) (h1 : 0 ≤ ni) (hw : ∀ o, 0 ≤ o → o < fac m → 0 ≤ wo o ∧ wo o < 100) : ∀ (r : Nat) (k o : Int), 0 ≤ k → (0 ≤ o ∧ o < fac m) → 1 ≤ m → 0 ≤ plV ld m ni wo r k o ∧ plV ld m ni wo r k o < 100
  | 0, _, o, _, ho, _ => hw o ho.1 ho.2
  | r + 1, k, o, hk, ho, h => by
    unfold plV
    obtain ⟨q, q1, q2⟩ := boA_at (ld := ld) (wo := plV ld m ni wo r (k + 1)) (m := m) (n := o) (kind := (ni + k) % 2) (le := if k % 2 = 0 then 1 else 0) h
    rw [← q2]
    have b := mvA_bd (mv := q) (kind := (ni + k) % 2) hm hL ho (by omega) (by omega)
    exact plV_bd hm hL h1 hw r (k + 1) _ (by omega) b h
/-- only later rows differ -/
def jkg (k : Int) (v w : Int → Int → Int) : Prop := ∀ a, (a ≤ 531 + k ∨ 536 < a) → w a = v a
theorem jkg.K {k : Int} {v w : Int → Int → Int} (h : jkg k v w) (hk : 0 ≤ k) (hV : PV v) (hn : okN (v 522)) : jkK v w := by
  refine ⟨fun a a0 a1 => h a (by omega), fun _ _ _ _ => by rw [h 400 (by omega)], by rw [h 522 (by omega)]; exact hn, hV.fr (fun a ha => h a ?_)⟩
  have key : ∀ b ∈ pvA, b ≤ 531 ∨ 536 < b := by decide
  have := key a ha
  omega
theorem xw_plays {n b : Int} {wo : Int → Int} (hT : PT T) (hm : 2 ≤ m ∧ m ≤ 5) (hR : RN el m (A 0)) (hn : n ≤ 5) (h1 : 0 ≤ A 1 ∧ A 1 < 100000) (hwo : wo = wo0 el m b) (hb : ∀ o, 0 ≤ o → o < fac m → ONE (fun x => el (dec m o x)) m b) : ∀ (r : Nat) (k : Int) (v : Int → Int → Int) (o : Int) (d : Nat) (Q : jjQ), PV v → CI (v, T) A X → CHB (v 523) A X → v 400 10 = m → 0 ≤ k → k + r = n → (0 ≤ o ∧ o < fac m) → EQm m (v (531 + k)) (fun x => el (dec m o x)) →
    (∀ w, jkg k v w → Q (.inl (some (vI (plV (ldJ (tbE (tbl A X) el) m) m (A 1) wo r k o)))) (w, T)) → jmet g (d + r + 4) 0 0 MX0_plays [vR 400, vI k, vI n, vI b] (v, T) Q := by
  have m6 : 0 ≤ m ∧ m ≤ 6 := by omega
  have hwb : ∀ o, 0 ≤ o → o < fac m → 0 ≤ wo o ∧ wo o < 100 := by
    intro o o0 o1
    obtain ⟨q, q1, q2, q3⟩ := hb o o0 o1
    rw [hwo]
    unfold wo0
    rw [pwF_pb q1 q2 q3]
    omega
  intro r
  induction r with
  | zero =>
    intro k v o d Q hV hC hB hv hk hr ho hE hQ
    have p1 := PVmv hV (k := k) ⟨hk, by omega⟩
    obtain ⟨t1, l1⟩ := PTmv hT (k := k) ⟨hk, by omega⟩
    obtain ⟨q, q1, q2, q3⟩ := hb o ho.1 ho.2
    have ex : v (531 + k) q = b := by rw [hE q q1.1 q1.2]; exact q2
    have ep : pwF (v (531 + k)) b m.toNat 0 = q := pwF_at ex m.toNat 0 (by omega) (fun j j0 j1 hj => by
      rw [hE j j0 (by omega)] at hj
      have := q3 j j0 (by omega) hj
      omega)
    unfold plV at hQ
    rw [hwo] at hQ
    unfold wo0 at hQ
    rw [pwF_pb q1 q2 q3] at hQ
    refine jmet_of (ls := [some (vR 400), some (vI k), some (vI n), some (vI b), none, none, none]) sX0_plays rfl (by decide +kernel) (by decide) rfl (by simp [jent]) ?_
    refine jW_step ?_
    simp (disch := (first | decide | omega)) only [bX0_plays, jxs, hps, jtsw, jlsw, List.length_cons, List.length_nil, true_and, and_true, true_implies, false_implies, implies_true, not_true_eq_false, not_false_eq_true, false_and, and_false, if_true, if_false, or_true, true_or, or_false, false_or, Classical.not_not, and_self, Int.reduceAdd, Int.reduceMul, Int.reduceSub, Int.reduceNeg, Int.reduceLT, Int.reduceLE, Int.reduceEq, Int.reduceNe, Int.reduceToNat, Nat.reduceAdd, Nat.reduceMul, Nat.reduceSub, Nat.reduceLeDiff, Nat.reduceLT, Nat.reduceEqDiff, reduceIte, Nat.zero_le, Nat.le_refl, Nat.add_zero, Nat.zero_add, xwT hT, xwV hV, p1, t1, l1]
    (first | refine ⟨fun h9 => (by exfalso; omega), fun _ => ?_⟩ | intro _)
    (repeat (refine And.intro (by (first | omega | assumption | trivial | (simp only [inI]; omega) | (simp only [inL]; omega) | (refine jb_01) | (exact jb_in))) ?_))
    refine ⟨0, 0, ⟨by omega, by omega⟩, xw_placeIn (d := d + 2) (m := m) t1 (by rw [l1]; omega) ⟨by omega, by omega⟩ ⟨q, q1, ex⟩ ?_⟩
    rw [ep]
    simp (disch := (first | decide | omega)) only [jxs, hps, jtsw, jlsw, List.length_cons, List.length_nil, true_and, and_true, true_implies, false_implies, implies_true, not_true_eq_false, not_false_eq_true, false_and, and_false, if_true, if_false, or_true, true_or, or_false, false_or, Classical.not_not, and_self, Int.reduceAdd, Int.reduceMul, Int.reduceSub, Int.reduceNeg, Int.reduceLT, Int.reduceLE, Int.reduceEq, Int.reduceNe, Int.reduceToNat, Nat.reduceAdd, Nat.reduceMul, Nat.reduceSub, Nat.reduceLeDiff, Nat.reduceLT, Nat.reduceEqDiff, reduceIte, Nat.zero_le, Nat.le_refl, Nat.add_zero, Nat.zero_add, xwT hT, xwV hV]
    (repeat (refine And.intro (by (first | omega | assumption | trivial | (simp only [inI]; omega) | (simp only [inL]; omega) | (refine jb_01) | (exact jb_in))) ?_))
    exact hQ v (fun _ _ => rfl)
  | succ r ih =>
    intro k v o d Q hV hC hB hv hk hr ho hE hQ
    have h0 := hC.tb.1
    have hLD := ldJ_LD (c := tbE (tbl A X) el) m6
    have kd : 0 ≤ (A 1 + k) % 2 ∧ (A 1 + k) % 2 ≤ 1 := by omega
    have rn : RN (v (531 + k)) m (A 0) := fun i i0 i1 => by
      rw [hE i i0 i1]
      have := (dec_PRM m6 ho).1 i i0 i1
      exact hR _ this.1 this.2
    have st := fun mv (hmv : mv = -1 ∨ (0 ≤ mv ∧ mv + 1 < m)) => mv_st (c := tbl A X) (o := o) (mv := mv) (kd := (A 1 + k) % 2) m6 ho hmv kd (fun i i0 i1 => by have := hR i i0 i1; omega) hE
    have wb := fun mv (hmv : mv = -1 ∨ (0 ≤ mv ∧ mv + 1 < m)) => plV_bd (ld := ldJ (tbE (tbl A X) el) m) (ni := A 1) m6 hLD h1.1 hwb r (k + 1) _ (by omega) (st mv hmv).1 (by omega)
    generalize hwk : plV (ldJ (tbE (tbl A X) el) m) m (A 1) wo r (k + 1) = wk at *
    have qe : plV (ldJ (tbE (tbl A X) el) m) m (A 1) wo (r + 1) k o = boA (ldJ (tbE (tbl A X) el) m) wk m o ((A 1 + k) % 2) (if k % 2 = 0 then 1 else 0) := by rw [← hwk]; rfl
    rw [qe] at hQ
    unfold boA at hQ
    generalize ldJ (tbE (tbl A X) el) m = ld at *
    -- a move: what comes of it
    have one : ∀ (mv : Int) (w : Int → Int → Int) (K : jjQ), (mv = -1 ∨ (0 ≤ mv ∧ mv + 1 < m)) → jkg k v w → (∀ u, jkg k v u → EQm m (u (531 + (k + 1))) (fun x => el (dec m (mvA ld m o mv ((A 1 + k) % 2)) x)) → K (.inl none) (u, T)) → jmet g (d + r + 4) 0 0 MX0_moves [vR 400, vI k, vI mv] (w, T) K := by
      intro mv w K hmv hw hK
      have jw := hw.K hk hV hC.nm
      refine xw_moves (d := d + r + 1) (A := A) (X := X) hT jw.pv (jw.ci hC) (by rw [hw 523 (by omega)]; exact hB) (by rw [hw 400 (by omega)]; exact hv) ⟨by omega, hm.2⟩ ⟨⟨hk, by omega⟩, hmv, by rw [hw (531 + k) (by omega)]; exact rn, h1⟩ ?_
      intro u u1 u2
      rw [hw (531 + k) (by omega)] at u2
      exact hK u (fun a ha => by rw [u1 a (by omega)]; exact hw a ha) (fun i i0 i1 => (u2 i i0 i1).trans ((st mv hmv).2 i i0 i1))
    have lp : ∀ (s : Nat) (mv : Int) (w : Int → Int → Int) (bs : Int) (l6 : Option jjV), 0 ≤ mv → (m = mv + 1 + s ∨ (m ≤ mv + 1 ∧ s = 0)) → mv ≤ 10 → (0 ≤ bs ∧ bs < 100) → jkg k v w →
        (∀ u, jkg k v u → Q (.inl (some (vI (boF ld wk m o ((A 1 + k) % 2) (if k % 2 = 0 then 1 else 0) s mv bs)))) (u, T)) →
        jW bX0_plays (g, d + r + 4, 0, 0, Q) 1 [some (vR 400), some (vI k), some (vI n), some (vI b), some (vI bs), some (vI mv), l6] [] (w, T) 0 0 := by
      intro s
      induction s with
      | zero =>
        intro mv w bs l6 hmv hs hmv2 hbs hw hq
        have jw := hw.K hk hV hC.nm
        have hvw : w 400 10 = m := by rw [hw 400 (by omega)]; exact hv
        have hV := jw.pv
        unfold boF at hq
        refine jW_step ?_
        simp (disch := (first | decide | omega)) only [bX0_plays, jxs, hps, jtsw, jlsw, List.length_cons, List.length_nil, true_and, and_true, true_implies, false_implies, implies_true, not_true_eq_false, not_false_eq_true, false_and, and_false, if_true, if_false, or_true, true_or, or_false, false_or, Classical.not_not, and_self, Int.reduceAdd, Int.reduceMul, Int.reduceSub, Int.reduceNeg, Int.reduceLT, Int.reduceLE, Int.reduceEq, Int.reduceNe, Int.reduceToNat, Nat.reduceAdd, Nat.reduceMul, Nat.reduceSub, Nat.reduceLeDiff, Nat.reduceLT, Nat.reduceEqDiff, reduceIte, Nat.zero_le, Nat.le_refl, Nat.add_zero, Nat.zero_add, xwT hT, xwV hV, hvw]
        (repeat (refine And.intro (by (first | omega | assumption | trivial | (simp only [inI]; omega) | (simp only [inL]; omega) | (refine jb_01) | (exact jb_in))) ?_))
        (try refine ⟨fun _ => ?_, fun h9 => (by exfalso; omega)⟩)
        (repeat (refine And.intro (by (first | omega | assumption | trivial | (simp only [inI]; omega) | (simp only [inL]; omega) | (refine jb_01) | (exact jb_in))) ?_))
        exact hq w hw
      | succ s is =>
        intro mv w bs l6 hmv hs hmv2 hbs hw hq
        have jw := hw.K hk hV hC.nm
        have hvw : w 400 10 = m := by rw [hw 400 (by omega)]; exact hv
        have hmv3 : mv = -1 ∨ (0 ≤ mv ∧ mv + 1 < m) := Or.inr (by omega)
        have z1 := wb mv hmv3
        have hV0 := hV
        have hV := jw.pv
        unfold boF at hq
        have k3 : ∀ (u : Int → Int → Int) (z bs' : Int), jkg k v u → (0 ≤ bs' ∧ bs' < 100) → (bs' = if (if k % 2 = 0 then (1 : Int) else 0) = 0 then (if bs < wk (mvA ld m o mv ((A 1 + k) % 2)) then wk (mvA ld m o mv ((A 1 + k) % 2)) else bs) else (if wk (mvA ld m o mv ((A 1 + k) % 2)) < bs then wk (mvA ld m o mv ((A 1 + k) % 2)) else bs)) → jW bX0_plays (g, d + r + 4, 0, 0, Q) 3 [some (vR 400), some (vI k), some (vI n), some (vI b), some (vI bs'), some (vI mv), some (vI z)] [] (u, T) 0 0 := by
          intro u z bs' hu hb1 hb2
          rw [← hb2] at hq
          have hV := (hu.K hk hV0 hC.nm).pv
          refine jW_step ?_
          simp (disch := (first | decide | omega)) only [bX0_plays, jxs, hps, jtsw, jlsw, List.length_cons, List.length_nil, true_and, and_true, true_implies, false_implies, implies_true, not_true_eq_false, not_false_eq_true, false_and, and_false, if_true, if_false, or_true, true_or, or_false, false_or, Classical.not_not, and_self, Int.reduceAdd, Int.reduceMul, Int.reduceSub, Int.reduceNeg, Int.reduceLT, Int.reduceLE, Int.reduceEq, Int.reduceNe, Int.reduceToNat, Nat.reduceAdd, Nat.reduceMul, Nat.reduceSub, Nat.reduceLeDiff, Nat.reduceLT, Nat.reduceEqDiff, reduceIte, Nat.zero_le, Nat.le_refl, Nat.add_zero, Nat.zero_add, xwT hT, xwV hV]
          (repeat (refine And.intro (by (first | omega | assumption | trivial | (simp only [inI]; omega) | (simp only [inL]; omega) | (refine jb_01) | (exact jb_in))) ?_))
          exact is (mv + 1) u bs' _ (by omega) (by omega) (by omega) hb1 hu hq
        refine jW_step ?_
        simp (disch := (first | decide | omega)) only [bX0_plays, jxs, hps, jtsw, jlsw, List.length_cons, List.length_nil, true_and, and_true, true_implies, false_implies, implies_true, not_true_eq_false, not_false_eq_true, false_and, and_false, if_true, if_false, or_true, true_or, or_false, false_or, Classical.not_not, and_self, Int.reduceAdd, Int.reduceMul, Int.reduceSub, Int.reduceNeg, Int.reduceLT, Int.reduceLE, Int.reduceEq, Int.reduceNe, Int.reduceToNat, Nat.reduceAdd, Nat.reduceMul, Nat.reduceSub, Nat.reduceLeDiff, Nat.reduceLT, Nat.reduceEqDiff, reduceIte, Nat.zero_le, Nat.le_refl, Nat.add_zero, Nat.zero_add, xwT hT, xwV hV, hvw]
        (repeat (refine And.intro (by (first | omega | assumption | trivial | (simp only [inI]; omega) | (simp only [inL]; omega) | (refine jb_01) | (exact jb_in))) ?_))
        (first | refine ⟨fun h9 => (by exfalso; omega), fun _ => ?_⟩ | intro _)
        refine ⟨0, 0, ⟨by omega, by omega⟩, one mv w _ hmv3 hw ?_⟩
        intro u hu hue
        have ju := hu.K hk hV0 hC.nm
        have hV := ju.pv
        simp (disch := (first | decide | omega)) only [jxs, hps, jtsw, jlsw, List.length_cons, List.length_nil, true_and, and_true, true_implies, false_implies, implies_true, not_true_eq_false, not_false_eq_true, false_and, and_false, if_true, if_false, or_true, true_or, or_false, false_or, Classical.not_not, and_self, Int.reduceAdd, Int.reduceMul, Int.reduceSub, Int.reduceNeg, Int.reduceLT, Int.reduceLE, Int.reduceEq, Int.reduceNe, Int.reduceToNat, Nat.reduceAdd, Nat.reduceMul, Nat.reduceSub, Nat.reduceLeDiff, Nat.reduceLT, Nat.reduceEqDiff, reduceIte, Nat.zero_le, Nat.le_refl, Nat.add_zero, Nat.zero_add, xwT hT, xwV hV]
        (repeat (refine And.intro (by (first | omega | assumption | trivial | (simp only [inI]; omega) | (simp only [inL]; omega) | (refine jb_01) | (exact jb_in))) ?_))
        refine ⟨0, 0, ⟨by omega, by omega⟩, ih (k + 1) u _ d _ hV (ju.ci hC) (by rw [hu 523 (by omega)]; exact hB) (by rw [hu 400 (by omega)]; exact hv) (by omega) (by omega) (st mv hmv3).1 hue ?_⟩
        intro y hy
        have hyv : jkg k v y := fun a ha => (hy a (by omega)).trans (hu a ha)
        have jy := hyv.K hk hV0 hC.nm
        have hVy := jy.pv
        rw [hwk]
        generalize wk (mvA ld m o mv ((A 1 + k) % 2)) = z at *
        have k2 : (z = if (if k % 2 = 0 then (1 : Int) else 0) = 0 then (if bs < z then z else bs) else (if z < bs then z else bs)) → jW bX0_plays (g, d + r + 4, 0, 0, Q) 2 [some (vR 400), some (vI k), some (vI n), some (vI b), some (vI bs), some (vI mv), some (vI z)] [] (y, T) 0 0 := by
          intro hz
          have hV := hVy
          refine jW_step ?_
          simp (disch := (first | decide | omega)) only [bX0_plays, jxs, hps, jtsw, jlsw, List.length_cons, List.length_nil, true_and, and_true, true_implies, false_implies, implies_true, not_true_eq_false, not_false_eq_true, false_and, and_false, if_true, if_false, or_true, true_or, or_false, false_or, Classical.not_not, and_self, Int.reduceAdd, Int.reduceMul, Int.reduceSub, Int.reduceNeg, Int.reduceLT, Int.reduceLE, Int.reduceEq, Int.reduceNe, Int.reduceToNat, Nat.reduceAdd, Nat.reduceMul, Nat.reduceSub, Nat.reduceLeDiff, Nat.reduceLT, Nat.reduceEqDiff, reduceIte, Nat.zero_le, Nat.le_refl, Nat.add_zero, Nat.zero_add, xwT hT, xwV hV]
          exact k3 y z z hyv z1 hz
        have hV := hVy
        simp (disch := (first | decide | omega)) only [jxs, hps, jtsw, jlsw, List.length_cons, List.length_nil, true_and, and_true, true_implies, false_implies, implies_true, not_true_eq_false, not_false_eq_true, false_and, and_false, if_true, if_false, or_true, true_or, or_false, false_or, Classical.not_not, and_self, Int.reduceAdd, Int.reduceMul, Int.reduceSub, Int.reduceNeg, Int.reduceLT, Int.reduceLE, Int.reduceEq, Int.reduceNe, Int.reduceToNat, Nat.reduceAdd, Nat.reduceMul, Nat.reduceSub, Nat.reduceLeDiff, Nat.reduceLT, Nat.reduceEqDiff, reduceIte, Nat.zero_le, Nat.le_refl, Nat.add_zero, Nat.zero_add, xwT hT, xwV hV]
        (first | refine ⟨fun h9 => (by exfalso; omega), fun _ => ?_⟩ | intro _)
        (repeat (refine And.intro (by (first | omega | assumption | trivial | (simp only [inI]; omega) | (simp only [inL]; omega) | (refine jb_01) | (exact jb_in))) ?_))
        refine ⟨fun h => ?_, fun h => ?_⟩
        · refine ⟨fun h2 => ?_, fun h2 => ?_⟩
          · exact k3 y z bs hyv hbs (by rw [if_neg h, if_pos rfl, if_neg (by omega)])
          · exact k2 (by rw [if_neg h, if_pos rfl, if_pos (by omega)])
        · refine ⟨fun h2 => ?_, fun h2 => ?_⟩
          · exact k3 y z bs hyv hbs (by rw [if_pos (show k % 2 = 0 by omega), if_neg (show ¬ (1 : Int) = 0 by decide), if_neg (by omega)])
          · exact k2 (by rw [if_pos (show k % 2 = 0 by omega), if_neg (show ¬ (1 : Int) = 0 by decide), if_pos (by omega)])
    have rf : jkg k v v := fun _ _ => rfl
    have hmv3 : (-1 : Int) = -1 ∨ (0 ≤ (-1 : Int) ∧ (-1 : Int) + 1 < m) := Or.inl rfl
    have z1 := wb (-1) hmv3
    refine jmet_of (ls := [some (vR 400), some (vI k), some (vI n), some (vI b), none, none, none]) sX0_plays rfl (by decide +kernel) (by decide) rfl (by simp [jent]) ?_
    refine jW_step ?_
    simp (disch := (first | decide | omega)) only [bX0_plays, jxs, hps, jtsw, jlsw, List.length_cons, List.length_nil, true_and, and_true, true_implies, false_implies, implies_true, not_true_eq_false, not_false_eq_true, false_and, and_false, if_true, if_false, or_true, true_or, or_false, false_or, Classical.not_not, and_self, Int.reduceAdd, Int.reduceMul, Int.reduceSub, Int.reduceNeg, Int.reduceLT, Int.reduceLE, Int.reduceEq, Int.reduceNe, Int.reduceToNat, Nat.reduceAdd, Nat.reduceMul, Nat.reduceSub, Nat.reduceLeDiff, Nat.reduceLT, Nat.reduceEqDiff, reduceIte, Nat.zero_le, Nat.le_refl, Nat.add_zero, Nat.zero_add, xwT hT, xwV hV]
    (try refine ⟨fun _ => ?_, fun h9 => (by exfalso; omega)⟩)
    refine jW_step ?_
    simp (disch := (first | decide | omega)) only [bX0_plays, jxs, hps, jtsw, jlsw, List.length_cons, List.length_nil, true_and, and_true, true_implies, false_implies, implies_true, not_true_eq_false, not_false_eq_true, false_and, and_false, if_true, if_false, or_true, true_or, or_false, false_or, Classical.not_not, and_self, Int.reduceAdd, Int.reduceMul, Int.reduceSub, Int.reduceNeg, Int.reduceLT, Int.reduceLE, Int.reduceEq, Int.reduceNe, Int.reduceToNat, Nat.reduceAdd, Nat.reduceMul, Nat.reduceSub, Nat.reduceLeDiff, Nat.reduceLT, Nat.reduceEqDiff, reduceIte, Nat.zero_le, Nat.le_refl, Nat.add_zero, Nat.zero_add, xwT hT, xwV hV, hv]
    (repeat (refine And.intro (by (first | omega | assumption | trivial | (simp only [inI]; omega) | (simp only [inL]; omega) | (refine jb_01) | (exact jb_in))) ?_))
    (first | refine ⟨fun h9 => (by exfalso; omega), fun _ => ?_⟩ | intro _)
    refine ⟨0, 0, ⟨by omega, by omega⟩, one (-1) v _ hmv3 rf ?_⟩
    intro u hu hue
    have ju := hu.K hk hV hC.nm
    have hV0 := hV
    have hV := ju.pv
    simp (disch := (first | decide | omega)) only [jxs, hps, jtsw, jlsw, List.length_cons, List.length_nil, true_and, and_true, true_implies, false_implies, implies_true, not_true_eq_false, not_false_eq_true, false_and, and_false, if_true, if_false, or_true, true_or, or_false, false_or, Classical.not_not, and_self, Int.reduceAdd, Int.reduceMul, Int.reduceSub, Int.reduceNeg, Int.reduceLT, Int.reduceLE, Int.reduceEq, Int.reduceNe, Int.reduceToNat, Nat.reduceAdd, Nat.reduceMul, Nat.reduceSub, Nat.reduceLeDiff, Nat.reduceLT, Nat.reduceEqDiff, reduceIte, Nat.zero_le, Nat.le_refl, Nat.add_zero, Nat.zero_add, xwT hT, xwV hV]
    (repeat (refine And.intro (by (first | omega | assumption | trivial | (simp only [inI]; omega) | (simp only [inL]; omega) | (refine jb_01) | (exact jb_in))) ?_))
    refine ⟨0, 0, ⟨by omega, by omega⟩, ih (k + 1) u _ d _ hV (ju.ci hC) (by rw [hu 523 (by omega)]; exact hB) (by rw [hu 400 (by omega)]; exact hv) (by omega) (by omega) (st (-1) hmv3).1 hue ?_⟩
    intro y hy
    have hyv : jkg k v y := fun a ha => (hy a (by omega)).trans (hu a ha)
    have hV := (hyv.K hk hV0 hC.nm).pv
    rw [hwk]
    generalize wk (mvA ld m o (-1) ((A 1 + k) % 2)) = z at *
    simp (disch := (first | decide | omega)) only [jxs, hps, jtsw, jlsw, List.length_cons, List.length_nil, true_and, and_true, true_implies, false_implies, implies_true, not_true_eq_false, not_false_eq_true, false_and, and_false, if_true, if_false, or_true, true_or, or_false, false_or, Classical.not_not, and_self, Int.reduceAdd, Int.reduceMul, Int.reduceSub, Int.reduceNeg, Int.reduceLT, Int.reduceLE, Int.reduceEq, Int.reduceNe, Int.reduceToNat, Nat.reduceAdd, Nat.reduceMul, Nat.reduceSub, Nat.reduceLeDiff, Nat.reduceLT, Nat.reduceEqDiff, reduceIte, Nat.zero_le, Nat.le_refl, Nat.add_zero, Nat.zero_add, xwT hT, xwV hV]
    refine jW_step ?_
    simp (disch := (first | decide | omega)) only [bX0_plays, jxs, hps, jtsw, jlsw, List.length_cons, List.length_nil, true_and, and_true, true_implies, false_implies, implies_true, not_true_eq_false, not_false_eq_true, false_and, and_false, if_true, if_false, or_true, true_or, or_false, false_or, Classical.not_not, and_self, Int.reduceAdd, Int.reduceMul, Int.reduceSub, Int.reduceNeg, Int.reduceLT, Int.reduceLE, Int.reduceEq, Int.reduceNe, Int.reduceToNat, Nat.reduceAdd, Nat.reduceMul, Nat.reduceSub, Nat.reduceLeDiff, Nat.reduceLT, Nat.reduceEqDiff, reduceIte, Nat.zero_le, Nat.le_refl, Nat.add_zero, Nat.zero_add, xwT hT, xwV hV]
    refine jW_step ?_
    simp (disch := (first | decide | omega)) only [bX0_plays, jxs, hps, jtsw, jlsw, List.length_cons, List.length_nil, true_and, and_true, true_implies, false_implies, implies_true, not_true_eq_false, not_false_eq_true, false_and, and_false, if_true, if_false, or_true, true_or, or_false, false_or, Classical.not_not, and_self, Int.reduceAdd, Int.reduceMul, Int.reduceSub, Int.reduceNeg, Int.reduceLT, Int.reduceLE, Int.reduceEq, Int.reduceNe, Int.reduceToNat, Nat.reduceAdd, Nat.reduceMul, Nat.reduceSub, Nat.reduceLeDiff, Nat.reduceLT, Nat.reduceEqDiff, reduceIte, Nat.zero_le, Nat.le_refl, Nat.add_zero, Nat.zero_add, xwT hT, xwV hV]
    (repeat (refine And.intro (by (first | omega | assumption | trivial | (simp only [inI]; omega) | (simp only [inL]; omega) | (refine jb_01) | (exact jb_in))) ?_))
    exact lp (m - 1).toNat 0 y z _ (by omega) (by omega) (by omega) z1 hyv hQ
end XG
