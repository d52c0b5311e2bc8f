/-! ===== the class's memory and what it stands for ===== -/
-- MODE X
set_option maxRecDepth 100000
theorem jcpy_eq {v : Int → Int → Int} {T : jjT} {a b sp dp n : Int} : jcpy (v, T) a b sp dp n = (upA v b (fun k => if dp ≤ k ∧ k < dp + n then v a (sp + (k - dp)) else v b k), T) := by
  unfold jcpy
  refine Prod.ext ?_ rfl
  funext x k
  unfold upA
  by_cases h : x = b
  · subst h
    dsimp only
    rw [if_pos rfl]
    by_cases h2 : dp ≤ k ∧ k < dp + n
    · rw [if_pos ⟨rfl, h2⟩, if_pos h2]
    · rw [if_neg (fun q => h2 q.2), if_neg h2]
  · dsimp only
    rw [if_neg (fun q => h q.1), if_neg h]
def mn6 (x : Int) : Int := if x < 60 then x else 60
/-- a row: how many on each shelf, which; where each book is; wet, night, x, pushes -/
def RWx (f : Int → Int) (N : Int) (M : Int → Int) (P : Int → Int → Int) (W : Int → Int) (wt ni dr pu : Int) (G : Int → Int) : Prop :=
  (∀ s, 0 ≤ s → s < 3 → f (11 * s) = M s) ∧ (∀ s p, 0 ≤ s → s < 3 → 0 ≤ p → p < M s → f (11 * s + 1 + p) = P s p) ∧
  (∀ b, 0 ≤ b → b < 10 → f (33 + b) = if b < N then W b else 3) ∧ f 43 = wt ∧ f 44 = ni ∧ f 45 = dr ∧ f 46 = mn6 pu ∧
  (∀ i w, 0 ≤ i → i < mn6 pu → 0 ≤ w → w < 4 → f (47 + 4 * i + w) = G (4 * ((pu - mn6 pu + i) % 512) + w))
def RW (f A : Int → Int) : Prop := RWx f (A 0) (fun s => A (13 + s)) (fun s p => A (16 + 10 * s + p)) (fun b => A (46 + 6 * b + 5)) (A 2) (A 1) (A 4) (A 9) (fun i => A (1594 + i))
def RS (f A : Int → Int) (k : Int) : Prop := RWx f (A (154 + 48 * k)) (fun s => A (154 + 48 * k + 5 + s)) (fun s p => A (154 + 48 * k + 8 + 10 * s + p)) (fun b => A (154 + 48 * k + 38 + b)) (A (154 + 48 * k + 2)) (A (154 + 48 * k + 1)) (A (154 + 48 * k + 3)) (A (154 + 48 * k + 4)) (fun i => A (1594 + i))
def fclT (X : Int → Int) (t so la : Int) : Int := fcl X (705 * t) so la (X (705 * t)).toNat 0
/-- the clauses that are doings -/
def dgL (X : Int → Int) (t : Int) : Nat → List Int
  | 0 => []
  | n + 1 => dgL X t n ++ (if 4 ≤ X (705 * t + 1 + 4 * n) then [(n : Int)] else [])
def DGx (h : jjH) (a : Int) (X : Int → Int) (t c : Int) : Prop := jfz a ∧ jok h.2 a 13 ∧ h.1 a 0 = 200 + X (705 * t + 1 + 4 * c) ∧ h.1 a 4 = c ∧
  (4 ≤ X (705 * t + 1 + 4 * c) ∧ X (705 * t + 1 + 4 * c) ≤ 7 → h.1 a 1 = X (705 * t + 1 + 4 * c + 1)) ∧
  (X (705 * t + 1 + 4 * c) = 5 ∨ X (705 * t + 1 + 4 * c) = 7 → h.1 a 2 = X (705 * t + 1 + 4 * c + 2)) ∧
  (X (705 * t + 1 + 4 * c) = 7 → h.1 a 3 = X (705 * t + 1 + 4 * c + 3))
/-- a text's cells stand for a text -/
def TXC (h : jjH) (a : Int) (X : Int → Int) (t : Int) : Prop :=
  (jfz a ∧ jok h.2 a 4 ∧ jfz (h.1 a 0) ∧ jok h.2 (h.1 a 0) (-7) ∧ jln h.2 (h.1 a 0) = 6) ∧
  (∀ l, 0 ≤ l → l < 6 → (fclT X t 0 l < 0 → h.1 (h.1 a 0) l = 0) ∧ (0 ≤ fclT X t 0 l → TR h 100 (h.1 (h.1 a 0) l) (tcode X t (fclT X t 0 l)))) ∧
  ((fclT X t 1 0 < 0 → h.1 a 1 = 0) ∧ (0 ≤ fclT X t 1 0 → TR h 100 (h.1 a 1) (tcode X t (fclT X t 1 0)))) ∧
  ((fclT X t 2 0 < 0 → h.1 a 2 = 0) ∧ (0 ≤ fclT X t 2 0 → VR h 100 (h.1 a 2) (tcode X t (fclT X t 2 0)))) ∧
  ((fclT X t 3 0 < 0 → h.1 a 3 = 0) ∧ (0 ≤ fclT X t 3 0 → h.1 a 3 = X (705 * t + 1 + 4 * fclT X t 3 0 + 1))) ∧
  zLst h (h.1 a 5) (dgL X t (X (705 * t)).toNat).length ∧ ∀ i : Nat, i < (dgL X t (X (705 * t)).toNat).length → DGx h (aGet h (h.1 a 5) i) X t ((dgL X t (X (705 * t)).toNat).getD i 0)
/-- the text that says nothing -/
def TXN (h : jjH) : Prop := jok h.2 2 4 ∧ jfz (h.1 2 0) ∧ jok h.2 (h.1 2 0) (-7) ∧ jln h.2 (h.1 2 0) = 6 ∧ (∀ l, 0 ≤ l → l < 6 → h.1 (h.1 2 0) l = 0) ∧ h.1 2 1 = 0 ∧ h.1 2 2 = 0 ∧ h.1 2 3 = 0
def cN (f A : Int → Int) : Prop := f 0 = A 0 ∧ f 1 = A 3 ∧ f 2 = A 5 ∧ f 3 = A 6 ∧ f 4 = A 7 ∧ f 5 = A 8
/-- a state's cells (from o on) stand for the reference's numbers and texts -/
def CS (h : jjH) (o : Int) (A X : Int → Int) : Prop :=
  cN (h.1 (o + 1)) A ∧ (∀ s, 0 ≤ s → s < 3 → h.1 (o + 2) s = A (10 + s)) ∧ RW (h.1 (o + 3)) A ∧
  (∀ b w, 0 ≤ b → b < A 0 → 0 ≤ w → w < 5 → h.1 (o + 5 + b) w = A (46 + 6 * b + w)) ∧
  (∀ k w, 0 ≤ k → k < A 8 → 0 ≤ w → w < 4 → h.1 (o + 16 + k) w = A (106 + 4 * k + w)) ∧
  (∀ k, 0 ≤ k → k < A 7 → RS (h.1 (o + 29 + k)) A k) ∧
  ∀ t, 0 ≤ t → t < A 5 → TXC h (h.1 (o + 59) t) X t
/-- the books' laws are laws -/
def LW (A : Int → Int) : Prop := ∀ b, 0 ≤ b → b < A 0 → 0 ≤ A (46 + 6 * b + 4) ∧ A (46 + 6 * b + 4) < 6
def CI (h : jjH) (A X : Int → Int) : Prop := CS h 401 A X ∧ okN (h.1 522) ∧ TXN h ∧ TB A ∧ TX (A 5) X ∧ (0 ≤ A 7 ∧ A 7 ≤ 30) ∧ (0 ≤ A 8 ∧ A 8 ≤ 12) ∧ LW A
theorem TXC.gr {h h' : jjH} (g : jGR h h') {a t : Int} {X : Int → Int} (q : TXC h a X t) : TXC h' a X t := by
  obtain ⟨⟨z1, k1, z2, k2, l2⟩, q1, q2, q3, q4, q5, q6⟩ := q
  have e1 := g.at k1 z1
  have e2 := g.at k2 z2
  have l5 := g.ls q5
  unfold TXC
  rw [e1, e2]
  refine ⟨⟨z1, g.ok k1, z2, g.ok k2, ?_⟩, fun l l0 l1 => ⟨(q1 l l0 l1).1, fun h9 => TR.gr g _ _ _ ((q1 l l0 l1).2 h9)⟩, ⟨q2.1, fun h9 => TR.gr g _ _ _ (q2.2 h9)⟩, ⟨q3.1, fun h9 => VR.gr g _ _ _ (q3.2 h9)⟩, q4, l5.1, fun i hi => ?_⟩
  · unfold jln at l2 ⊢
    rw [g.2.1 _ k2.1 k2.2.1]
    exact l2
  · have w := q6 i hi
    rw [l5.2.2]
    unfold DGx at w ⊢
    obtain ⟨w1, w2, w3⟩ := w
    rw [g.at w2 w1]
    exact ⟨w1, g.ok w2, w3⟩
theorem TXN.gr {h h' : jjH} (g : jGR h h') (q : TXN h) : TXN h' := by
  obtain ⟨k1, z2, k2, l2, q⟩ := q
  have z1 : jfz 2 := Or.inl (by decide)
  have e1 := g.at k1 z1
  have e2 := g.at k2 z2
  unfold TXN
  rw [e1, e2]
  refine ⟨g.ok k1, z2, g.ok k2, ?_, q⟩
  unfold jln at l2 ⊢
  rw [g.2.1 _ k2.1 k2.2.1]
  exact l2
theorem CS.fr {v w : Int → Int → Int} {T T' : jjT} {o : Int} {A X : Int → Int} (q : CS (v, T) o A X) (h0 : A 0 ≤ 10) (h7 : A 7 ≤ 30) (h8 : A 8 ≤ 12) (e : ∀ a, o < a → a ≤ o + 59 → w a = v a) (g : jGR (v, T) (w, T')) : CS (w, T') o A X := by
  obtain ⟨q1, q2, q3, q4, q5, q6, q7⟩ := q
  dsimp only at q1 q2 q3 q4 q5 q6 q7
  refine ⟨?_, fun s s0 s1 => ?_, ?_, fun b w b0 b1 w0 w1 => ?_, fun b w b0 b1 w0 w1 => ?_, fun k k0 k1 => ?_, fun t t0 t1 => ?_⟩
  · dsimp only; rw [e _ (by omega) (by omega)]; exact q1
  · dsimp only; rw [e _ (by omega) (by omega)]; exact q2 s s0 s1
  · dsimp only; rw [e _ (by omega) (by omega)]; exact q3
  · dsimp only; rw [e _ (by omega) (by omega)]; exact q4 b w b0 b1 w0 w1
  · dsimp only; rw [e _ (by omega) (by omega)]; exact q5 b w b0 b1 w0 w1
  · dsimp only; rw [e _ (by omega) (by omega)]; exact q6 k k0 k1
  · dsimp only; rw [e _ (by omega) (by omega)]; exact (q7 t t0 t1).gr g
theorem jGR_of {v w : Int → Int → Int} {T : jjT} (e : ∀ a, jfz a → w a = v a) : jGR (v, T) (w, T) := ⟨Int.le_refl _, fun _ _ _ => rfl, fun a _ _ hz => e a hz⟩
/-- names alone differ -/
def jkq (v w : Int → Int → Int) : Prop := (∀ a, a ≠ 522 → w a = v a) ∧ okN (w 522)
theorem jkq.ci {v w : Int → Int → Int} {T : jjT} {A X : Int → Int} (h : jkq v w) (q : CI (v, T) A X) : CI (w, T) A X := by
  have g : jGR (v, T) (w, T) := jGR_of (fun a ha => h.1 a (by unfold jfz at ha; omega))
  exact ⟨q.1.fr q.2.2.2.1.1.2 q.2.2.2.2.2.1.2 q.2.2.2.2.2.2.1.2 (fun a a0 a1 => h.1 a (by omega)) g, h.2, q.2.2.1.gr g, q.2.2.2⟩
theorem jkq.pv {v w : Int → Int → Int} (h : jkq v w) (hV : PV v) : PV w := hV.fr (fun a ha => h.1 a (fun e => by subst e; revert ha; decide))
theorem jkq.tr {u v w : Int → Int → Int} (h : jkq u v) (h2 : jkq v w) : jkq u w := ⟨fun a ha => (h2.1 a ha).trans (h.1 a ha), h2.2⟩
theorem jkq.rf {v : Int → Int → Int} (h : okN (v 522)) : jkq v v := ⟨fun _ _ => rfl, h⟩
theorem ET_cg {N N' : Int → Int} {p : Int → Prop} {c : List (Int × Int)} (h : ∀ i, p i → N i = N' i) (hc : ∀ q ∈ c, okC p q) : ET N c = ET N' c := by
  unfold ET
  rw [rpn_congr h c _ hc]
theorem EV_cg {N N' : Int → Int} {p : Int → Prop} {c : List (Int × Int)} (h : ∀ i, p i → N i = N' i) (hc : ∀ q ∈ c, okC p q) : EV N c = EV N' c := by
  unfold EV
  rw [rpn_congr h c _ hc]
theorem PVbk {v : Int → Int → Int} (hV : PV v) {b : Int} (h : 0 ≤ b ∧ b < 10) : v 405 b = 406 + b := by
  have key : ∀ b : Fin 10, ((405 : Int), ((b.val : Nat) : Int), (406 : Int) + b.val) ∈ pvL := by decide
  have := hV _ (key ⟨b.toNat, by omega⟩)
  dsimp only at this
  rwa [show ((b.toNat : Nat) : Int) = b by omega] at this
theorem PTbk {T : jjT} (hT : PT T) {b : Int} (h : 0 ≤ b ∧ b < 10) : jok T (406 + b) (-1) ∧ jln T (406 + b) = 5 := by
  have key : ∀ b : Fin 10, ((406 : Int) + b.val, (-1 : Int), (5 : Int)) ∈ ptL := by decide
  have m := key ⟨b.toNat, by omega⟩
  dsimp only at m
  rw [show ((b.toNat : Nat) : Int) = b by omega] at m
  exact ⟨hT.ok _ _ _ m, hT.ln _ _ _ m⟩
section XG
variable {g : jjG} {d : Nat} {T : jjT} {Q : jjQ} {A X : Int → Int}
theorem xw_in {v : Int → Int → Int} {x lo hi : Int} (hQ : Q (.inl (some (vI (jb (lo ≤ x ∧ x ≤ hi))))) (v, T)) : jmet g (d + 1) 0 0 MX0_in [vI x, vI lo, vI hi] (v, T) Q := by
  refine jmet_of (ls := [some (vI x), some (vI lo), some (vI hi)]) sX0_in rfl (by decide +kernel) (by decide) rfl (by simp [jent]) ?_
  refine jW_step ?_
  simp (disch := (first | decide | omega)) only [bX0_in, jxs, true_and]
  refine ⟨fun h => ?_, fun h => ⟨fun h2 => ?_, fun h2 => ?_⟩⟩
  · refine jW_step ?_
    simp (disch := (first | decide | omega)) only [bX0_in, jxs, true_and]
    refine jW_step ?_
    simp (disch := (first | decide | omega)) only [bX0_in, jxs, true_and]
    (repeat (refine And.intro (by (first | omega | assumption | trivial | (simp only [inI]; omega) | (simp only [inL]; omega) | (refine jb_01) | (exact jb_in))) ?_))
    (first | exact hQ | (rw [jb_t (by omega)] at hQ; exact hQ) | (rw [jb_f (by omega)] at hQ; exact hQ))
  · refine jW_step ?_
    simp (disch := (first | decide | omega)) only [bX0_in, jxs, true_and]
    refine jW_step ?_
    simp (disch := (first | decide | omega)) only [bX0_in, jxs, true_and]
    (repeat (refine And.intro (by (first | omega | assumption | trivial | (simp only [inI]; omega) | (simp only [inL]; omega) | (refine jb_01) | (exact jb_in))) ?_))
    (first | exact hQ | (rw [jb_t (by omega)] at hQ; exact hQ) | (rw [jb_f (by omega)] at hQ; exact hQ))
  · refine jW_step ?_
    simp (disch := (first | decide | omega)) only [bX0_in, jxs, true_and]
    (repeat (refine And.intro (by (first | omega | assumption | trivial | (simp only [inI]; omega) | (simp only [inL]; omega) | (refine jb_01) | (exact jb_in))) ?_))
    (first | exact hQ | (rw [jb_t (by omega)] at hQ; exact hQ) | (rw [jb_f (by omega)] at hQ; exact hQ))
end XG
