/-! ===== what cells stand for, within a part of the heap ===== -/
-- MODE N
set_option maxRecDepth 100000
noncomputable def rsH (P : Int → Prop) (h : jjH) : jjH := (h.1, (fun a => @ite _ (P a) (Classical.propDecidable _) (h.2.1 a) (-100, 0), h.2.2))
theorem rsH_in {P : Int → Prop} {h : jjH} {a c : Int} (hp : P a) (q : jok h.2 a c) : jok (rsH P h).2 a c ∧ jln (rsH P h).2 a = jln h.2 a := by
  unfold jok jln rsH at *
  dsimp only
  rw [if_pos hp]
  exact ⟨q, rfl⟩
theorem rsH_ok {P : Int → Prop} {h : jjH} {a c : Int} (q : jok (rsH P h).2 a c) (hc : -50 ≤ c) : P a ∧ jok h.2 a c ∧ jln (rsH P h).2 a = jln h.2 a := by
  unfold jok jln rsH at *
  dsimp only at *
  by_cases hp : P a
  · rw [if_pos hp] at q ⊢
    exact ⟨hp, q, rfl⟩
  · rw [if_neg hp] at q
    have := q.2.2
    dsimp only at this
    omega
/-- cells that were there are there, as they were -/
def MO (h h' : jjH) : Prop := ∀ a c, jok h.2 a c → -50 ≤ c → jok h'.2 a c ∧ jln h'.2 a = jln h.2 a ∧ h'.1 a = h.1 a
theorem MO.ls {h h' : jjH} (g : MO h h') {L n : Int} (hl : zLst h L n) : zLst h' L n ∧ h'.1 L = h.1 L ∧ ∀ k, aGet h' L k = aGet h L k := by
  obtain ⟨⟨l1, l2, l3, l4, l5⟩, z1, z2⟩ := hl
  have e1 := g _ _ l1 (by decide)
  have e2 := g _ _ l4 (by decide)
  refine ⟨⟨⟨e1.1, by rw [e1.2.2]; exact l2, l3, by rw [e1.2.2]; exact e2.1, by rw [e1.2.2, e2.2.1]; exact l5⟩, z1, by rw [e1.2.2]; exact z2⟩, e1.2.2, fun k => by unfold aGet; rw [e1.2.2, e2.2.2]⟩
theorem VR.mo {h h' : jjH} (g : MO h h') : ∀ (n : Nat) (a : Int) (c : List (Int × Int)), VR h n a c → VR h' n a c
  | 0, a, c, q => by unfold VR at q; exact q.elim
  | n + 1, a, c, q => by
    unfold VR at q ⊢
    obtain ⟨z, q⟩ := q
    refine ⟨z, ?_⟩
    rcases q with ⟨k, q1, q2⟩ | ⟨k, q1, q2⟩ | ⟨k, c', q1, q2⟩ | ⟨k, m, cs, q1, q2, q3, q4, q5⟩
    · have e := g _ _ k (by decide)
      rw [e.2.2]
      exact Or.inl ⟨e.1, q1, q2⟩
    · have e := g _ _ k (by decide)
      rw [e.2.2]
      exact Or.inr (Or.inl ⟨e.1, q1, q2⟩)
    · have e := g _ _ k (by decide)
      rw [e.2.2]
      exact Or.inr (Or.inr (Or.inl ⟨e.1, c', VR.mo g n _ _ q1, q2⟩))
    · have e := g _ _ k (by decide)
      rw [e.2.2]
      have l1 := g.ls q2
      have l2 := g.ls q3
      have ev : ∀ i : Nat, i < m → h'.1 (aGet h' (h.1 a 2) i) 0 = h.1 (aGet h (h.1 a 2) i) 0 := fun i hi => by
        have w := q4 i hi
        rw [l2.2.2, (g _ _ w.2.1 (by decide)).2.2]
      refine Or.inr (Or.inr (Or.inr ⟨e.1, m, cs, VR.mo g n _ _ q1, l1.1, l2.1, fun i hi => ?_, ?_⟩))
      · have w := q4 i hi
        rw [ev i hi, l1.2.2, l2.2.2]
        exact ⟨VR.mo g n _ _ w.1, (g _ _ w.2.1 (by decide)).1, w.2.2.1, w.2.2.2⟩
      · rw [q5]
        have key : ∀ j : Nat, j ≤ m → chc cs (fun k => sgo (h.1 (aGet h (h.1 a 2) k) 0)) j = chc cs (fun k => sgo (h'.1 (aGet h' (h.1 a 2) k) 0)) j := by
          intro j
          induction j with
          | zero => intro _; rfl
          | succ j ih =>
            intro hj
            unfold chc
            rw [ih (by omega), ev j (by omega)]
        exact key m (Nat.le_refl _)
theorem TR.mo {h h' : jjH} (g : MO h h') : ∀ (n : Nat) (a : Int) (c : List (Int × Int)), TR h n a c → TR h' n a c
  | 0, a, c, q => by unfold TR at q; exact q.elim
  | n + 1, a, c, q => by
    unfold TR at q ⊢
    obtain ⟨z, q⟩ := q
    refine ⟨z, ?_⟩
    rcases q with ⟨k, c1, c2, q1, q2, q3, q4⟩ | ⟨k, c', q1, q2⟩ | ⟨k, m, cs, q1, q2, q3, q4⟩
    · have e := g _ _ k (by decide)
      rw [e.2.2]
      exact Or.inl ⟨e.1, c1, c2, VR.mo g n _ _ q1, VR.mo g n _ _ q2, q3, q4⟩
    · have e := g _ _ k (by decide)
      rw [e.2.2]
      exact Or.inr (Or.inl ⟨e.1, c', TR.mo g n _ _ q1, q2⟩)
    · have e := g _ _ k (by decide)
      rw [e.2.2]
      have l1 := g.ls q1
      refine Or.inr (Or.inr ⟨e.1, m, cs, l1.1, fun i hi => ?_, q3, q4⟩)
      rw [l1.2.2]
      exact TR.mo g n _ _ (q2 i hi)
theorem MO_rs {P P' : Int → Prop} {v w : Int → Int → Int} {T T' : jjT} (e : ∀ a, 0 < a → a < T.2 → P a → P' a ∧ w a = v a) (ty : ∀ a, 0 < a → a < T.2 → T'.1 a = T.1 a) (hn : T.2 ≤ T'.2) : MO (rsH P (v, T)) (rsH P' (w, T')) := by
  intro a c q hc
  obtain ⟨q1, q2, q3⟩ := rsH_ok q hc
  have e1 := e a q2.1 q2.2.1 q1
  have j : jok T' a c := ⟨q2.1, by have := q2.2.1; dsimp only at this; omega, by rw [ty a q2.1 q2.2.1]; exact q2.2.2⟩
  obtain ⟨r1, r2⟩ := rsH_in (h := (w, T')) e1.1 j
  refine ⟨r1, ?_, e1.2⟩
  rw [r2, q3]
  unfold jln
  dsimp only
  rw [ty a q2.1 q2.2.1]
theorem MO_of {P : Int → Prop} {h : jjH} : MO (rsH P h) h := by
  intro a c q hc
  obtain ⟨q1, q2, q3⟩ := rsH_ok q hc
  exact ⟨q2, q3.symm, rfl⟩
def VRP (P : Int → Prop) (v : Int → Int → Int) (T : jjT) (n : Nat) (a : Int) (c : List (Int × Int)) : Prop := VR (rsH P (v, T)) n a c
def TRP (P : Int → Prop) (v : Int → Int → Int) (T : jjT) (n : Nat) (a : Int) (c : List (Int × Int)) : Prop := TR (rsH P (v, T)) n a c
theorem VRP.mo {P P' : Int → Prop} {v w : Int → Int → Int} {T T' : jjT} {n : Nat} {a : Int} {c : List (Int × Int)} (h : VRP P v T n a c) (e : ∀ a, 0 < a → a < T.2 → P a → P' a ∧ w a = v a) (ty : ∀ a, 0 < a → a < T.2 → T'.1 a = T.1 a) (hn : T.2 ≤ T'.2) : VRP P' w T' n a c := VR.mo (MO_rs e ty hn) n a c h
theorem TRP.mo {P P' : Int → Prop} {v w : Int → Int → Int} {T T' : jjT} {n : Nat} {a : Int} {c : List (Int × Int)} (h : TRP P v T n a c) (e : ∀ a, 0 < a → a < T.2 → P a → P' a ∧ w a = v a) (ty : ∀ a, 0 < a → a < T.2 → T'.1 a = T.1 a) (hn : T.2 ≤ T'.2) : TRP P' w T' n a c := TR.mo (MO_rs e ty hn) n a c h
theorem VRP.at {P : Int → Prop} {v : Int → Int → Int} {T : jjT} {n : Nat} {a : Int} {c : List (Int × Int)} (h : VRP P v T n a c) : P a ∧ jisA T a [7, 8, 9, 10] := by
  unfold VRP at h
  cases n with
  | zero => unfold VR at h; exact h.elim
  | succ n =>
    unfold VR at h
    rcases h.2 with ⟨k, _⟩ | ⟨k, _⟩ | ⟨k, _⟩ | ⟨k, _⟩
    · have q := rsH_ok k (by decide); exact ⟨q.1, 8, by decide, q.2.1⟩
    · have q := rsH_ok k (by decide); exact ⟨q.1, 9, by decide, q.2.1⟩
    · have q := rsH_ok k (by decide); exact ⟨q.1, 10, by decide, q.2.1⟩
    · have q := rsH_ok k (by decide); exact ⟨q.1, 7, by decide, q.2.1⟩
theorem TRP.at {P : Int → Prop} {v : Int → Int → Int} {T : jjT} {n : Nat} {a : Int} {c : List (Int × Int)} (h : TRP P v T n a c) : P a ∧ jisA T a [6, 11, 12] := by
  unfold TRP at h
  cases n with
  | zero => unfold TR at h; exact h.elim
  | succ n =>
    unfold TR at h
    rcases h.2 with ⟨k, _⟩ | ⟨k, _⟩ | ⟨k, _⟩
    · have q := rsH_ok k (by decide); exact ⟨q.1, 11, by decide, q.2.1⟩
    · have q := rsH_ok k (by decide); exact ⟨q.1, 6, by decide, q.2.1⟩
    · have q := rsH_ok k (by decide); exact ⟨q.1, 12, by decide, q.2.1⟩
theorem VRP.up {P : Int → Prop} {v : Int → Int → Int} {T : jjT} {n m : Nat} {a : Int} {c : List (Int × Int)} (h : VRP P v T n a c) (hm : n ≤ m) : VRP P v T m a c := by
  have := VR.le (n := 0) (a := a) n (m - n) h
  rwa [show n + (m - n) = m by omega] at this
theorem TRP.up {P : Int → Prop} {v : Int → Int → Int} {T : jjT} {n m : Nat} {a : Int} {c : List (Int × Int)} (h : TRP P v T n a c) (hm : n ≤ m) : TRP P v T m a c := by
  have := TR.le (n := 0) (a := a) n (m - n) h
  rwa [show n + (m - n) = m by omega] at this
theorem VRP.out {P : Int → Prop} {v : Int → Int → Int} {T : jjT} {n : Nat} {a : Int} {c : List (Int × Int)} (h : VRP P v T n a c) : VR (v, T) n a c := VR.mo MO_of n a c h
theorem TRP.out {P : Int → Prop} {v : Int → Int → Int} {T : jjT} {n : Nat} {a : Int} {c : List (Int × Int)} (h : TRP P v T n a c) : TR (v, T) n a c := TR.mo MO_of n a c h
theorem jisA.sub {T : jjT} {a : Int} {cs cs' : List Int} (h : jisA T a cs) (e : ∀ c ∈ cs, c ∈ cs') : jisA T a cs' := by
  obtain ⟨c, c1, c2⟩ := h
  exact ⟨c, e c c1, c2⟩
/-- old cells and new ones -/
abbrev nwP (t : Int) : Int → Prop := fun a => a < 400 ∨ t ≤ a
/-- where reading ends; what it may cost -/
def eR (n : Nat) (r : pR) : Nat := match r with
  | .inl _ => n + 1
  | .inr x => x.2
abbrev cC (n b : Nat) (r : pR) (k : Nat) : Nat := 24 * (eR n r - k) - b
abbrev cS (n b : Nat) (r : pR) (k : Nat) : Nat := 160 * (eR n r - k) - b
/-- what a method that reads a sum, a question owes -/
def qVR (Q : jjQ) (v : Int → Int → Int) (T : jjT) (tk : Int) (B : Int → Int) (n : Nat) (o kd : Int) (fu : Nat) (r : pR) : Prop :=
  (∀ f p, r = .inl (f, p) → qEr Q v T tk f p) ∧ (∀ x, r = .inr x → ∀ w T' a, GRT tk v T w T' → TKS w T' tk B n x.2 o kd → VRP (nwP T.2) w T' fu a x.1 → Q (.inl (some (vR a))) (w, T'))
def qTR (Q : jjQ) (v : Int → Int → Int) (T : jjT) (tk : Int) (B : Int → Int) (n : Nat) (o kd : Int) (fu : Nat) (r : pR) : Prop :=
  (∀ f p, r = .inl (f, p) → qEr Q v T tk f p) ∧ (∀ x, r = .inr x → ∀ w T' a, GRT tk v T w T' → TKS w T' tk B n x.2 o kd → TRP (nwP T.2) w T' fu a x.1 → Q (.inl (some (vR a))) (w, T'))
theorem TKS.st {v : Int → Int → Int} {T : jjT} {tk : Int} {B : Int → Int} {n k : Nat} {o kd : Int} (h : TKS v T tk B n k o kd) : (jok T tk 3 ∧ 562 ≤ tk ∧ tk < T.2 ∧ 562 ≤ T.2) ∧ (v tk 3 = (pl B n k : Int) ∧ v tk 4 = stT B n k ∧ v tk 6 = o ∧ v tk 7 = kd) ∧ (k ≤ n ∧ n ≤ 300) ∧ OLD v T ∧ (0 ≤ v tk 5 ∧ v tk 5 ≤ 99999) := by
  obtain ⟨⟨⟨a1, a2⟩, ⟨_, _, _, b4, b5⟩, c, ⟨e1, _⟩, _, _, d3, d4⟩, h2, h3, h4, h5⟩ := h
  exact ⟨⟨a1, a2, a1.2.1, d4⟩, ⟨h2, h3, b4, b5⟩, ⟨h5, e1⟩, d3, c⟩
theorem TKS.nx {v : Int → Int → Int} {T : jjT} {tk : Int} {B : Int → Int} {n k : Nat} {o kd : Int} (h : TKS v T tk B n k o kd) : TKN v T tk B n (nxT B n k) o kd := h.1
/-- a field of the token reader's own is written -/
theorem TKN.op {v : Int → Int → Int} {T : jjT} {tk : Int} {B : Int → Int} {n k : Nat} {o kd o' kd' : Int} {f : Int → Int} (h : TKN v T tk B n k o kd) (e : ∀ j, j ≠ 6 → j ≠ 7 → f j = v tk j) (h6 : f 6 = o') (h7 : f 7 = kd') : TKN (upA v tk f) T tk B n k o' kd' := by
  obtain ⟨⟨a1, a2⟩, ⟨b1, b2, b3, b4, b5⟩, c, c2, d1, d2, d3, d4⟩ := h
  refine ⟨⟨a1, a2⟩, ⟨?_, ?_, ?_, ?_, ?_⟩, ?_, c2, d1, ?_, ?_, d4⟩
  · rw [upA_eq, e 0 (by decide) (by decide)]; exact b1
  · rw [upA_eq, e 1 (by decide) (by decide)]; exact b2
  · rw [upA_eq, e 2 (by decide) (by decide)]; exact b3
  · rw [upA_eq]; exact h6
  · rw [upA_eq]; exact h7
  · rw [upA_eq, e 5 (by decide) (by decide)]; exact c
  · rw [upA_ne (by omega)]; exact d2
  · exact d3.fr (fun a _ a4 => upA_ne (by omega)) (fun _ _ _ => rfl) (by omega)
theorem TKS.op {v : Int → Int → Int} {T : jjT} {tk : Int} {B : Int → Int} {n k : Nat} {o kd o' kd' : Int} {f : Int → Int} (h : TKS v T tk B n k o kd) (e : ∀ j, j ≠ 6 → j ≠ 7 → f j = v tk j) (h6 : f 6 = o') (h7 : f 7 = kd') : TKS (upA v tk f) T tk B n k o' kd' := by
  obtain ⟨h1, h2, h3, h4, h5⟩ := h
  exact ⟨h1.op e h6 h7, by rw [upA_eq, e 3 (by decide) (by decide)]; exact h2, by rw [upA_eq, e 4 (by decide) (by decide)]; exact h3, by rw [upA_eq, e 5 (by decide) (by decide)]; exact h4, h5⟩
