/-! ===== what a sum's or a question's cells stand for ===== -/
-- MODE N
set_option maxRecDepth 100000
def sgo (x : Int) : Int := if x = 43 then 3 else if x = 45 then 4 else if x = 42 then 5 else 6
def cmo (x : Int) : Int := if x = 60 then 10 else if x = 303 then 11 else if x = 62 then 12 else if x = 304 then 13 else if x = 61 then 14 else 15
def chc (cs : Nat → List (Int × Int)) (o : Nat → Int) : Nat → List (Int × Int)
  | 0 => cs 0
  | m + 1 => chc cs o m ++ (cs (m + 1) ++ [(o m, 0)])
def alc (cs : Nat → List (Int × Int)) (o : Int) : Nat → List (Int × Int)
  | 0 => cs 0
  | m + 1 => alc cs o m ++ (cs (m + 1) ++ [(o, 0)])
/-- cells that the state's steps never write -/
def jfz (a : Int) : Prop := a < 400 ∨ 562 ≤ a
def zLst (h : jjH) (L n : Int) : Prop := aLst h L n ∧ jfz L ∧ jfz (h.1 L 1)
def VR (h : jjH) : Nat → Int → List (Int × Int) → Prop
  | 0, _, _ => False
  | n + 1, a, c => jfz a ∧ (
    (jok h.2 a 8 ∧ c = [(0, h.1 a 0)] ∧ (0 ≤ h.1 a 0 ∧ h.1 a 0 ≤ 9999)) ∨
    (jok h.2 a 9 ∧ c = [(1, h.1 a 0)] ∧ (0 ≤ h.1 a 0 ∧ h.1 a 0 < 15)) ∨
    (jok h.2 a 10 ∧ ∃ c', VR h n (h.1 a 0) c' ∧ c = c' ++ [(2, 0)]) ∨
    (jok h.2 a 7 ∧ ∃ (m : Nat) (cs : Nat → List (Int × Int)), VR h n (h.1 a 0) (cs 0) ∧ zLst h (h.1 a 1) m ∧ zLst h (h.1 a 2) m ∧ (∀ k : Nat, k < m → VR h n (aGet h (h.1 a 1) k) (cs (k + 1)) ∧ jok h.2 (aGet h (h.1 a 2) k) 15 ∧ jfz (aGet h (h.1 a 2) k) ∧ (h.1 (aGet h (h.1 a 2) k) 0 = 43 ∨ h.1 (aGet h (h.1 a 2) k) 0 = 45 ∨ h.1 (aGet h (h.1 a 2) k) 0 = 42 ∨ h.1 (aGet h (h.1 a 2) k) 0 = 47)) ∧ c = chc cs (fun k => sgo (h.1 (aGet h (h.1 a 2) k) 0)) m))
def TR (h : jjH) : Nat → Int → List (Int × Int) → Prop
  | 0, _, _ => False
  | n + 1, a, c => jfz a ∧ (
    (jok h.2 a 11 ∧ ∃ c1 c2, VR h n (h.1 a 1) c1 ∧ VR h n (h.1 a 2) c2 ∧ (h.1 a 0 = 60 ∨ h.1 a 0 = 303 ∨ h.1 a 0 = 62 ∨ h.1 a 0 = 304 ∨ h.1 a 0 = 61 ∨ h.1 a 0 = 35) ∧ c = c1 ++ (c2 ++ [(cmo (h.1 a 0), 0)])) ∨
    (jok h.2 a 6 ∧ ∃ c', TR h n (h.1 a 0) c' ∧ c = c' ++ [(20, 0)]) ∨
    (jok h.2 a 12 ∧ ∃ (m : Nat) (cs : Nat → List (Int × Int)), zLst h (h.1 a 1) (m + 1 : Nat) ∧ (∀ k : Nat, k < m + 1 → TR h n (aGet h (h.1 a 1) k) (cs k)) ∧ (h.1 a 0 = 0 ∨ h.1 a 0 = 1) ∧ c = alc cs (if h.1 a 0 = 0 then 22 else 21) m))
/-- later heaps: the cells that were there stay as they were -/
def jGR (h h' : jjH) : Prop := h.2.2 ≤ h'.2.2 ∧ (∀ a, 0 < a → a < h.2.2 → h'.2.1 a = h.2.1 a) ∧ ∀ a, 0 < a → a < h.2.2 → jfz a → h'.1 a = h.1 a
theorem jGR.ok {h h' : jjH} (g : jGR h h') {a c : Int} (ha : jok h.2 a c) : jok h'.2 a c := ⟨ha.1, by have := ha.2.1; have := g.1; omega, by rw [g.2.1 a ha.1 ha.2.1]; exact ha.2.2⟩
theorem jGR.at {h h' : jjH} (g : jGR h h') {a c : Int} (ha : jok h.2 a c) (hz : jfz a) : h'.1 a = h.1 a := g.2.2 a ha.1 ha.2.1 hz
theorem jGR.ls {h h' : jjH} (g : jGR h h') {L n : Int} (hl : zLst h L n) : zLst h' L n ∧ h'.1 L = h.1 L ∧ ∀ k, aGet h' L k = aGet h L k := by
  obtain ⟨⟨l1, l2, l3, l4, l5⟩, z1, z2⟩ := hl
  have e1 := g.at l1 z1
  have e2 := g.at l4 z2
  refine ⟨⟨⟨g.ok l1, by rw [e1]; exact l2, l3, by rw [e1]; exact g.ok l4, ?_⟩, z1, by rw [e1]; exact z2⟩, e1, fun k => by unfold aGet; rw [e1, e2]⟩
  rw [e1]
  unfold jln at l5 ⊢
  rw [g.2.1 _ l4.1 l4.2.1]
  exact l5
theorem VR.gr {h h' : jjH} (g : jGR h h') : ∀ (n : Nat) (a : Int) (c : List (Int × Int)), VR h n a c → VR h' n a c
  | 0, _, _, q => by unfold VR at q; exact q.elim
  | n + 1, a, c, q => by
    unfold VR at q ⊢
    obtain ⟨z, q⟩ := q
    refine ⟨z, ?_⟩
    rcases q with ⟨k, q1, q2⟩ | ⟨k, q1, q2⟩ | ⟨k, c', q1, q2⟩ | ⟨k, m, cs, q1, q2, q3, q4, q5⟩
    · rw [g.at k z]
      exact Or.inl ⟨g.ok k, q1, q2⟩
    · rw [g.at k z]
      exact Or.inr (Or.inl ⟨g.ok k, q1, q2⟩)
    · rw [g.at k z]
      exact Or.inr (Or.inr (Or.inl ⟨g.ok k, c', VR.gr g n _ _ q1, q2⟩))
    · rw [g.at k z]
      have l1 := g.ls q2
      have l2 := g.ls q3
      refine Or.inr (Or.inr (Or.inr ⟨g.ok k, m, cs, VR.gr g n _ _ q1, l1.1, l2.1, fun i hi => ?_, ?_⟩))
      · have w := q4 i hi
        rw [l1.2.2, l2.2.2, g.at w.2.1 w.2.2.1]
        exact ⟨VR.gr g n _ _ w.1, g.ok w.2.1, w.2.2.1, w.2.2.2⟩
      · rw [q5]
        have key : ∀ j : Nat, j ≤ m → chc cs (fun k => sgo (h.1 (aGet h (h.1 a 2) k) 0)) j = chc cs (fun k => sgo (h'.1 (aGet h' (h.1 a 2) k) 0)) j := by
          intro j
          induction j with
          | zero => intro _; rfl
          | succ j ih =>
            intro hj
            have w := q4 j (by omega)
            unfold chc
            rw [ih (by omega), l2.2.2, g.at w.2.1 w.2.2.1]
        exact key m (Nat.le_refl _)
theorem TR.gr {h h' : jjH} (g : jGR h h') : ∀ (n : Nat) (a : Int) (c : List (Int × Int)), TR h n a c → TR h' n a c
  | 0, _, _, q => by unfold TR at q; exact q.elim
  | n + 1, a, c, q => by
    unfold TR at q ⊢
    obtain ⟨z, q⟩ := q
    refine ⟨z, ?_⟩
    rcases q with ⟨k, c1, c2, q1, q2, q3, q4⟩ | ⟨k, c', q1, q2⟩ | ⟨k, m, cs, q1, q2, q3, q4⟩
    · rw [g.at k z]
      exact Or.inl ⟨g.ok k, c1, c2, VR.gr g n _ _ q1, VR.gr g n _ _ q2, q3, q4⟩
    · rw [g.at k z]
      exact Or.inr (Or.inl ⟨g.ok k, c', TR.gr g n _ _ q1, q2⟩)
    · rw [g.at k z]
      have l1 := g.ls q1
      refine Or.inr (Or.inr ⟨g.ok k, m, cs, l1.1, fun i hi => ?_, q3, q4⟩)
      rw [l1.2.2]
      exact TR.gr g n _ _ (q2 i hi)
/-- more fuel does no harm -/
theorem VR.up {h : jjH} : ∀ (n : Nat) (a : Int) (c : List (Int × Int)), VR h n a c → VR h (n + 1) a c
  | 0, _, _, q => by unfold VR at q; exact q.elim
  | n + 1, a, c, q => by
    unfold VR at q
    rw [VR]
    obtain ⟨z, q⟩ := q
    refine ⟨z, ?_⟩
    rcases q with q | q | ⟨k, c', q1, q2⟩ | ⟨k, m, cs, q1, q2, q3, q4, q5⟩
    · exact Or.inl q
    · exact Or.inr (Or.inl q)
    · exact Or.inr (Or.inr (Or.inl ⟨k, c', VR.up n _ _ q1, q2⟩))
    · exact Or.inr (Or.inr (Or.inr ⟨k, m, cs, VR.up n _ _ q1, q2, q3, fun i hi => ⟨VR.up n _ _ (q4 i hi).1, (q4 i hi).2⟩, q5⟩))
theorem TR.up {h : jjH} : ∀ (n : Nat) (a : Int) (c : List (Int × Int)), TR h n a c → TR h (n + 1) a c
  | 0, _, _, q => by unfold TR at q; exact q.elim
  | n + 1, a, c, q => by
    unfold TR at q
    rw [TR]
    obtain ⟨z, q⟩ := q
    refine ⟨z, ?_⟩
    rcases q with ⟨k, c1, c2, q1, q2, q3, q4⟩ | ⟨k, c', q1, q2⟩ | ⟨k, m, cs, q1, q2, q3, q4⟩
    · exact Or.inl ⟨k, c1, c2, VR.up n _ _ q1, VR.up n _ _ q2, q3, q4⟩
    · exact Or.inr (Or.inl ⟨k, c', TR.up n _ _ q1, q2⟩)
    · exact Or.inr (Or.inr ⟨k, m, cs, q1, fun i hi => TR.up n _ _ (q2 i hi), q3, q4⟩)
theorem VR.le {h : jjH} {n a : Int} {c : List (Int × Int)} (k j : Nat) (q : VR h k a c) : VR h (k + j) a c := by
  induction j with
  | zero => exact q
  | succ j ih => exact VR.up (k + j) a c ih
theorem TR.le {h : jjH} {n a : Int} {c : List (Int × Int)} (k j : Nat) (q : TR h k a c) : TR h (k + j) a c := by
  induction j with
  | zero => exact q
  | succ j ih => exact TR.up (k + j) a c ih
theorem rpn_app {N : Int → Int} : ∀ (c1 c2 : List (Int × Int)) (s s' : rpS), rpn N c1 s = some s' → rpn N (c1 ++ c2) s = rpn N c2 s'
  | [], c2, s, s', h => by unfold rpn at h; cases h; rfl
  | c :: c1, c2, s, s', h => by
    rw [List.cons_append]
    have e1 : rpn N (c :: (c1 ++ c2)) s = match rst N c s with | some s' => rpn N (c1 ++ c2) s' | none => none := rfl
    have e2 : rpn N (c :: c1) s = match rst N c s with | some s' => rpn N c1 s' | none => none := rfl
    rw [e1]
    rw [e2] at h
    cases hr : rst N c s with
    | none => rw [hr] at h; cases h
    | some s1 =>
      rw [hr] at h
      exact rpn_app c1 c2 s1 s' h
/-- a sum's, a question's steps come to a value -/
def RV (N : Int → Int) (c : List (Int × Int)) (z : Int) : Prop := ∀ s : rpS, rpn N c s = some (z :: s.1, s.2)
def RT (N : Int → Int) (c : List (Int × Int)) (b : Int) : Prop := ∀ s : rpS, rpn N c s = some (s.1, b :: s.2)
theorem RV.ev {N : Int → Int} {c : List (Int × Int)} {z : Int} (h : RV N c z) : EV N c = z := by unfold EV; rw [h]
theorem RT.et {N : Int → Int} {c : List (Int × Int)} {b : Int} (h : RT N c b) : ET N c = b := by unfold ET; rw [h]
theorem rpn_one {N : Int → Int} {c : Int × Int} {s : rpS} : rpn N [c] s = rst N c s := by
  unfold rpn
  cases rst N c s with
  | none => rfl
  | some s' => rfl
theorem RV.two {N : Int → Int} {c1 c2 : List (Int × Int)} {x y o : Int} (h1 : RV N c1 x) (h2 : RV N c2 y) (ho : 3 ≤ o ∧ o < 10) : RV N (c1 ++ (c2 ++ [(o, 0)])) (twoz o x y) := by
  intro s
  rw [rpn_app _ _ _ _ (h1 s), rpn_app _ _ _ _ (h2 _), rpn_one]
  unfold rst
  rw [if_neg (show ¬ (o, (0 : Int)).1 ≤ 1 by dsimp only; omega), if_neg (show ¬ (o, (0 : Int)).1 = 2 by dsimp only; omega), if_pos (show (o, (0 : Int)).1 < 10 by dsimp only; omega)]
theorem RV.neg {N : Int → Int} {c : List (Int × Int)} {x : Int} (h : RV N c x) : RV N (c ++ [(2, 0)]) (-x) := by
  intro s
  rw [rpn_app _ _ _ _ (h s), rpn_one]
  rfl
theorem RT.cmp {N : Int → Int} {c1 c2 : List (Int × Int)} {x y o : Int} (h1 : RV N c1 x) (h2 : RV N c2 y) (ho : 10 ≤ o ∧ o < 20) : RT N (c1 ++ (c2 ++ [(o, 0)])) (askz o x y) := by
  intro s
  rw [rpn_app _ _ _ _ (h1 s), rpn_app _ _ _ _ (h2 _), rpn_one]
  unfold rst
  rw [if_neg (show ¬ (o, (0 : Int)).1 ≤ 1 by dsimp only; omega), if_neg (show ¬ (o, (0 : Int)).1 = 2 by dsimp only; omega), if_neg (show ¬ (o, (0 : Int)).1 < 10 by dsimp only; omega), if_pos (show (o, (0 : Int)).1 < 20 by dsimp only; omega)]
theorem RT.not {N : Int → Int} {c : List (Int × Int)} {b : Int} (h : RT N c b) : RT N (c ++ [(20, 0)]) (jb (b = 0)) := by
  intro s
  rw [rpn_app _ _ _ _ (h s), rpn_one]
  rfl
theorem RT.and {N : Int → Int} {c1 c2 : List (Int × Int)} {x y : Int} (h1 : RT N c1 x) (h2 : RT N c2 y) : RT N (c1 ++ (c2 ++ [(21, 0)])) (jb (¬ x = 0 ∧ ¬ y = 0)) := by
  intro s
  rw [rpn_app _ _ _ _ (h1 s), rpn_app _ _ _ _ (h2 _), rpn_one]
  rfl
theorem RT.or {N : Int → Int} {c1 c2 : List (Int × Int)} {x y : Int} (h1 : RT N c1 x) (h2 : RT N c2 y) : RT N (c1 ++ (c2 ++ [(22, 0)])) (jb (¬ x = 0 ∨ ¬ y = 0)) := by
  intro s
  rw [rpn_app _ _ _ _ (h1 s), rpn_app _ _ _ _ (h2 _), rpn_one]
  rfl
