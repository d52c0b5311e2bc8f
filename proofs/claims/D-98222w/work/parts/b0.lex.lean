/-! ===== a text read: tokens, what is read, by pure functions ===== -/
-- MODE N
set_option maxRecDepth 100000
abbrev isL (c : Int) : Prop := (97 ≤ c ∧ c ≤ 122) ∨ (65 ≤ c ∧ c ≤ 90)
abbrev isD (c : Int) : Prop := 48 ≤ c ∧ c ≤ 57
def WDL : List (List Int) := [[108, 97, 119], [102, 97, 108, 108, 115], [115, 119, 101, 108, 108], [110, 101, 101, 100], [110, 105, 103, 104, 116], [110, 117, 100, 103, 101], [116, 97, 107, 101], [112, 117, 116], [119, 101, 116], [100, 114, 121], [97, 116], [111, 110], [111, 114], [97, 110, 100], [110, 111, 116], [98, 111, 111, 107], [104, 117, 101], [99, 114, 101, 101, 100], [116, 104, 105, 99, 107], [97, 117, 116, 104, 111, 114], [114, 105, 103, 104, 116], [111, 116, 104, 101, 114], [111, 104, 117, 101], [111, 99, 114, 101, 101, 100], [111, 116, 104, 105, 99, 107], [111, 97, 117, 116, 104, 111, 114], [115, 104, 101, 108, 102], [112, 108, 97, 99, 101], [109, 97, 110, 121]]
def WD (w : Nat) : List Int := WDL.getD w []
def SGL : List Int := [60, 62, 61, 35, 43, 45, 42, 47, 40, 41, 59]
abbrev isS (c : Int) : Prop := c ∈ SGL
/-- a list as it lies in an array -/
def li0 (l : List Int) (i : Int) : Int := l.getD i.toNat 0
section LX
variable (B : Int → Int) (n : Nat)
def wsF : Nat → Nat → Nat
  | 0, k => k
  | f + 1, k => if k < n ∧ (B k = 32 ∨ B k = 10) then wsF f (k + 1) else k
def pl (k : Nat) : Nat := wsF B n (n - k) k
def leF : Nat → Nat → Nat
  | 0, k => k
  | f + 1, k => if k < n ∧ isL (B k) then leF f (k + 1) else k
def m9 (x : Int) : Int := if x < 99999 then x else 99999
def diF : Nat → Nat → Int → Nat × Int
  | 0, k, x => (k, x)
  | f + 1, k, x => if k < n ∧ isD (B k) then diF f (k + 1) (m9 (10 * x + B k - 48)) else (k, x)
/-- whether a word stands from p to e -/
abbrev mtW (p e : Nat) (l : List Int) : Prop := (e : Int) - p = l.length ∧ ∀ i : Nat, i < l.length → B ((p : Int) + i) = li0 l i
def wdF (p e : Nat) : Nat → Int
  | 0 => 302
  | w + 1 => if mtW B p e (WD w) then 200 + (w : Int) else wdF p e w
def tkA (k : Nat) : Int × Int × Nat :=
  if pl B n k < n then
    (if isL (B (pl B n k)) then (wdF B (pl B n k) (leF B n (n - pl B n k) (pl B n k)) 29, 0, leF B n (n - pl B n k) (pl B n k))
    else if isD (B (pl B n k)) then (300, (diF B n (n - pl B n k) (pl B n k) 0).2, (diF B n (n - pl B n k) (pl B n k) 0).1)
    else if (B (pl B n k) = 60 ∨ B (pl B n k) = 62) ∧ pl B n k + 1 < n ∧ B ((pl B n k + 1 : Nat)) = 61 then (if B (pl B n k) = 60 then 303 else 304, 0, pl B n k + 2)
    else (if isS (B (pl B n k)) then B (pl B n k) else 302, 0, pl B n k + 1))
  else (301, 0, pl B n k)
def stT (k : Nat) : Int := (tkA B n k).1
def nuT (k : Nat) : Int := (tkA B n k).2.1
def nxT (k : Nat) : Nat := (tkA B n k).2.2
/-- what comes of reading: a fault and its place, or what was read and where -/
abbrev pR : Type := (Int × Int) ⊕ (List (Int × Int) × Nat)
def erT (f : Int) (k : Nat) : pR := .inl (f, (pl B n k : Int))
def nmT (t : Int) : Int := if t = 208 then 5 else if 215 ≤ t ∧ t ≤ 219 then t - 215 else if 220 ≤ t ∧ t ≤ 228 then t - 220 + 6 else -1
abbrev myN (kd nm : Int) : Prop := nm < 6 ∨ (nm < 12 ∧ kd = 200) ∨ (12 ≤ nm ∧ kd = 201)
/-- a chain of like rank: what is behind the first -/
def chnL (sub : Nat → pR) (o1 o2 : Int) (oc : Int → Int) : Nat → Nat → List (Int × Int) → pR
  | 0, k, acc => .inr (acc, k)
  | f + 1, k, acc => if stT B n k = o1 ∨ stT B n k = o2 then (match sub (nxT B n k) with
      | .inl e => .inl e
      | .inr x => chnL sub o1 o2 oc f x.2 (acc ++ (x.1 ++ [(oc (stT B n k), 0)]))) else .inr (acc, k)
def chP (sub : Nat → pR) (o1 o2 : Int) (oc : Int → Int) (k : Nat) : pR := match sub k with
  | .inl e => .inl e
  | .inr x => chnL B n sub o1 o2 oc (n + 1) x.2 x.1
def atmP (kd : Int) (k : Nat) (deep : pR) : pR :=
  if stT B n k = 300 then (if 9999 < nuT B n k then erT B n 2 k else .inr ([(0, nuT B n k)], nxT B n k))
  else if nmT (stT B n k) = -1 then (if stT B n k = 40 ∨ stT B n k = 45 then deep else erT B n 1 k)
  else if myN kd (nmT (stT B n k)) then .inr ([(1, nmT (stT B n k))], nxT B n k) else erT B n 5 k
def clsP (r : pR) : pR := match r with
  | .inl e => .inl e
  | .inr x => if stT B n x.2 = 41 then .inr (x.1, nxT B n x.2) else erT B n 1 x.2
def appP (c : Int × Int) (r : pR) : pR := match r with
  | .inl e => .inl e
  | .inr x => .inr (x.1 ++ [c], x.2)
def oneP (kd : Int) : Nat → Nat → pR
  | 0, k => atmP B n kd k (erT B n 3 k)
  | D + 1, k => atmP B n kd k (if stT B n k = 40 then clsP B n (chP B n (chP B n (oneP kd D) 42 47 sgo) 43 45 sgo (nxT B n k)) else appP (2, 0) (oneP kd D (nxT B n k)))
def prP (kd : Int) (D : Nat) : Nat → pR := chP B n (oneP B n kd D) 42 47 sgo
def smP (kd : Int) (D : Nat) : Nat → pR := chP B n (prP B n kd D) 43 45 sgo
abbrev isC (t : Int) : Prop := t = 60 ∨ t = 62 ∨ t = 61 ∨ t = 35 ∨ t = 303 ∨ t = 304
def cm2P (kd : Int) (D : Nat) (c1 : List (Int × Int)) (o : Int) (k : Nat) : pR := match smP B n kd D k with
  | .inl e => .inl e
  | .inr x => .inr (c1 ++ (x.1 ++ [(cmo o, 0)]), x.2)
def cmP (kd : Int) (D k : Nat) : pR := match smP B n kd D k with
  | .inl e => .inl e
  | .inr x => if isC (stT B n x.2) then cm2P B n kd D x.1 (stT B n x.2) (nxT B n x.2) else erT B n 1 x.2
def askP (kd : Int) : Nat → Nat → pR
  | 0, k => if stT B n k = 214 then erT B n 3 k else cmP B n kd 0 k
  | D + 1, k => if stT B n k = 214 then appP (20, 0) (askP kd D (nxT B n k)) else cmP B n kd (D + 1) k
def botP (kd : Int) (D : Nat) : Nat → pR := chP B n (askP B n kd D) 213 213 (fun _ => 21)
def eitP (kd : Int) (D : Nat) : Nat → pR := chP B n (botP B n kd D) 212 212 (fun _ => 22)
/-- a number, a sign -/
def numP (lo hi : Int) (k : Nat) : (Int × Int) ⊕ (Int × Nat) :=
  if stT B n k = 300 then (if nuT B n k < lo ∨ hi < nuT B n k then .inl (2, (pl B n k : Int)) else .inr (nuT B n k, nxT B n k)) else .inl (1, (pl B n k : Int))
def wntP (s : Int) (k : Nat) : (Int × Int) ⊕ Nat := if stT B n k = s then .inr (nxT B n k) else .inl (1, (pl B n k : Int))
/-- a clause: its word, numbers, steps -/
abbrev clR : Type := Int × Int × Int × Int × List (Int × Int)
abbrev pC : Type := (Int × Int) ⊕ (clR × Nat)
def cdP (kd x : Int) (r : pR) : pC := match r with
  | .inl e => .inl e
  | .inr y => .inr ((kd, x, 0, 0, y.1), y.2)
def lawP (cs : List clR) (k : Nat) : pC :=
  if stT B n k = 300 ∧ nuT B n k < 6 ∧ ∃ c ∈ cs, c.1 = 200 ∧ c.2.1 = nuT B n k then .inl (4, (pl B n k : Int))
  else match numP B n 0 5 k with
    | .inl e => .inl e
    | .inr x => cdP 200 x.1 (eitP B n 200 8 x.2)
def nm1P (kd lo hi : Int) (k : Nat) : pC := match numP B n lo hi k with
  | .inl e => .inl e
  | .inr x => .inr ((kd, x.1, 0, 0, []), x.2)
def at1P (kd a b hi : Int) (s : Int) (k : Nat) : (Int × Int) ⊕ (Int × Nat) := match wntP B n s k with
  | .inl e => .inl e
  | .inr y => numP B n 0 hi y
def nudP (k : Nat) : pC := match numP B n 0 2 k with
  | .inl e => .inl e
  | .inr x => match at1P B n 0 0 0 9 210 x.2 with
    | .inl e => .inl e
    | .inr y => .inr ((205, x.1, y.1, 0, []), y.2)
def putP (k : Nat) : pC := match numP B n 0 9 k with
  | .inl e => .inl e
  | .inr x => match at1P B n 0 0 0 2 211 x.2 with
    | .inl e => .inl e
    | .inr y => match at1P B n 0 0 0 9 210 y.2 with
      | .inl e => .inl e
      | .inr z => .inr ((207, x.1, y.1, z.1, []), z.2)
def bodP (kd : Int) (cs : List clR) (k : Nat) : pC :=
  if kd = 200 then lawP B n cs k
  else if kd = 201 then cdP 201 0 (eitP B n 201 8 k)
  else if kd = 202 then cdP 202 0 (smP B n 202 8 k)
  else if kd = 203 then nm1P B n 203 1 2 k
  else if kd = 204 then nm1P B n 204 1 99 k
  else if kd = 205 then nudP B n k
  else if kd = 206 then nm1P B n 206 0 9 k
  else if kd = 207 then putP B n k
  else .inr ((kd, 0, 0, 0, []), k)
def rdP : Nat → Nat → List clR → (Int × Int) ⊕ List clR
  | 0, _, cs => .inr cs
  | f + 1, k, cs => if stT B n k = 301 then .inr cs
    else if ¬ (200 ≤ stT B n k ∧ stT B n k ≤ 209) then .inl (1, (pl B n k : Int))
    else if (201 ≤ stT B n k ∧ stT B n k ≤ 203) ∧ ∃ c ∈ cs, c.1 = stT B n k then .inl (4, (pl B n k : Int))
    else if cs.length = 24 then .inl (6, (pl B n k : Int))
    else match bodP B n (stT B n k) cs (nxT B n k) with
      | .inl e => .inl e
      | .inr x => match wntP B n 59 x.2 with
        | .inl e => .inl e
        | .inr k' => rdP f k' (cs ++ [x.1])
end LX
-- how far tokens lie apart
section LY
variable {B : Int → Int} {n : Nat}
theorem wsF_sp : ∀ (f k : Nat), n - k ≤ f → k ≤ wsF B n f k ∧ (k ≤ n → wsF B n f k ≤ n) ∧ (wsF B n f k < n → ¬ (B (wsF B n f k) = 32 ∨ B (wsF B n f k) = 10))
  | 0, k, h => by
    unfold wsF
    exact ⟨Nat.le_refl _, fun q => q, fun q => by omega⟩
  | f + 1, k, h => by
    unfold wsF
    by_cases c : k < n ∧ (B k = 32 ∨ B k = 10)
    · rw [if_pos c]
      have q := wsF_sp f (k + 1) (by omega)
      exact ⟨by omega, fun _ => q.2.1 (by omega), q.2.2⟩
    · rw [if_neg c]
      exact ⟨Nat.le_refl _, fun q => q, fun q q2 => c ⟨q, q2⟩⟩
theorem pl_bd {k : Nat} (h : k ≤ n) : k ≤ pl B n k ∧ pl B n k ≤ n := by
  have q := wsF_sp (B := B) (n := n) (n - k) k (Nat.le_refl _)
  exact ⟨q.1, q.2.1 h⟩
theorem leF_bd : ∀ (f k : Nat), k ≤ leF B n f k ∧ (k ≤ n → leF B n f k ≤ n)
  | 0, k => by unfold leF; exact ⟨Nat.le_refl _, fun q => q⟩
  | f + 1, k => by
    unfold leF
    by_cases c : k < n ∧ isL (B k)
    · rw [if_pos c]
      have q := leF_bd f (k + 1)
      exact ⟨by omega, fun _ => q.2 (by omega)⟩
    · rw [if_neg c]
      exact ⟨Nat.le_refl _, fun q => q⟩
theorem m9_bd {x : Int} (h : 0 ≤ x) : 0 ≤ m9 x ∧ m9 x ≤ 99999 := by unfold m9; split <;> omega
theorem diF_bd : ∀ (f k : Nat) (x : Int), (0 ≤ x ∧ x ≤ 99999) → (k ≤ (diF B n f k x).1 ∧ (k ≤ n → (diF B n f k x).1 ≤ n)) ∧ (0 ≤ (diF B n f k x).2 ∧ (diF B n f k x).2 ≤ 99999)
  | 0, k, x, h => by unfold diF; exact ⟨⟨Nat.le_refl _, fun q => q⟩, h⟩
  | f + 1, k, x, h => by
    unfold diF
    by_cases c : k < n ∧ isD (B k)
    · rw [if_pos c]
      have c2 := c.2
      have q := diF_bd f (k + 1) (m9 (10 * x + B k - 48)) (m9_bd (by unfold isD at c2; omega))
      exact ⟨⟨by omega, fun _ => q.1.2 (by omega)⟩, q.2⟩
    · rw [if_neg c]
      exact ⟨⟨Nat.le_refl _, fun q => q⟩, h⟩
theorem wdF_bd {p e : Nat} : ∀ w : Nat, wdF B p e w = 302 ∨ (200 ≤ wdF B p e w ∧ wdF B p e w < 200 + w)
  | 0 => Or.inl rfl
  | w + 1 => by
    unfold wdF
    split
    · exact Or.inr (by omega)
    · rcases wdF_bd (p := p) (e := e) w with h | h
      · exact Or.inl h
      · exact Or.inr (by omega)
theorem SGL_bd {c : Int} (h : isS c) : 35 ≤ c ∧ c ≤ 62 := by
  have key : ∀ c ∈ SGL, (35 : Int) ≤ c ∧ c ≤ 62 := by decide
  exact key c h
/-- a token's kind; where the next one is sought -/
theorem tk_sp {k : Nat} (h : k ≤ n) : (k ≤ nxT B n k ∧ nxT B n k ≤ n) ∧ (stT B n k = 301 ∨ (pl B n k < n ∧ k + 1 ≤ nxT B n k ∧ ((35 ≤ stT B n k ∧ stT B n k ≤ 62) ∨ (200 ≤ stT B n k ∧ stT B n k ≤ 228) ∨ stT B n k = 300 ∨ (302 ≤ stT B n k ∧ stT B n k ≤ 304)))) ∧ (0 ≤ nuT B n k ∧ nuT B n k ≤ 99999) := by
  have b := pl_bd (B := B) h
  unfold nxT stT nuT tkA
  by_cases c : pl B n k < n
  · rw [if_pos c]
    by_cases c1 : isL (B (pl B n k))
    · rw [if_pos c1]
      dsimp only
      have q : pl B n k + 1 ≤ leF B n (n - pl B n k) (pl B n k) ∧ leF B n (n - pl B n k) (pl B n k) ≤ n := by
        rw [show n - pl B n k = (n - pl B n k - 1) + 1 by omega]
        unfold leF
        rw [if_pos ⟨c, c1⟩]
        have := leF_bd (B := B) (n := n) (n - pl B n k - 1) (pl B n k + 1)
        exact ⟨this.1, this.2 (by omega)⟩
      have w := wdF_bd (B := B) (p := pl B n k) (e := leF B n (n - pl B n k) (pl B n k)) 29
      exact ⟨by omega, Or.inr ⟨c, by omega, by omega⟩, by omega⟩
    · rw [if_neg c1]
      by_cases c2 : isD (B (pl B n k))
      · rw [if_pos c2]
        dsimp only
        have v := diF_bd (B := B) (n := n) (n - pl B n k) (pl B n k) 0 (by omega)
        have q : pl B n k + 1 ≤ (diF B n (n - pl B n k) (pl B n k) 0).1 := by
          rw [show n - pl B n k = (n - pl B n k - 1) + 1 by omega]
          unfold diF
          rw [if_pos ⟨c, c2⟩]
          exact (diF_bd (B := B) (n := n) (n - pl B n k - 1) (pl B n k + 1) _ (m9_bd (by unfold isD at c2; omega))).1.1
        have q2 := v.1.2 b.2
        exact ⟨by omega, Or.inr ⟨c, by omega, by omega⟩, v.2⟩
      · rw [if_neg c2]
        by_cases c3 : (B (pl B n k) = 60 ∨ B (pl B n k) = 62) ∧ pl B n k + 1 < n ∧ B ((pl B n k + 1 : Nat)) = 61
        · rw [if_pos c3]
          dsimp only
          refine ⟨by omega, Or.inr ⟨c, by omega, ?_⟩, by omega⟩
          split <;> omega
        · rw [if_neg c3]
          dsimp only
          refine ⟨by omega, Or.inr ⟨c, by omega, ?_⟩, by omega⟩
          by_cases c4 : isS (B (pl B n k))
          · rw [if_pos c4]
            exact Or.inl (SGL_bd c4)
          · rw [if_neg c4]
            omega
  · rw [if_neg c]
    dsimp only
    exact ⟨by omega, Or.inl rfl, by omega⟩
/-- a token that isn't the end takes room -/
theorem nx_lt {k : Nat} (h : k ≤ n) (h2 : stT B n k ≠ 301) : k < nxT B n k ∧ nxT B n k ≤ n := by
  have q := tk_sp (B := B) h
  exact ⟨by rcases q.2.1 with c | c; · exact (h2 c).elim
            · omega, q.1.2⟩
theorem nmT_bd {t : Int} : -1 ≤ nmT t ∧ nmT t < 15 := by
  unfold nmT
  split
  · omega
  · split
    · omega
    · split <;> omega
theorem nmT_ne {t : Int} (h : ¬ nmT t = -1) : t ≠ 301 := by
  intro e
  rw [e] at h
  exact h (by decide)
/-- what is read lies behind, and takes at least as much room as it has steps -/
def GP (n k : Nat) (r : pR) : Prop := ∀ x, r = .inr x → k < x.2 ∧ x.2 ≤ n ∧ x.1.length + k ≤ x.2
theorem GP.er {k j : Nat} {f : Int} : GP n k (erT B n f j) := fun x e => by unfold erT at e; cases e
theorem GP_chnL {sub : Nat → pR} {o1 o2 : Int} {oc : Int → Int} (ho : o1 ≠ 301 ∧ o2 ≠ 301) (hs : ∀ k, k ≤ n → GP n k (sub k)) {k0 : Nat} : ∀ (f k : Nat) (acc : List (Int × Int)), k0 < k → k ≤ n → acc.length + k0 ≤ k → GP n k0 (chnL B n sub o1 o2 oc f k acc)
  | 0, k, acc, h1, h2, h3 => fun x e => by
    unfold chnL at e
    cases e
    exact ⟨h1, h2, h3⟩
  | f + 1, k, acc, h1, h2, h3 => by
    unfold chnL
    by_cases c : stT B n k = o1 ∨ stT B n k = o2
    · rw [if_pos c]
      have q := nx_lt (B := B) h2 (by rcases c with c | c; · rw [c]; exact ho.1
                                      · rw [c]; exact ho.2)
      have g := hs (nxT B n k) q.2
      revert g
      cases sub (nxT B n k) with
      | inl e => intro _ x e2; cases e2
      | inr y =>
        intro g
        have g2 := g y rfl
        refine GP_chnL ho hs f y.2 _ (by omega) g2.2.1 ?_
        rw [List.length_append, List.length_append]
        simp only [List.length_cons, List.length_nil]
        omega
    · rw [if_neg c]
      intro x e
      cases e
      exact ⟨h1, h2, h3⟩
theorem GP_chP {sub : Nat → pR} {o1 o2 : Int} {oc : Int → Int} (ho : o1 ≠ 301 ∧ o2 ≠ 301) (hs : ∀ k, k ≤ n → GP n k (sub k)) {k : Nat} (hk : k ≤ n) : GP n k (chP B n sub o1 o2 oc k) := by
  have g := hs k hk
  unfold chP
  revert g
  cases sub k with
  | inl e => intro _ x e2; cases e2
  | inr y =>
    intro g
    have g2 := g y rfl
    exact GP_chnL ho hs (n + 1) y.2 y.1 g2.1 g2.2.1 g2.2.2
theorem GP.up {k j : Nat} {c : Int × Int} {r : pR} (h : GP n j r) (hk : k < j) : GP n k (appP c r) := by
  intro x e
  unfold appP at e
  cases r with
  | inl e2 => cases e
  | inr y =>
    have g := h y rfl
    cases e
    dsimp only
    rw [List.length_append]
    simp only [List.length_cons, List.length_nil]
    omega
theorem GP.cls {k j : Nat} {r : pR} (h : GP n j r) (hk : k < j) : GP n k (clsP B n r) := by
  intro x e
  unfold clsP at e
  cases r with
  | inl e2 => cases e
  | inr y =>
    have g := h y rfl
    dsimp only at e
    by_cases c : stT B n y.2 = 41
    · rw [if_pos c] at e
      have q := nx_lt (B := B) (n := n) (k := y.2) g.2.1 (by omega)
      cases e
      dsimp only
      omega
    · rw [if_neg c] at e
      cases e
theorem GP_at {kd : Int} {k : Nat} {deep : pR} (hk : k ≤ n) (hd : (stT B n k = 40 ∨ stT B n k = 45) → GP n k deep) : GP n k (atmP B n kd k deep) := by
  unfold atmP
  by_cases c : stT B n k = 300
  · rw [if_pos c]
    have q := nx_lt (B := B) hk (by omega)
    split
    · exact GP.er
    · intro x e
      cases e
      simp only [List.length_cons, List.length_nil]
      omega
  · rw [if_neg c]
    by_cases c2 : nmT (stT B n k) = -1
    · rw [if_pos c2]
      by_cases c3 : stT B n k = 40 ∨ stT B n k = 45
      · rw [if_pos c3]; exact hd c3
      · rw [if_neg c3]; exact GP.er
    · rw [if_neg c2]
      have q := nx_lt (B := B) hk (nmT_ne c2)
      split
      · intro x e
        cases e
        simp only [List.length_cons, List.length_nil]
        omega
      · exact GP.er
theorem GP_one {kd : Int} : ∀ (D k : Nat), k ≤ n → GP n k (oneP B n kd D k)
  | 0, k, hk => by
    unfold oneP
    exact GP_at hk (fun _ => GP.er)
  | D + 1, k, hk => by
    unfold oneP
    refine GP_at hk (fun c => ?_)
    have q := nx_lt (B := B) hk (by omega)
    split
    · exact GP.cls (GP_chP ⟨by decide, by decide⟩ (fun j hj => GP_chP ⟨by decide, by decide⟩ (fun i hi => GP_one D i hi) hj) q.2) q.1
    · exact GP.up (GP_one D _ q.2) q.1
theorem GP_pr {kd : Int} {D k : Nat} (hk : k ≤ n) : GP n k (prP B n kd D k) := GP_chP ⟨by decide, by decide⟩ (fun i hi => GP_one D i hi) hk
theorem GP_sm {kd : Int} {D k : Nat} (hk : k ≤ n) : GP n k (smP B n kd D k) := GP_chP ⟨by decide, by decide⟩ (fun _ hi => GP_pr hi) hk
theorem GP_cm {kd : Int} {D k : Nat} (hk : k ≤ n) : GP n k (cmP B n kd D k) := by
  have g := GP_sm (B := B) (kd := kd) (D := D) hk
  unfold cmP
  revert g
  cases smP B n kd D k with
  | inl e => intro _ x e2; cases e2
  | inr y =>
    intro g
    have g2 := g y rfl
    dsimp only
    by_cases c : isC (stT B n y.2)
    · rw [if_pos c]
      have q := nx_lt (B := B) (n := n) (k := y.2) g2.2.1 (by unfold isC at c; omega)
      have g3 := GP_sm (B := B) (kd := kd) (D := D) q.2
      unfold cm2P
      revert g3
      cases smP B n kd D (nxT B n y.2) with
      | inl e => intro _ x e2; cases e2
      | inr z =>
        intro g3 x e
        have g4 := g3 z rfl
        cases e
        dsimp only
        rw [List.length_append, List.length_append]
        simp only [List.length_cons, List.length_nil]
        omega
    · rw [if_neg c]
      exact GP.er
theorem GP_ask {kd : Int} : ∀ (D k : Nat), k ≤ n → GP n k (askP B n kd D k)
  | 0, k, hk => by
    unfold askP
    split
    · exact GP.er
    · exact GP_cm hk
  | D + 1, k, hk => by
    unfold askP
    by_cases c : stT B n k = 214
    · rw [if_pos c]
      have q := nx_lt (B := B) hk (by omega)
      exact GP.up (GP_ask D _ q.2) q.1
    · rw [if_neg c]
      exact GP_cm hk
theorem GP_bot {kd : Int} {D k : Nat} (hk : k ≤ n) : GP n k (botP B n kd D k) := GP_chP ⟨by decide, by decide⟩ (fun i hi => GP_ask D i hi) hk
theorem GP_eit {kd : Int} {D k : Nat} (hk : k ≤ n) : GP n k (eitP B n kd D k) := GP_chP ⟨by decide, by decide⟩ (fun _ hi => GP_bot hi) hk
end LY
