/-! ===== the class: a text as it grows; doings, laws read ===== -/
-- MODE N
set_option maxRecDepth 100000
/-- the clauses that are doings, by their numbers -/
def dgC : Nat → List clR → List Nat
  | _, [] => []
  | i, c :: cs => if 204 ≤ c.1 then i :: dgC (i + 1) cs else dgC (i + 1) cs
theorem dgC_app {c : clR} : ∀ (cs : List clR) (i : Nat), dgC i (cs ++ [c]) = dgC i cs ++ (if 204 ≤ c.1 then [i + cs.length] else [])
  | [], i => by
    show (if 204 ≤ c.1 then i :: dgC (i + 1) [] else dgC (i + 1) []) = [] ++ _
    split <;> rfl
  | b :: cs, i => by
    have ih := dgC_app (c := c) cs (i + 1)
    show (if 204 ≤ b.1 then i :: dgC (i + 1) (cs ++ [c]) else dgC (i + 1) (cs ++ [c])) = (if 204 ≤ b.1 then i :: dgC (i + 1) cs else dgC (i + 1) cs) ++ _
    rw [ih, List.length_cons, show i + (cs.length + 1) = i + 1 + cs.length by omega]
    split <;> rfl
theorem dgC_len : ∀ (cs : List clR) (i : Nat), (dgC i cs).length ≤ cs.length
  | [], i => Nat.le_refl _
  | b :: cs, i => by
    have ih := dgC_len cs (i + 1)
    show (if 204 ≤ b.1 then i :: dgC (i + 1) cs else dgC (i + 1) cs).length ≤ _
    split
    · simp only [List.length_cons]; omega
    · simp only [List.length_cons]; omega
abbrev fzX (v : Int → Int → Int) (X : Int) : Int → Prop := fun b => b < 400 ∨ (X + 2 < b ∧ b ≠ v (X + 2) 1)
/-- a doing's cell -/
def DOB (v : Int → Int → Int) (T : jjT) (P : Int → Prop) (a : Int) (cl : clR) (j : Nat) : Prop := jok T a 13 ∧ P a ∧ 562 ≤ a ∧ v a 0 = cl.1 ∧ v a 4 = (j : Int) ∧ (204 ≤ cl.1 ∧ cl.1 ≤ 207 → v a 1 = cl.2.1) ∧ (cl.1 = 205 ∨ cl.1 = 207 → v a 2 = cl.2.2.1) ∧ (cl.1 = 207 → v a 3 = cl.2.2.2.1)
def TXa (v : Int → Int → Int) (T : jjT) (X N nd c : Int) : Prop := (jok T X 4 ∧ 562 ≤ X) ∧ (v X 0 = X + 1 ∧ v X 5 = X + 2 ∧ v X 4 = N) ∧ (jok T (X + 1) (-7) ∧ jln T (X + 1) = 6) ∧ GLS v T (X + 2) nd c ∧ (v (X + 2) 1 = 7 ∨ X + 2 < v (X + 2) 1) ∧ (0 ≤ N ∧ N ≤ 24)
def TXb (v : Int → Int → Int) (T : jjT) (X : Int) (cs : List clR) : Prop :=
  (∀ l, 0 ≤ l → l < 6 → (∀ cl ∈ cs, cl.1 = 200 → cl.2.1 = l → TRP (fzX v X) v T 60 (v (X + 1) l) cl.2.2.2.2) ∧ ((∀ cl ∈ cs, cl.1 = 200 → cl.2.1 ≠ l) → v (X + 1) l = 0)) ∧
  ((∀ cl ∈ cs, cl.1 = 201 → TRP (fzX v X) v T 60 (v X 1) cl.2.2.2.2) ∧ ((∀ cl ∈ cs, cl.1 ≠ 201) → v X 1 = 0)) ∧
  ((∀ cl ∈ cs, cl.1 = 202 → VRP (fzX v X) v T 60 (v X 2) cl.2.2.2.2) ∧ ((∀ cl ∈ cs, cl.1 ≠ 202) → v X 2 = 0)) ∧
  ((∀ cl ∈ cs, cl.1 = 203 → v X 3 = cl.2.1 ∧ 1 ≤ cl.2.1) ∧ ((∀ cl ∈ cs, cl.1 ≠ 203) → v X 3 = 0))
def TXd (v : Int → Int → Int) (T : jjT) (X : Int) (cs : List clR) : Prop :=
  ∀ i : Nat, i < (dgC 0 cs).length → ∃ j cl, (dgC 0 cs)[i]? = some j ∧ cs[j]? = some cl ∧ DOB v T (fzX v X) (aGet (v, T) (X + 2) i) cl j
def TXI (v : Int → Int → Int) (T : jjT) (X N : Int) (cs : List clR) (c : Nat) : Prop := TXa v T X N (dgC 0 cs).length c ∧ TXb v T X cs ∧ TXd v T X cs
/-- what changes outside the text's own cells changes nothing -/
theorem TXI.gr {v w : Int → Int → Int} {T T' : jjT} {tk X N : Int} {cs : List clR} {c : Nat} (h : TXI v T X N cs c) (q : GRT tk v T w T') (ht : 562 ≤ tk ∧ tk < X) : TXI w T' X N cs c ∧ w X = v X ∧ w (X + 1) = v (X + 1) ∧ w (X + 2) = v (X + 2) := by
  obtain ⟨⟨⟨a1, a2⟩, b, ⟨c1, c2⟩, G, e, nn⟩, ⟨l1, l2, l3, l4⟩, hd⟩ := h
  have g1 := G.1.1
  have r1 := G.1.2.2.2.1
  dsimp only at g1 r1
  have eX : w X = v X := q.2.2 X a1.1 a1.2.1 (by omega)
  have e1 : w (X + 1) = v (X + 1) := q.2.2 _ c1.1 c1.2.1 (by omega)
  have e2 : w (X + 2) = v (X + 2) := q.2.2 _ g1.1 g1.2.1 (by omega)
  have k1 : w (v (X + 2) 1) = v (v (X + 2) 1) := q.2.2 _ r1.1 r1.2.1 (by omega)
  have fe : fzX w X = fzX v X := by unfold fzX; rw [e2]
  have fr : ∀ b, 0 < b → b < T.2 → fzX v X b → fzX w X b ∧ w b = v b := fun b b0 b1 b2 => ⟨by rw [fe]; exact b2, q.2.2 b b0 b1 (by unfold fzX at b2; omega)⟩
  refine ⟨⟨⟨⟨q.ok a1, a2⟩, by rw [eX]; exact b, ⟨q.ok c1, by rw [q.ln c1]; exact c2⟩, G.fr e2 q.2.1 q.1, by rw [e2]; exact e, nn⟩, ⟨?_, ?_, ?_, ?_⟩, ?_⟩, eX, e1, e2⟩
  · intro l l0 l5
    rw [e1]
    exact ⟨fun cl hc h1 h2 => ((l1 l l0 l5).1 cl hc h1 h2).mo fr q.2.1 q.1, (l1 l l0 l5).2⟩
  · rw [eX]
    exact ⟨fun cl hc h1 => (l2.1 cl hc h1).mo fr q.2.1 q.1, l2.2⟩
  · rw [eX]
    exact ⟨fun cl hc h1 => (l3.1 cl hc h1).mo fr q.2.1 q.1, l3.2⟩
  · rw [eX]
    exact l4
  · intro i hi
    obtain ⟨j, cl, j1, j2, j3⟩ := hd i hi
    have ge : aGet (w, T') (X + 2) i = aGet (v, T) (X + 2) i := by unfold aGet; dsimp only; rw [e2, k1]
    refine ⟨j, cl, j1, j2, ?_⟩
    rw [ge]
    obtain ⟨z1, z2, z3, z4⟩ := j3
    have ez := (fr _ z1.1 z1.2.1 z2)
    exact ⟨q.ok z1, ez.1, z3, by rw [ez.2]; exact z4⟩
/-- one of the text's own fields is written: 1 falls, 2 swell, 3 need -/
theorem TXI.fd {v : Int → Int → Int} {T : jjT} {X N : Int} {cs : List clR} {c : Nat} {kd k z : Int} {a b e : Int} {co : List (Int × Int)} (h : TXI v T X N cs c) (hk : (kd = 201 ∧ k = 1 ∧ TRP (fzX v X) v T 60 z co) ∨ (kd = 202 ∧ k = 2 ∧ VRP (fzX v X) v T 60 z co) ∨ (kd = 203 ∧ k = 3 ∧ z = a ∧ 1 ≤ a)) (hn : ∀ cl ∈ cs, cl.1 ≠ kd) : TXI (upA v X (up1 (v X) k z)) T X N (cs ++ [(kd, a, b, e, co)]) c := by
  obtain ⟨⟨⟨a1, a2⟩, ⟨b1, b2, b3⟩, ⟨c1, c2⟩, G, ee, nn⟩, ⟨l1, l2, l3, l4⟩, hd⟩ := h
  have g1 := G.1.1
  have r1 := G.1.2.2.2.1
  dsimp only at g1 r1
  have e1 : (upA v X (up1 (v X) k z)) (X + 1) = v (X + 1) := upA_ne (by omega)
  have e2 : (upA v X (up1 (v X) k z)) (X + 2) = v (X + 2) := upA_ne (by omega)
  have eX : (upA v X (up1 (v X) k z)) X = up1 (v X) k z := upA_eq
  have fe : fzX (upA v X (up1 (v X) k z)) X = fzX v X := by unfold fzX; rw [e2]
  have fr : ∀ b, 0 < b → b < T.2 → fzX v X b → fzX (upA v X (up1 (v X) k z)) X b ∧ (upA v X (up1 (v X) k z)) b = v b := fun b b0 b1 b2 => ⟨by rw [fe]; exact b2, upA_ne (by unfold fzX at b2; omega)⟩
  have hk1 : 1 ≤ k ∧ k ≤ 3 := by omega
  have hkd : 201 ≤ kd ∧ kd ≤ 203 := by omega
  have ed : dgC 0 (cs ++ [(kd, a, b, e, co)]) = dgC 0 cs := by rw [dgC_app, if_neg (by dsimp only; omega), List.append_nil]
  have mem : ∀ cl, cl ∈ cs ++ [(kd, a, b, e, co)] → cl ∈ cs ∨ cl = (kd, a, b, e, co) := fun cl h => by
    rcases List.mem_append.1 h with h | h
    · exact Or.inl h
    · exact Or.inr (List.mem_singleton.1 h)
  refine ⟨⟨⟨a1, a2⟩, ⟨by rw [eX, up1_ne (by omega)]; exact b1, by rw [eX, up1_ne (by omega)]; exact b2, by rw [eX, up1_ne (by omega)]; exact b3⟩, ⟨c1, c2⟩, ?_, by rw [e2]; exact ee, nn⟩, ⟨?_, ?_, ?_, ?_⟩, ?_⟩
  · rw [ed]
    exact G.fr e2 (fun _ _ _ => rfl) (Int.le_refl _)
  · intro l l0 l5
    rw [e1]
    refine ⟨fun cl hc h1 h2 => ?_, fun hno => (l1 l l0 l5).2 (fun cl hc => hno cl (List.mem_append_left _ hc))⟩
    rcases mem cl hc with m | m
    · exact ((l1 l l0 l5).1 cl m h1 h2).mo fr (fun _ _ _ => rfl) (Int.le_refl _)
    · rw [m] at h1; dsimp only at h1; omega
  · rw [eX]
    refine ⟨fun cl hc h1 => ?_, fun hno => ?_⟩
    · rcases mem cl hc with m | m
      · by_cases q : k = 1
        · exact absurd h1 (fun h => hn cl m (by omega))
        · rw [up1_ne (fun e => q e.symm)]
          exact (l2.1 cl m h1).mo fr (fun _ _ _ => rfl) (Int.le_refl _)
      · rw [m] at h1 ⊢
        dsimp only at h1 ⊢
        rcases hk with ⟨_, q, q3⟩ | q | q
        · rw [q, up1_eq]
          rw [q] at fr
          exact q3.mo fr (fun _ _ _ => rfl) (Int.le_refl _)
        · omega
        · omega
    · have h1 := hno (kd, a, b, e, co) (List.mem_append_right _ (List.mem_singleton.2 rfl))
      dsimp only at h1
      rw [up1_ne (by omega)]
      exact l2.2 (fun cl hc => hno cl (List.mem_append_left _ hc))
  · rw [eX]
    refine ⟨fun cl hc h1 => ?_, fun hno => ?_⟩
    · rcases mem cl hc with m | m
      · by_cases q : k = 2
        · exact absurd h1 (fun h => hn cl m (by omega))
        · rw [up1_ne (fun e => q e.symm)]
          exact (l3.1 cl m h1).mo fr (fun _ _ _ => rfl) (Int.le_refl _)
      · rw [m] at h1 ⊢
        dsimp only at h1 ⊢
        rcases hk with q | ⟨_, q, q3⟩ | q
        · omega
        · rw [q, up1_eq]
          rw [q] at fr
          exact q3.mo fr (fun _ _ _ => rfl) (Int.le_refl _)
        · omega
    · have h1 := hno (kd, a, b, e, co) (List.mem_append_right _ (List.mem_singleton.2 rfl))
      dsimp only at h1
      rw [up1_ne (by omega)]
      exact l3.2 (fun cl hc => hno cl (List.mem_append_left _ hc))
  · rw [eX]
    refine ⟨fun cl hc h1 => ?_, fun hno => ?_⟩
    · rcases mem cl hc with m | m
      · by_cases q : k = 3
        · exact absurd h1 (fun h => hn cl m (by omega))
        · rw [up1_ne (fun e => q e.symm)]
          exact l4.1 cl m h1
      · rw [m] at h1 ⊢
        dsimp only at h1 ⊢
        have k3 : k = 3 ∧ z = a ∧ 1 ≤ a := by omega
        rw [k3.1, up1_eq]
        exact ⟨k3.2.1, k3.2.2⟩
    · have h1 := hno (kd, a, b, e, co) (List.mem_append_right _ (List.mem_singleton.2 rfl))
      dsimp only at h1
      rw [up1_ne (by omega)]
      exact l4.2 (fun cl hc => hno cl (List.mem_append_left _ hc))
  · intro i hi
    rw [ed] at hi ⊢
    obtain ⟨j, cl, j1, j2, j3⟩ := hd i hi
    have ge : aGet (upA v X (up1 (v X) k z), T) (X + 2) i = aGet (v, T) (X + 2) i := by
      unfold aGet
      dsimp only
      rw [e2, upA_ne (a := X) (b := v (X + 2) 1) (by omega)]
    refine ⟨j, cl, j1, ?_, ?_⟩
    · rw [List.getElem?_append_left (by have := List.getElem?_eq_some_iff.1 j2; exact this.1)]
      exact j2
    · rw [ge]
      obtain ⟨z1, z2, z3, z4⟩ := j3
      have ez := fr _ z1.1 z1.2.1 z2
      exact ⟨z1, ez.1, z3, by rw [ez.2]; exact z4⟩
/-- a law is written -/
theorem TXI.lw {v : Int → Int → Int} {T : jjT} {X N : Int} {cs : List clR} {c : Nat} {l z : Int} {co : List (Int × Int)} (h : TXI v T X N cs c) (hl : 0 ≤ l ∧ l < 6) (hz : TRP (fzX v X) v T 60 z co) (hn : ∀ cl ∈ cs, cl.1 = 200 → cl.2.1 ≠ l) : TXI (upA v (X + 1) (up1 (v (X + 1)) l z)) T X N (cs ++ [(200, l, 0, 0, co)]) c := by
  obtain ⟨⟨⟨a1, a2⟩, ⟨b1, b2, b3⟩, ⟨c1, c2⟩, G, ee, nn⟩, ⟨l1, l2, l3, l4⟩, hd⟩ := h
  have eX : (upA v (X + 1) (up1 (v (X + 1)) l z)) X = v X := upA_ne (by omega)
  have e2 : (upA v (X + 1) (up1 (v (X + 1)) l z)) (X + 2) = v (X + 2) := upA_ne (by omega)
  have e1 : (upA v (X + 1) (up1 (v (X + 1)) l z)) (X + 1) = up1 (v (X + 1)) l z := upA_eq
  have fe : fzX (upA v (X + 1) (up1 (v (X + 1)) l z)) X = fzX v X := by unfold fzX; rw [e2]
  have fr : ∀ b, 0 < b → b < T.2 → fzX v X b → fzX (upA v (X + 1) (up1 (v (X + 1)) l z)) X b ∧ (upA v (X + 1) (up1 (v (X + 1)) l z)) b = v b := fun b b0 b1 b2 => ⟨by rw [fe]; exact b2, upA_ne (by unfold fzX at b2; omega)⟩
  have ed : dgC 0 (cs ++ [((200 : Int), l, (0 : Int), (0 : Int), co)]) = dgC 0 cs := by rw [dgC_app, if_neg (by dsimp only; omega), List.append_nil]
  have mem : ∀ cl, cl ∈ cs ++ [((200 : Int), l, (0 : Int), (0 : Int), co)] → cl ∈ cs ∨ cl = (200, l, 0, 0, co) := fun cl h => by
    rcases List.mem_append.1 h with h | h
    · exact Or.inl h
    · exact Or.inr (List.mem_singleton.1 h)
  refine ⟨⟨⟨a1, a2⟩, by rw [eX]; exact ⟨b1, b2, b3⟩, ⟨c1, c2⟩, ?_, by rw [e2]; exact ee, nn⟩, ⟨?_, ?_, ?_, ?_⟩, ?_⟩
  · rw [ed]
    exact G.fr e2 (fun _ _ _ => rfl) (Int.le_refl _)
  · intro j j0 j5
    rw [e1]
    refine ⟨fun cl hc h1 h2 => ?_, fun hno => ?_⟩
    · rcases mem cl hc with m | m
      · rw [up1_ne (fun e => hn cl m h1 (h2.trans e))]
        exact ((l1 j j0 j5).1 cl m h1 h2).mo fr (fun _ _ _ => rfl) (Int.le_refl _)
      · rw [m] at h2 ⊢
        dsimp only at h2 ⊢
        rw [← h2, up1_eq]
        exact hz.mo fr (fun _ _ _ => rfl) (Int.le_refl _)
    · have h1 := hno (200, l, 0, 0, co) (List.mem_append_right _ (List.mem_singleton.2 rfl)) rfl
      dsimp only at h1
      rw [up1_ne (fun e => h1 e.symm)]
      exact (l1 j j0 j5).2 (fun cl hc => hno cl (List.mem_append_left _ hc))
  · rw [eX]
    refine ⟨fun cl hc h1 => ?_, fun hno => l2.2 (fun cl hc => hno cl (List.mem_append_left _ hc))⟩
    rcases mem cl hc with m | m
    · exact (l2.1 cl m h1).mo fr (fun _ _ _ => rfl) (Int.le_refl _)
    · rw [m] at h1; dsimp only at h1; omega
  · rw [eX]
    refine ⟨fun cl hc h1 => ?_, fun hno => l3.2 (fun cl hc => hno cl (List.mem_append_left _ hc))⟩
    rcases mem cl hc with m | m
    · exact (l3.1 cl m h1).mo fr (fun _ _ _ => rfl) (Int.le_refl _)
    · rw [m] at h1; dsimp only at h1; omega
  · rw [eX]
    refine ⟨fun cl hc h1 => ?_, fun hno => l4.2 (fun cl hc => hno cl (List.mem_append_left _ hc))⟩
    rcases mem cl hc with m | m
    · exact l4.1 cl m h1
    · rw [m] at h1; dsimp only at h1; omega
  · intro i hi
    rw [ed] at hi ⊢
    obtain ⟨j, cl, j1, j2, j3⟩ := hd i hi
    have ge : aGet (upA v (X + 1) (up1 (v (X + 1)) l z), T) (X + 2) i = aGet (v, T) (X + 2) i := by
      unfold aGet
      dsimp only
      rw [e2, upA_ne (a := X + 1) (b := v (X + 2) 1) (by omega)]
    refine ⟨j, cl, j1, ?_, ?_⟩
    · rw [List.getElem?_append_left (by have := List.getElem?_eq_some_iff.1 j2; exact this.1)]
      exact j2
    · rw [ge]
      obtain ⟨z1, z2, z3, z4⟩ := j3
      have ez := fr _ z1.1 z1.2.1 z2
      exact ⟨z1, ez.1, z3, by rw [ez.2]; exact z4⟩
