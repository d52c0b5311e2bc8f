/-! ===== a clause's body: what is read, plain; doings together ===== -/
-- MODE N
set_option maxRecDepth 100000
section LB
variable {B : Int → Int} {n : Nat}
theorem wntP_sp {s : Int} {k k' : Nat} (hk : k ≤ n) (hs : s ≠ 301) (h : wntP B n s k = .inr k') : k < k' ∧ k' ≤ n := by
  unfold wntP at h
  by_cases c : stT B n k = s
  · rw [if_pos c] at h
    cases h
    exact nx_lt hk (by omega)
  · rw [if_neg c] at h
    cases h
theorem at1P_sp {kd a b hi s : Int} {k : Nat} {x : Int × Nat} (hk : k ≤ n) (hs : s ≠ 301) (h : at1P B n kd a b hi s k = .inr x) : 0 ≤ x.1 ∧ x.1 ≤ hi ∧ k < x.2 ∧ x.2 ≤ n := by
  unfold at1P at h
  cases hy : wntP B n s k with
  | inl e => rw [hy] at h; cases h
  | inr y =>
    rw [hy] at h
    have q := wntP_sp hk hs hy
    have q2 := numP_sp q.2 h
    exact ⟨q2.2.2.1, q2.2.2.2.1, by omega, q2.2.2.2.2.2⟩
theorem cdP_sp {kd x : Int} {k : Nat} {r : pR} {z : clR × Nat} (hr : GP n k r) (h : cdP kd x r = .inr z) : z.1 = (kd, x, 0, 0, z.1.2.2.2.2) ∧ r = .inr (z.1.2.2.2.2, z.2) ∧ k < z.2 ∧ z.2 ≤ n ∧ z.1.2.2.2.2.length + k ≤ z.2 := by
  cases r with
  | inl e => cases h
  | inr y =>
    have g := hr y rfl
    cases h
    exact ⟨rfl, rfl, g⟩
/-- a clause as it may be read -/
def clG (cl : clR) : Prop := (cl.1 = 200 → (0 ≤ cl.2.1 ∧ cl.2.1 ≤ 5)) ∧ (cl.1 = 203 → (1 ≤ cl.2.1 ∧ cl.2.1 ≤ 2)) ∧ (cl.1 = 204 → (1 ≤ cl.2.1 ∧ cl.2.1 ≤ 99)) ∧ (cl.1 = 205 → (0 ≤ cl.2.1 ∧ cl.2.1 ≤ 2) ∧ 0 ≤ cl.2.2.1 ∧ cl.2.2.1 ≤ 9) ∧ (cl.1 = 206 → (0 ≤ cl.2.1 ∧ cl.2.1 ≤ 9)) ∧ (cl.1 = 207 → (0 ≤ cl.2.1 ∧ cl.2.1 ≤ 9) ∧ (0 ≤ cl.2.2.1 ∧ cl.2.2.1 ≤ 2) ∧ 0 ≤ cl.2.2.2.1 ∧ cl.2.2.2.1 ≤ 9) ∧ (203 ≤ cl.1 → cl.2.2.2.2 = [])
theorem nm1P_sp {kd lo hi : Int} {k : Nat} {z : clR × Nat} (hk : k ≤ n) (h : nm1P B n kd lo hi k = .inr z) : z.1 = (kd, z.1.2.1, 0, 0, []) ∧ lo ≤ z.1.2.1 ∧ z.1.2.1 ≤ hi ∧ k < z.2 ∧ z.2 ≤ n := by
  unfold nm1P at h
  cases hy : numP B n lo hi k with
  | inl e => rw [hy] at h; cases h
  | inr y =>
    rw [hy] at h
    have q := numP_sp hk hy
    cases h
    exact ⟨rfl, q.2.2.1, q.2.2.2.1, q.2.2.2.2⟩
theorem nudP_sp {k : Nat} {z : clR × Nat} (hk : k ≤ n) (h : nudP B n k = .inr z) : z.1 = (205, z.1.2.1, z.1.2.2.1, 0, []) ∧ ((0 ≤ z.1.2.1 ∧ z.1.2.1 ≤ 2) ∧ 0 ≤ z.1.2.2.1 ∧ z.1.2.2.1 ≤ 9) ∧ k < z.2 ∧ z.2 ≤ n := by
  unfold nudP at h
  cases hy : numP B n 0 2 k with
  | inl e => rw [hy] at h; cases h
  | inr y =>
    rw [hy] at h
    have q := numP_sp hk hy
    dsimp only at h
    cases hx : at1P B n 0 0 0 9 210 y.2 with
    | inl e => rw [hx] at h; cases h
    | inr x =>
      rw [hx] at h
      have q2 := at1P_sp q.2.2.2.2.2 (by decide) hx
      cases h
      exact ⟨rfl, ⟨⟨q.2.2.1, q.2.2.2.1⟩, q2.1, q2.2.1⟩, Nat.lt_trans q.2.2.2.2.1 q2.2.2.1, q2.2.2.2⟩
theorem putP_sp {k : Nat} {z : clR × Nat} (hk : k ≤ n) (h : putP B n k = .inr z) : z.1 = (207, z.1.2.1, z.1.2.2.1, z.1.2.2.2.1, []) ∧ ((0 ≤ z.1.2.1 ∧ z.1.2.1 ≤ 9) ∧ (0 ≤ z.1.2.2.1 ∧ z.1.2.2.1 ≤ 2) ∧ 0 ≤ z.1.2.2.2.1 ∧ z.1.2.2.2.1 ≤ 9) ∧ k < z.2 ∧ z.2 ≤ n := by
  unfold putP at h
  cases hy : numP B n 0 9 k with
  | inl e => rw [hy] at h; cases h
  | inr y =>
    rw [hy] at h
    have q := numP_sp hk hy
    dsimp only at h
    cases hx : at1P B n 0 0 0 2 211 y.2 with
    | inl e => rw [hx] at h; cases h
    | inr x =>
      rw [hx] at h
      have q2 := at1P_sp q.2.2.2.2.2 (by decide) hx
      dsimp only at h
      cases hu : at1P B n 0 0 0 9 210 x.2 with
      | inl e => rw [hu] at h; cases h
      | inr u =>
        rw [hu] at h
        have q3 := at1P_sp q2.2.2.2 (by decide) hu
        cases h
        exact ⟨rfl, ⟨⟨q.2.2.1, q.2.2.2.1⟩, ⟨q2.1, q2.2.1⟩, q3.1, q3.2.1⟩, Nat.lt_trans q.2.2.2.2.1 (Nat.lt_trans q2.2.2.1 q3.2.2.1), q3.2.2.2⟩
theorem lawP_sp {cs : List clR} {k : Nat} {z : clR × Nat} (hk : k ≤ n) (h : lawP B n cs k = .inr z) : z.1 = (200, z.1.2.1, 0, 0, z.1.2.2.2.2) ∧ (0 ≤ z.1.2.1 ∧ z.1.2.1 ≤ 5) ∧ (∀ c ∈ cs, c.1 = 200 → c.2.1 ≠ z.1.2.1) ∧ (k < z.2 ∧ z.2 ≤ n) ∧ z.1.2.2.2.2.length + k ≤ z.2 ∧ ∃ j, eitP B n 200 8 j = .inr (z.1.2.2.2.2, z.2) := by
  unfold lawP at h
  by_cases c : stT B n k = 300 ∧ nuT B n k < 6 ∧ ∃ c ∈ cs, c.1 = 200 ∧ c.2.1 = nuT B n k
  · rw [if_pos c] at h; cases h
  · rw [if_neg c] at h
    cases hy : numP B n 0 5 k with
    | inl e => rw [hy] at h; cases h
    | inr y =>
      rw [hy] at h
      have q := numP_sp hk hy
      dsimp only at h
      have q2 := cdP_sp (GP_eit (B := B) (kd := 200) (D := 8) q.2.2.2.2.2) h
      have e : z.1.2.1 = y.1 := by rw [q2.1]
      refine ⟨by rw [e]; exact q2.1, by omega, fun cl hc e1 e2 => c ⟨q.1, by omega, cl, hc, e1, by omega⟩, by omega, by omega, y.2, q2.2.1⟩
theorem bodP_eq {cs : List clR} {k : Nat} : bodP B n 200 cs k = lawP B n cs k ∧ bodP B n 201 cs k = cdP 201 0 (eitP B n 201 8 k) ∧ bodP B n 202 cs k = cdP 202 0 (smP B n 202 8 k) ∧ bodP B n 203 cs k = nm1P B n 203 1 2 k ∧ bodP B n 204 cs k = nm1P B n 204 1 99 k ∧ bodP B n 205 cs k = nudP B n k ∧ bodP B n 206 cs k = nm1P B n 206 0 9 k ∧ bodP B n 207 cs k = putP B n k ∧ bodP B n 208 cs k = .inr ((208, 0, 0, 0, []), k) ∧ bodP B n 209 cs k = .inr ((209, 0, 0, 0, []), k) := by
  refine ⟨rfl, rfl, rfl, rfl, rfl, rfl, rfl, rfl, rfl, rfl⟩
theorem bodP_sp {kd : Int} {cs : List clR} {k : Nat} {z : clR × Nat} (hkd : 200 ≤ kd ∧ kd ≤ 209) (hk : k ≤ n) (h : bodP B n kd cs k = .inr z) : z.1.1 = kd ∧ (k ≤ z.2 ∧ z.2 ≤ n) ∧ z.1.2.2.2.2.length + k ≤ z.2 ∧ clG z.1 ∧ (kd = 200 → ∀ c ∈ cs, c.1 = 200 → c.2.1 ≠ z.1.2.1) := by
  obtain ⟨b0, b1, b2, b3, b4, b5, b6, b7, b8, b9⟩ := bodP_eq (B := B) (n := n) (cs := cs) (k := k)
  have hh : kd = 200 ∨ kd = 201 ∨ kd = 202 ∨ kd = 203 ∨ kd = 204 ∨ kd = 205 ∨ kd = 206 ∨ kd = 207 ∨ kd = 208 ∨ kd = 209 := by omega
  obtain ⟨⟨c1, c2, c3, c4, c5⟩, j⟩ := z
  unfold clG
  dsimp only
  rcases hh with e | e | e | e | e | e | e | e | e | e
  · subst e
    rw [b0] at h
    have q := lawP_sp hk h
    dsimp only at q
    have e1 : c1 = 200 := congrArg (fun z : clR => z.1) q.1
    subst e1
    exact ⟨rfl, by omega, by omega, ⟨fun _ => q.2.1, fun q => by omega, fun q => by omega, fun q => by omega, fun q => by omega, fun q => by omega, fun q => by omega⟩, fun _ => q.2.2.1⟩
  · subst e
    rw [b1] at h
    have q := cdP_sp (GP_eit (B := B) (kd := 201) (D := 8) hk) h
    dsimp only at q
    have e1 : c1 = 201 := congrArg (fun z : clR => z.1) q.1
    subst e1
    exact ⟨rfl, by omega, by omega, ⟨fun q => by omega, fun q => by omega, fun q => by omega, fun q => by omega, fun q => by omega, fun q => by omega, fun q => by omega⟩, fun q => by omega⟩
  · subst e
    rw [b2] at h
    have q := cdP_sp (GP_sm (B := B) (kd := 202) (D := 8) hk) h
    dsimp only at q
    have e1 : c1 = 202 := congrArg (fun z : clR => z.1) q.1
    subst e1
    exact ⟨rfl, by omega, by omega, ⟨fun q => by omega, fun q => by omega, fun q => by omega, fun q => by omega, fun q => by omega, fun q => by omega, fun q => by omega⟩, fun q => by omega⟩
  · subst e
    rw [b3] at h
    have q := nm1P_sp hk h
    dsimp only at q
    have e1 : c1 = 203 := congrArg (fun z : clR => z.1) q.1
    have e5 : c5 = [] := congrArg (fun z : clR => z.2.2.2.2) q.1
    subst e1 e5
    exact ⟨rfl, by omega, by simp only [List.length_nil]; omega, ⟨fun q => by omega, fun _ => by omega, fun q => by omega, fun q => by omega, fun q => by omega, fun q => by omega, fun _ => rfl⟩, fun q => by omega⟩
  · subst e
    rw [b4] at h
    have q := nm1P_sp hk h
    dsimp only at q
    have e1 : c1 = 204 := congrArg (fun z : clR => z.1) q.1
    have e5 : c5 = [] := congrArg (fun z : clR => z.2.2.2.2) q.1
    subst e1 e5
    exact ⟨rfl, by omega, by simp only [List.length_nil]; omega, ⟨fun q => by omega, fun q => by omega, fun _ => by omega, fun q => by omega, fun q => by omega, fun q => by omega, fun _ => rfl⟩, fun q => by omega⟩
  · subst e
    rw [b5] at h
    have q := nudP_sp hk h
    dsimp only at q
    have e1 : c1 = 205 := congrArg (fun z : clR => z.1) q.1
    have e5 : c5 = [] := congrArg (fun z : clR => z.2.2.2.2) q.1
    subst e1 e5
    exact ⟨rfl, by omega, by simp only [List.length_nil]; omega, ⟨fun q => by omega, fun q => by omega, fun q => by omega, fun _ => q.2.1, fun q => by omega, fun q => by omega, fun _ => rfl⟩, fun q => by omega⟩
  · subst e
    rw [b6] at h
    have q := nm1P_sp hk h
    dsimp only at q
    have e1 : c1 = 206 := congrArg (fun z : clR => z.1) q.1
    have e5 : c5 = [] := congrArg (fun z : clR => z.2.2.2.2) q.1
    subst e1 e5
    exact ⟨rfl, by omega, by simp only [List.length_nil]; omega, ⟨fun q => by omega, fun q => by omega, fun q => by omega, fun q => by omega, fun _ => by omega, fun q => by omega, fun _ => rfl⟩, fun q => by omega⟩
  · subst e
    rw [b7] at h
    have q := putP_sp hk h
    dsimp only at q
    have e1 : c1 = 207 := congrArg (fun z : clR => z.1) q.1
    have e5 : c5 = [] := congrArg (fun z : clR => z.2.2.2.2) q.1
    subst e1 e5
    exact ⟨rfl, by omega, by simp only [List.length_nil]; omega, ⟨fun q => by omega, fun q => by omega, fun q => by omega, fun q => by omega, fun q => by omega, fun _ => q.2.1, fun _ => rfl⟩, fun q => by omega⟩
  · subst e
    rw [b8] at h
    cases h
    exact ⟨rfl, by omega, by simp only [List.length_nil]; omega, ⟨fun q => by omega, fun q => by omega, fun q => by omega, fun q => by omega, fun q => by omega, fun q => by omega, fun _ => rfl⟩, fun q => by omega⟩
  · subst e
    rw [b9] at h
    cases h
    exact ⟨rfl, by omega, by simp only [List.length_nil]; omega, ⟨fun q => by omega, fun q => by omega, fun q => by omega, fun q => by omega, fun q => by omega, fun q => by omega, fun _ => rfl⟩, fun q => by omega⟩
end LB
section XG
variable {g : jjG} {d : Nat} {tk : Int} {B : Int → Int} {n : Nat} {Q : jjQ} {kd : Int}
theorem xw_doing {k : Nat} {N : Nat} {v : Int → Int → Int} {T : jjT} {cs : List clR} (hkd : 204 ≤ kd ∧ kd ≤ 209) (hN : N ≤ 24) (hS : TKS v T tk B n k 0 kd) (hE : ∀ f p, bodP B n kd cs k = .inl (f, p) → qEr Q v T tk f p)
    (hQ : ∀ x, bodP B n kd cs k = .inr x → ∀ w T' a, GRT tk v T w T' → TKS w T' tk B n x.2 0 kd → DOB w T' (fun b => T.2 ≤ b) a x.1 N → Q (.inl (some (vR a))) (w, T')) : jmet g (d + 12) 6 45 MX3_doing [vR tk, vI N] (v, T) Q := by
  obtain ⟨b0, b1, b2, b3, b4, b5, b6, b7, b8, b9⟩ := bodP_eq (B := B) (n := n) (cs := cs) (k := k)
  have hh : kd = 204 ∨ kd = 205 ∨ kd = 206 ∨ kd = 207 ∨ kd = 208 ∨ kd = 209 := by omega
  rcases hh with e | e | e | e | e | e
  · subst e
    rw [b4] at hE hQ
    exact jmet_le (Nat.le_refl _) (by omega) (by omega) (xw_doing_1 (lo := 1) (hi := 99) (Or.inl ⟨rfl, rfl, rfl⟩) hN hS hE hQ)
  · subst e
    rw [b5] at hE hQ
    exact xw_doing_5 hN hS hE hQ
  · subst e
    rw [b6] at hE hQ
    exact jmet_le (Nat.le_refl _) (by omega) (by omega) (xw_doing_1 (lo := 0) (hi := 9) (Or.inr ⟨rfl, rfl, rfl⟩) hN hS hE hQ)
  · subst e
    rw [b7] at hE hQ
    exact xw_doing_7 hN hS hE hQ
  · subst e
    rw [b8] at hE hQ
    exact jmet_le (Nat.le_refl _) (by omega) (by omega) (xw_doing_0 (Or.inl rfl) hN hS (fun w T' a => hQ _ rfl w T' a))
  · subst e
    rw [b9] at hE hQ
    exact jmet_le (Nat.le_refl _) (by omega) (by omega) (xw_doing_0 (Or.inr rfl) hN hS (fun w T' a => hQ _ rfl w T' a))
end XG
