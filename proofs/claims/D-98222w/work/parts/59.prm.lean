/-! ===== orders: what the numbers lead to ===== -/
set_option maxRecDepth 100000
theorem dec_st {m n p : Int} (hm : 0 ≤ m ∧ m ≤ 6) (hn : 0 ≤ n ∧ n < fac m) (hp : 0 ≤ p ∧ p < m) : skO 8 (dsF m n p.toNat).2 ((dsF m n p.toNat).1 / fac (m - 1 - p)) 0 = true ∧ skF 8 (dsF m n p.toNat).2 ((dsF m n p.toNat).1 / fac (m - 1 - p)) 0 = dec m n p ∧ (0 ≤ dec m n p ∧ dec m n p < m) ∧ (0 ≤ (dsF m n p.toNat).2 ∧ (dsF m n p.toNat).2 < 64) ∧ (0 ≤ (dsF m n p.toNat).1 ∧ (dsF m n p.toNat).1 < 720) ∧ (dsF m n p.toNat).2 / 2 ^ (dec m n p).toNat % 2 = 0 ∧ (dsF m n (p + 1).toNat).1 = (dsF m n p.toNat).1 % fac (m - 1 - p) ∧ (dsF m n (p + 1).toNat).2 = (dsF m n p.toNat).2 + 2 ^ (dec m n p).toNat := by
  have q := decO_ok hm hn hp
  have ep : ((p.toNat : Nat) : Int) = p := by omega
  unfold decO at q
  rw [ep] at q
  simp only [Bool.and_eq_true, decide_eq_true_eq] at q
  obtain ⟨⟨⟨⟨⟨⟨⟨q1, q2⟩, q3⟩, q4⟩, q5⟩, q6⟩, q7⟩, q8⟩ := q
  have e1 : (p + 1).toNat = p.toNat + 1 := by omega
  refine ⟨q1, rfl, ⟨q2, q3⟩, ⟨q4, q5⟩, ⟨q6, q7⟩, q8, ?_, ?_⟩
  · rw [e1]
    show (dsF m n p.toNat).1 % fac (m - 1 - ((p.toNat : Nat) : Int)) = _
    rw [ep]
  · rw [e1]
    show (dsF m n p.toNat).2 + 2 ^ (skF 8 (dsF m n p.toNat).2 ((dsF m n p.toNat).1 / fac (m - 1 - ((p.toNat : Nat) : Int))) 0).toNat = _
    rw [ep]
    rfl
def PRM (w : Int → Int) (m : Int) : Prop := (∀ p, 0 ≤ p → p < m → 0 ≤ w p ∧ w p < m) ∧ ∀ p q, 0 ≤ p → p < q → q < m → w p ≠ w q
def lsF (w : Int → Int) : Nat → List Nat
  | 0 => []
  | k + 1 => lsF w k ++ [(w k).toNat]
theorem lsF_len {w : Int → Int} : ∀ k : Nat, (lsF w k).length = k
  | 0 => rfl
  | k + 1 => by
    unfold lsF
    rw [List.length_append, lsF_len k]
    rfl
theorem lsF_get {w : Int → Int} : ∀ (k i : Nat), i < k → (lsF w k).getD i 0 = (w i).toNat
  | 0, i, h => by omega
  | k + 1, i, h => by
    unfold lsF
    by_cases e : i = k
    · subst e
      rw [List.getD_eq_getElem?_getD, List.getElem?_append_right (by rw [lsF_len]; omega), lsF_len]
      simp
    · rw [List.getD_eq_getElem?_getD, List.getElem?_append_left (by rw [lsF_len]; omega), ← List.getD_eq_getElem?_getD]
      exact lsF_get k i (by omega)
theorem lsF_mem {w : Int → Int} {x : Nat} : ∀ k : Nat, x ∈ lsF w k → ∃ i : Nat, i < k ∧ x = (w i).toNat
  | 0, h => by unfold lsF at h; cases h
  | k + 1, h => by
    unfold lsF at h
    rcases List.mem_append.1 h with h | h
    · obtain ⟨i, h1, h2⟩ := lsF_mem k h
      exact ⟨i, by omega, h2⟩
    · exact ⟨k, by omega, by simpa using h⟩
theorem lsF_pr {w : Int → Int} {m : Int} (h : PRM w m) : ∀ k : Nat, (k : Int) ≤ m → lsF w k ∈ prL m.toNat k
  | 0, _ => by unfold lsF prL; exact List.mem_singleton.2 rfl
  | k + 1, hk => by
    unfold lsF prL
    refine List.mem_flatMap.2 ⟨lsF w k, lsF_pr h k (by omega), List.mem_map.2 ⟨(w k).toNat, List.mem_filter.2 ⟨List.mem_range.2 ?_, ?_⟩, rfl⟩⟩
    · have := h.1 k (by omega) (by omega)
      omega
    · have : (w k).toNat ∉ lsF w k := by
        intro hm
        obtain ⟨i, h1, h2⟩ := lsF_mem k hm
        have a := h.1 k (by omega) (by omega)
        have b := h.1 i (by omega) (by omega)
        exact h.2 i k (by omega) (by omega) (by omega) (by omega)
      simpa using this
theorem lwF_cg {w w' : Int → Int} {m p : Int} (h : EQm m w w') (hp : 0 ≤ p ∧ p < m) : ∀ (n : Nat) (q : Int), 0 ≤ q → q + n ≤ m → lwF w p n q = lwF w' p n q
  | 0, _, _, _ => rfl
  | n + 1, q, hq, hn => by
    unfold lwF
    rw [h q hq (by omega), h p hp.1 hp.2, lwF_cg h hp n (q + 1) (by omega) (by omega)]
theorem ooF_cg {w w' : Int → Int} {m : Int} (h : EQm m w w') : ∀ (n : Nat) (p x : Int), 0 ≤ p → m = p + n → ooF w m n p x = ooF w' m n p x
  | 0, _, _, _, _ => rfl
  | n + 1, p, x, hp, hn => by
    unfold ooF
    rw [lwF_cg h ⟨hp, by omega⟩ (m - p - 1).toNat (p + 1) (by omega) (by omega)]
    exact ooF_cg h n (p + 1) _ (by omega) (by omega)
theorem ooA_cg {w w' : Int → Int} {m : Int} (h : EQm m w w') (hm : 0 ≤ m) : ooA w m = ooA w' m := ooF_cg h m.toNat 0 0 (by omega) (by omega)
/-- every order has its number -/
theorem prm_dec {w : Int → Int} {m : Int} (hm : 0 ≤ m ∧ m ≤ 6) (h : PRM w m) : (0 ≤ ooA w m ∧ ooA w m < fac m) ∧ EQm m w (dec m (ooA w m)) := by
  have c := prC_1 ⟨m.toNat, by omega⟩
  have em : ((m.toNat : Nat) : Int) = m := by omega
  unfold prC at c
  dsimp only at c
  rw [List.all_eq_true] at c
  have c2 := c _ (lsF_pr h m.toNat (by omega))
  have e : EQm m w (liF (lsF w m.toNat)) := by
    intro i h0 h1
    have := h.1 i h0 h1
    unfold liF
    rw [lsF_get m.toNat i.toNat (by omega), show ((i.toNat : Nat) : Int) = i by omega]
    omega
  unfold prO at c2
  simp only [Bool.and_eq_true, decide_eq_true_eq, em, ← ooA_cg e hm.1, List.all_eq_true] at c2
  refine ⟨c2.1, ?_⟩
  intro i h0 h1
  have c3 := c2.2 i.toNat (List.mem_range.2 (by omega))
  rw [show ((i.toNat : Nat) : Int) = i by omega] at c3
  rw [c3]
  exact e i h0 h1
theorem PRM.cg {w w' : Int → Int} {m : Int} (h : PRM w m) (e : EQm m w w') : PRM w' m :=
  ⟨fun p h0 h1 => by rw [← e p h0 h1]; exact h.1 p h0 h1, fun p q h0 h1 h2 => by rw [← e p h0 (by omega), ← e q (by omega) h2]; exact h.2 p q h0 h1 h2⟩
theorem PRM.sw {w : Int → Int} {m p : Int} (h : PRM w m) (hp : 0 ≤ p ∧ p + 1 < m) : PRM (swp w p) m := by
  have e1 : swp w p (p + 1) = w p := by unfold swp; rw [up1_eq]
  have e2 : swp w p p = w (p + 1) := by unfold swp; rw [up1_ne (by omega), up1_eq]
  have e3 : ∀ i, i ≠ p → i ≠ p + 1 → swp w p i = w i := fun i a b => by unfold swp; rw [up1_ne b, up1_ne a]
  have key : ∀ i, 0 ≤ i → i < m → ∃ j, (0 ≤ j ∧ j < m) ∧ swp w p i = w j ∧ (j = if i = p then p + 1 else if i = p + 1 then p else i) := by
    intro i h0 h1
    by_cases a : i = p
    · exact ⟨p + 1, by omega, by rw [a, e2], by rw [if_pos a]⟩
    · by_cases b : i = p + 1
      · exact ⟨p, by omega, by rw [b, e1], by rw [if_neg a, if_pos b]⟩
      · exact ⟨i, by omega, e3 i a b, by rw [if_neg a, if_neg b]⟩
  refine ⟨fun i h0 h1 => ?_, fun i j h0 h1 h2 => ?_⟩
  · obtain ⟨k, k1, k2, _⟩ := key i h0 h1
    rw [k2]
    exact h.1 k k1.1 k1.2
  · obtain ⟨k, k1, k2, k3⟩ := key i h0 (by omega)
    obtain ⟨l, l1, l2, l3⟩ := key j (by omega) h2
    rw [k2, l2]
    have ne : k ≠ l := by
      rw [k3, l3]
      split <;> split <;> (try split) <;> omega
    rcases Int.lt_or_gt_of_ne ne with g | g
    · exact h.2 k l k1.1 g l1.2
    · exact fun e => h.2 l k l1.1 g k1.2 e.symm
theorem PRM.nit {c : Int → Int} {m : Int} : ∀ (n : Nat) (p : Int) (w : Int → Int), 0 ≤ p → PRM w m → PRM (nitL c m n p w) m
  | 0, _, _, _, h => by unfold nitL; exact h
  | n + 1, p, w, hp, h => by
    unfold nitL
    split
    · exact h
    · refine PRM.nit n (p + 2) _ (by omega) ?_
      split
      · exact h
      · exact h.sw ⟨hp, by omega⟩
def deqC (m : Nat) : Bool := (List.range (fac m).toNat).all fun n => (List.range m).all fun p => (List.range p).all fun q => !decide (dec m n q = dec m n p)
theorem deqC_1 : ∀ m : Fin 7, deqC m.val = true := by decide +kernel
theorem dec_PRM {m n : Int} (hm : 0 ≤ m ∧ m ≤ 6) (hn : 0 ≤ n ∧ n < fac m) : PRM (dec m n) m := by
  refine ⟨fun p h0 h1 => (dec_st hm hn ⟨h0, h1⟩).2.2.1, fun p q h0 h1 h2 => ?_⟩
  have c := deqC_1 ⟨m.toNat, by omega⟩
  unfold deqC at c
  dsimp only at c
  rw [show ((m.toNat : Nat) : Int) = m by omega, List.all_eq_true] at c
  have c2 := c n.toNat (List.mem_range.2 (by omega))
  rw [List.all_eq_true] at c2
  have c3 := c2 q.toNat (List.mem_range.2 (by omega))
  rw [List.all_eq_true] at c3
  have c4 := c3 p.toNat (List.mem_range.2 (by omega))
  rw [show ((n.toNat : Nat) : Int) = n by omega, show ((p.toNat : Nat) : Int) = p by omega, show ((q.toNat : Nat) : Int) = q by omega] at c4
  simpa using c4
theorem jor_b {u e : Int} (hu : 0 ≤ u ∧ u < 64) (he : 0 ≤ e ∧ e < 6) (hb : u / 2 ^ e.toNat % 2 = 0) : jor u (2 ^ e.toNat) = u + 2 ^ e.toNat := by
  have key : ∀ u : Fin 64, ∀ e : Fin 6, (((u.val : Nat) : Int)) / 2 ^ e.val % 2 = 0 → jor ((u.val : Nat) : Int) (2 ^ e.val) = ((u.val : Nat) : Int) + 2 ^ e.val := by decide +kernel
  have := key ⟨u.toNat, by omega⟩ ⟨e.toNat, by omega⟩
  dsimp only at this
  rw [show ((u.toNat : Nat) : Int) = u by omega] at this
  exact this hb
