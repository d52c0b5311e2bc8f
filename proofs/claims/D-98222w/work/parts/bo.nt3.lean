/-! ===== the reference: the next token, whole ===== -/
set_option maxRecDepth 100000
def KD2 (st tk : Int) : Prop := (st = 301 → tk = 0) ∧ (st = 300 → tk = 1) ∧ (200 ≤ st ∧ st ≤ 228 → tk = 2) ∧ (st = 302 → tk = 3 ∨ tk = 2) ∧ (st = 303 → tk = 4) ∧ (st = 304 → tk = 5) ∧ (35 ≤ st ∧ st ≤ 62 → tk = st)
/-- the reference's reader at a token -/
def R2 (v : Int → Int → Int) (B : Int → Int) (n k : Nat) : Prop := R2N v B n (nxT B n k) ∧ v 539 8 = (pl B n k : Int) ∧ KD2 (stT B n k) (v 539 9) ∧ (stT B n k = 300 → m9 (v 539 10) = nuT B n k ∧ 0 ≤ v 539 10 ∧ v 539 10 ≤ 999999) ∧ (v 539 9 = 2 → ∀ w : Nat, w < 29 → (v 539 11 = pk (WD w) ↔ stT B n k = 200 + (w : Int))) ∧ k ≤ n
theorem WD_ok : ∀ w : Nat, w < 29 → (∀ c ∈ WD w, (1 : Int) ≤ c ∧ c < 256) ∧ (WD w).length ≤ 7 ∧ 1 ≤ (WD w).length := by decide
theorem WD_inj : ∀ w : Nat, w < 29 → ∀ u : Nat, u < 29 → WD w = WD u → w = u := by decide
theorem mtW_bl {B : Int → Int} {p e : Nat} {l : List Int} (h : p ≤ e) : mtW B p e l ↔ bl B p e = l := by
  unfold mtW
  constructor
  · intro ⟨h1, h2⟩
    refine List.ext_getElem (by rw [bl_len]; omega) (fun i i1 i2 => ?_)
    have := h2 i i2
    unfold bl li0 at *
    rw [List.getElem_map, List.getElem_range]
    rw [show ((p + i : Nat) : Int) = (p : Int) + i by omega, this, List.getD_eq_getElem?_getD, show ((i : Int)).toNat = i by omega, List.getElem?_eq_getElem i2]
    rfl
  · intro q
    have hl := bl_len (B := B) (p := p) (e := e)
    rw [q] at hl
    refine ⟨by omega, fun i hi => ?_⟩
    unfold li0
    rw [List.getD_eq_getElem?_getD, show ((i : Int)).toNat = i by omega, List.getElem?_eq_getElem hi]
    have e2 : (bl B p e)[i]'(by rw [bl_len]; omega) = l[i] := by
      congr 1
    rw [Option.getD_some, ← e2]
    unfold bl
    rw [List.getElem_map, List.getElem_range, show ((p + i : Nat) : Int) = (p : Int) + i by omega]
theorem wdF_iff {B : Int → Int} {p e w : Nat} (h : p ≤ e) (hw : w < 29) : ∀ m : Nat, m ≤ 29 → (wdF B p e m = 200 + (w : Int) ↔ (w < m ∧ bl B p e = WD w))
  | 0, hm => by
    unfold wdF
    constructor
    · intro q; omega
    · intro q; omega
  | m + 1, hm => by
    unfold wdF
    have ih := wdF_iff (B := B) h hw m (by omega)
    by_cases c : mtW B p e (WD m)
    · rw [if_pos c]
      have c2 := (mtW_bl h).1 c
      constructor
      · intro q
        have : w = m := by omega
        subst this
        exact ⟨by omega, c2⟩
      · intro q
        have := WD_inj w hw m (by omega) (q.2.symm.trans c2)
        omega
    · rw [if_neg c, ih]
      constructor
      · intro q; exact ⟨by omega, q.2⟩
      · intro q
        refine ⟨?_, q.2⟩
        by_cases e2 : w = m
        · subst e2; exact absurd ((mtW_bl h).2 q.2) c
        · omega
theorem wd_word {B : Int → Int} {p e w : Nat} {x : Int} (h : p ≤ e) (hw : w < 29) (hB : ∀ i : Nat, p ≤ i → i < e → 1 ≤ B i ∧ B i < 256) (h1 : e ≤ p + 7 → x = pk (bl B p e)) (h2 : p + 7 < e → x = 0) : x = pk (WD w) ↔ wdF B p e 29 = 200 + (w : Int) := by
  rw [wdF_iff h hw 29 (by omega)]
  have ok := WD_ok w hw
  by_cases c : e ≤ p + 7
  · rw [h1 c]
    constructor
    · intro q
      refine ⟨hw, pk_inj _ _ _ rfl (fun a ha => ?_) ok.1 q⟩
      unfold bl at ha
      obtain ⟨i, hi, ei⟩ := List.mem_map.1 ha
      rw [List.mem_range] at hi
      rw [← ei]
      exact hB (p + i) (by omega) (by omega)
    · intro q
      rw [q.2]
  · rw [h2 (by omega)]
    constructor
    · intro q
      have := (pkF_nn (WD w) 0 ok.1 (Int.le_refl _)).2 (fun q => by have := ok.2.2; rw [q] at this; simp at this)
      unfold pk at q
      omega
    · intro q
      have := bl_len (B := B) (p := p) (e := e)
      rw [q.2] at this
      omega
theorem pl_pl {B : Int → Int} {n k : Nat} (h : k < n ∧ (B k = 32 ∨ B k = 10)) : pl B n k = pl B n (k + 1) := by
  unfold pl
  rw [show n - k = (n - (k + 1)) + 1 by omega]
  show (if k < n ∧ (B k = 32 ∨ B k = 10) then wsF B n (n - (k + 1)) (k + 1) else k) = _
  rw [if_pos h]
theorem pl_at {B : Int → Int} {n k : Nat} (h : ¬ (k < n ∧ (B k = 32 ∨ B k = 10))) : pl B n k = k := by
  unfold pl
  cases n - k with
  | zero => rfl
  | succ f =>
    show (if k < n ∧ (B k = 32 ∨ B k = 10) then wsF B n f (k + 1) else k) = _
    rw [if_neg h]
theorem R2.ws {v : Int → Int → Int} {B : Int → Int} {n k : Nat} (h : k < n ∧ (B k = 32 ∨ B k = 10)) (q : R2 v B n (k + 1)) : R2 v B n k := by
  have e := pl_pl h
  have e2 : tkA B n k = tkA B n (k + 1) := by unfold tkA; rw [e]
  unfold R2 nxT stT nuT at *
  rw [e, e2]
  exact ⟨q.1, q.2.1, q.2.2.1, q.2.2.2.1, q.2.2.2.2.1, by omega⟩
