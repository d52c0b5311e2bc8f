/-! ===== orders and their numbers ===== -/
set_option maxRecDepth 100000
/-- skipping: what is used, how many are still to skip, where -/
def skF : Nat → Int → Int → Int → Int
  | 0, _, _, e => e
  | f + 1, u, k, e => if u / 2 ^ e.toNat % 2 = 1 then skF f u k (e + 1) else if 0 < k then skF f u (k - 1) (e + 1) else e
def skO : Nat → Int → Int → Int → Bool
  | 0, _, _, _ => false
  | f + 1, u, k, e => if u / 2 ^ e.toNat % 2 = 1 then skO f u k (e + 1) else if 0 < k then skO f u (k - 1) (e + 1) else true
/-- what is left of the number, what is used, behind some places -/
def dsF (m n : Int) : Nat → Int × Int
  | 0 => (n, 0)
  | p + 1 => ((dsF m n p).1 % fac (m - 1 - p), (dsF m n p).2 + 2 ^ (skF 8 (dsF m n p).2 ((dsF m n p).1 / fac (m - 1 - p)) 0).toNat)
def dec (m n p : Int) : Int := skF 8 (dsF m n p.toNat).2 ((dsF m n p.toNat).1 / fac (m - 1 - p)) 0
def decO (m n : Int) (p : Nat) : Bool := skO 8 (dsF m n p).2 ((dsF m n p).1 / fac (m - 1 - p)) 0 && decide (0 ≤ dec m n p) && decide (dec m n p < m) && decide (0 ≤ (dsF m n p).2) && decide ((dsF m n p).2 < 64) && decide (0 ≤ (dsF m n p).1) && decide ((dsF m n p).1 < 720) && decide ((dsF m n p).2 / 2 ^ (dec m n p).toNat % 2 = 0)
def decC (m : Nat) : Bool := (List.range (fac m).toNat).all fun n => (List.range m).all fun p => decO m n p
theorem decC_1 : ∀ m : Fin 7, decC m.val = true := by decide +kernel
theorem decO_ok {m n p : Int} (hm : 0 ≤ m ∧ m ≤ 6) (hn : 0 ≤ n ∧ n < fac m) (hp : 0 ≤ p ∧ p < m) : decO m n p.toNat = true := by
  have h := decC_1 ⟨m.toNat, by omega⟩
  have em : ((m.toNat : Nat) : Int) = m := by omega
  unfold decC at h
  dsimp only at h
  rw [em, List.all_eq_true] at h
  have h2 := h n.toNat (List.mem_range.2 (by omega))
  rw [List.all_eq_true] at h2
  have h3 := h2 p.toNat (List.mem_range.2 (by omega))
  rwa [show ((n.toNat : Nat) : Int) = n by omega] at h3
/-- the number of an order, its order -/
def oonO (m n : Nat) : Bool := decide (ooA (dec m n) m = n)
def oonC (m : Nat) : Bool := (List.range (fac m).toNat).all fun n => oonO m n
theorem oonC_1 : ∀ m : Fin 7, oonC m.val = true := by decide +kernel
theorem ooA_dec {m n : Int} (hm : 0 ≤ m ∧ m ≤ 6) (hn : 0 ≤ n ∧ n < fac m) : ooA (dec m n) m = n := by
  have h := oonC_1 ⟨m.toNat, by omega⟩
  have em : ((m.toNat : Nat) : Int) = m := by omega
  unfold oonC oonO at h
  dsimp only at h
  rw [em, List.all_eq_true] at h
  have h2 := h n.toNat (List.mem_range.2 (by omega))
  rw [show ((n.toNat : Nat) : Int) = n by omega] at h2
  exact of_decide_eq_true h2
/-- all orders -/
def prL (m : Nat) : Nat → List (List Nat)
  | 0 => [[]]
  | k + 1 => (prL m k).flatMap fun l => ((List.range m).filter fun x => !l.contains x).map fun x => l ++ [x]
def liF (l : List Nat) (i : Int) : Int := ((l.getD i.toNat 0 : Nat) : Int)
def prO (m : Nat) (l : List Nat) : Bool := decide (0 ≤ ooA (liF l) m) && decide (ooA (liF l) m < fac m) && (List.range m).all fun p => decide (dec m (ooA (liF l) m) p = liF l p)
def prC (m : Nat) : Bool := (prL m m).all fun l => prO m l
theorem prC_1 : ∀ m : Fin 7, prC m.val = true := by decide +kernel
