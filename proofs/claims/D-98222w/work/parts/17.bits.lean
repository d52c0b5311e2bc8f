/-! ===== bits of numbers ===== -/
set_option maxRecDepth 100000
theorem jb_sh (k : Nat) (hk : k < 32) : ((Int32.ofInt (k : Int) &&& 31).toBitVec.smod 32).toNat = k := by
  have key : ∀ k : Fin 32, ((Int32.ofInt ((k.val : Nat) : Int) &&& 31).toBitVec.smod 32).toNat = k.val := by decide +kernel
  exact key ⟨k, hk⟩
theorem jb_shL (k : Nat) (hk : k < 64) : ((((Int32.ofInt (k : Int)).toInt64 &&& 63).toBitVec.smod 64)).toNat = k := by
  have key : ∀ k : Fin 64, ((((Int32.ofInt ((k.val : Nat) : Int)).toInt64 &&& 63).toBitVec.smod 64)).toNat = k.val := by decide +kernel
  exact key ⟨k, hk⟩
theorem jb_toInt {x : Int} (h : inI x) : (BitVec.ofInt 32 x).toInt = x := by
  have := Int32.toInt_ofInt_of_le (n := x) h.1 h.2
  exact this
/-- shifting right: division, downwards -/
theorem jshr_div {x k : Int} (hx : inI x) (h0 : 0 ≤ k) (h1 : k < 32) : jshr x k = x / 2 ^ k.toNat := by
  obtain ⟨n, rfl⟩ : ∃ n : Nat, k = (n : Int) := ⟨k.toNat, by omega⟩
  have q := jb_sh n (by omega)
  show (BitVec.sshiftRight' (BitVec.ofInt 32 x) ((Int32.ofInt (n : Int) &&& 31).toBitVec.smod 32)).toInt = _
  unfold BitVec.sshiftRight'
  rw [q, BitVec.toInt_sshiftRight, jb_toInt hx, Int.shiftRight_eq_div_pow]
  simp
theorem jb_nat {n : Nat} (h : n < 2147483648) : (BitVec.ofNat 32 n).toInt = n := by
  have := jb_toInt (x := (n : Int)) ⟨by omega, by omega⟩
  rwa [BitVec.ofInt_natCast] at this
theorem jand_nat {a b : Nat} (ha : a < 2147483648) (hb : b < 2147483648) : jand a b = ((a &&& b : Nat) : Int) := by
  show (BitVec.ofInt 32 (a : Int) &&& BitVec.ofInt 32 (b : Int)).toInt = _
  have hl : a &&& b ≤ a := Nat.and_le_left
  rw [BitVec.ofInt_natCast, BitVec.ofInt_natCast, ← BitVec.ofNat_and, jb_nat (by omega)]
theorem jor_nat {a b : Nat} (ha : a < 2147483648) (hb : b < 2147483648) : jor a b = ((a ||| b : Nat) : Int) := by
  show (BitVec.ofInt 32 (a : Int) ||| BitVec.ofInt 32 (b : Int)).toInt = _
  have hl : a ||| b < 2 ^ 31 := Nat.or_lt_two_pow ha hb
  rw [BitVec.ofInt_natCast, BitVec.ofInt_natCast, ← BitVec.ofNat_or, jb_nat (by omega)]
theorem jshl_1 {k : Int} (h0 : 0 ≤ k) (h1 : k < 31) : jshl 1 k = 2 ^ k.toNat := by
  obtain ⟨n, rfl⟩ : ∃ n : Nat, k = (n : Int) := ⟨k.toNat, by omega⟩
  have key : ∀ n : Fin 31, jshl 1 ((n.val : Nat) : Int) = 2 ^ (((n.val : Nat) : Int)).toNat := by decide +kernel
  exact key ⟨n, by omega⟩
/-- a remainder by a power of two -/
theorem jand_mask {x : Int} (n : Nat) (hn : n < 31) : jand x (((2 ^ n - 1 : Nat)) : Int) = x % 2 ^ n := by
  have hp : 0 < 2 ^ n := Nat.pow_pos (by omega)
  have hq : 2 ^ n ≤ 2 ^ 30 := Nat.pow_le_pow_right (by omega) (by omega)
  show (BitVec.ofInt 32 x &&& BitVec.ofInt 32 (((2 ^ n - 1 : Nat)) : Int)).toInt = _
  have e1 : BitVec.ofInt 32 x = BitVec.ofNat 32 (x % 4294967296).toNat := by
    apply BitVec.eq_of_toNat_eq
    have e0 : ((2 ^ 32 : Nat) : Int) = 4294967296 := by decide
    have e9 : (2 ^ 32 : Nat) = 4294967296 := by decide
    rw [BitVec.toNat_ofInt, BitVec.toNat_ofNat, e0, e9]
    omega
  rw [e1, BitVec.ofInt_natCast, ← BitVec.ofNat_and, Nat.and_two_pow_sub_one_eq_mod]
  have hl : (x % 4294967296).toNat % 2 ^ n < 2 ^ n := Nat.mod_lt _ hp
  rw [jb_nat (by omega)]
  have e2 : ((x % 4294967296).toNat : Int) = x % 4294967296 := by omega
  rw [Int.natCast_emod, e2]
  have e3 : ((2 ^ n : Nat) : Int) ∣ 4294967296 := by
    have : (4294967296 : Int) = ((2 ^ n * 2 ^ (32 - n) : Nat) : Int) := by rw [← Nat.pow_add, show n + (32 - n) = 32 by omega]; rfl
    rw [this, Int.natCast_mul]
    exact Int.dvd_mul_right _ _
  rw [Int.emod_emod_of_dvd _ e3]
  norm_cast
theorem jand_1 {x : Int} : jand x 1 = x % 2 := jand_mask 1 (by omega)
theorem jand_255 {x : Int} : jand x 255 = x % 256 := jand_mask 8 (by omega)
theorem jand_63 {x : Int} : jand x 63 = x % 64 := jand_mask 6 (by omega)
theorem jbyte_eq {x : Int} (hx : inI x) : jbyte x = x.bmod 256 := by
  unfold jbyte
  rw [Int8.toInt_toInt32, Int32.toInt_toInt8, Int32.toInt_ofInt_of_le hx.1 hx.2]
/-- whether a bit is set -/
def bit (s b : Int) : Prop := s / 2 ^ b.toNat % 2 = 1
theorem jbit {s b : Int} (hs : inI s) (h0 : 0 ≤ b) (h1 : b < 32) : jand (jshr s b) 1 = s / 2 ^ b.toNat % 2 := by
  rw [jshr_div hs h0 h1, jand_1]
