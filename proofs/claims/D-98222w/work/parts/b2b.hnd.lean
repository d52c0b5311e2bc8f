/-! ===== by hand: Throwable's constructor, Arrays.copyOf ===== -/
-- MODE N
set_option maxRecDepth 100000
/-- by hand, to come: Throwable's constructor, Arrays.copyOf -/
theorem xj_thrInit {g : jjG} {d : Nat} {T : jjT} {Q : jjQ} {v : Int → Int → Int} {a : Int} (h : jok T a 5 ∧ 400 ≤ a) (hQ : Q (.inl none) (v, T)) : jmet g (d + 6) 0 0 MJ10_init [vR a] (v, T) Q := sorry
theorem xj_copyOf {g : jjG} {d : Nat} {T : jjT} {Q : jjQ} {v : Int → Int → Int} {R n m : Int} (h : jok T R (-8) ∧ 400 ≤ R ∧ jln T R = n ∧ (0 ≤ n ∧ n ≤ m ∧ m ≤ 2000)) (hQ : Q (.inl (some (vR T.2))) (upA v T.2 (fun i => if 0 ≤ i ∧ i < n then v R i else 0), nt T (-8) m)) : jmet g (d + 6) 1 m.toNat MJ0_copyOf [vR R, vI m] (v, T) Q := sorry
