/-! ===== heaps array by array ===== -/
set_option maxRecDepth 100000
def up1 (f : Int → Int) (k z : Int) : Int → Int := fun i => if i = k then z else f i
def upA (v : Int → Int → Int) (a : Int) (f : Int → Int) : Int → Int → Int := fun b => if b = a then f else v b
section UA
variable {v : Int → Int → Int} {f f' : Int → Int} {a b k z k' z' : Int}
theorem up1_ap : up1 f k z k' = if k' = k then z else f k' := rfl
theorem up1_eq : up1 f k z k = z := if_pos rfl
theorem up1_ne (h : ¬ k' = k) : up1 f k z k' = f k' := if_neg h
theorem up1_same : up1 (up1 f k z) k z' = up1 f k z' := by
  funext i
  unfold up1
  split <;> rfl
theorem upA_eq : upA v a f a = f := if_pos rfl
theorem upA_ne (h : ¬ b = a) : upA v a f b = v b := if_neg h
theorem upA_same : upA (upA v a f) a f' = upA v a f' := by
  funext i
  unfold upA
  split <;> rfl
theorem upA_comm (h : b < a) : upA (upA v a f) b f' = upA (upA v b f') a f := by
  funext i
  unfold upA
  by_cases h1 : i = a
  · rw [if_pos h1, if_pos h1, if_neg (by omega)]
  · rw [if_neg h1, if_neg h1]
theorem upA_id : upA v a (v a) = v := by
  funext i
  unfold upA
  split
  · rename_i h; rw [h]
  · rfl
theorem up2_A : up2 v a k z = upA v a (up1 (v a) k z) := by
  funext i j
  unfold up2 upA up1
  by_cases h : i = a
  · subst h; simp
  · simp [h]
theorem PV.A (h : PV v) (hn : a ∉ pvA) : PV (upA v a f) := h.fr (fun b hb => upA_ne (fun e => hn (e ▸ hb)))
/-- the fixed references of an object -/
def twR (a : Int) (f : Int → Int) : Prop := ∀ q ∈ pvL, q.1 = a → f q.2.1 = q.2.2
theorem PV.r (h : PV v) : twR a (v a) := fun q hq e => e ▸ h q hq
theorem PV.F (h : PV v) (hf : twR a f) : PV (upA v a f) := fun q hq => by
  by_cases e : q.1 = a
  · rw [e, upA_eq]; exact hf q hq e
  · rw [upA_ne e]; exact h q hq
theorem twR.up (h : twR a f) (hn : ∀ q ∈ pvL, ¬ (q.1 = a ∧ q.2.1 = k)) : twR a (up1 f k z) := fun q hq e => by
  rw [up1_ne (fun e2 => hn q hq ⟨e, e2⟩)]
  exact h q hq e
end UA
-- BUNDLES
def jxs := (And.intro (And.intro (And.intro (And.intro (And.intro (And.intro (And.intro @jx_const (And.intro @jx_lconst @jx_null)) (And.intro @jx_refc (And.intro @jx_iload0 @jx_lload0))) (And.intro (And.intro @jx_aload0 (And.intro @jx_iinc0 @jx_iload1)) (And.intro (And.intro @jx_lload1 @jx_aload1) (And.intro @jx_iinc1 @jx_iload2)))) (And.intro (And.intro (And.intro @jx_lload2 (And.intro @jx_aload2 @jx_iinc2)) (And.intro @jx_iload3 (And.intro @jx_lload3 @jx_aload3))) (And.intro (And.intro @jx_iinc3 (And.intro @jx_iload4 @jx_lload4)) (And.intro (And.intro @jx_aload4 @jx_iinc4) (And.intro @jx_iload5 @jx_lload5))))) (And.intro (And.intro (And.intro (And.intro @jx_aload5 (And.intro @jx_iinc5 @jx_iload6)) (And.intro @jx_lload6 (And.intro @jx_aload6 @jx_iinc6))) (And.intro (And.intro @jx_iload7 (And.intro @jx_lload7 @jx_aload7)) (And.intro (And.intro @jx_iinc7 @jx_iload8) (And.intro @jx_lload8 @jx_aload8)))) (And.intro (And.intro (And.intro @jx_iinc8 (And.intro @jx_iload9 @jx_lload9)) (And.intro @jx_aload9 (And.intro @jx_iinc9 @jx_iload10))) (And.intro (And.intro @jx_lload10 (And.intro @jx_aload10 @jx_iinc10)) (And.intro (And.intro @jx_iload11 @jx_lload11) (And.intro @jx_aload11 @jx_iinc11)))))) (And.intro (And.intro (And.intro (And.intro (And.intro @jx_iload12 (And.intro @jx_lload12 @jx_aload12)) (And.intro @jx_iinc12 (And.intro @jx_iload13 @jx_lload13))) (And.intro (And.intro @jx_aload13 (And.intro @jx_iinc13 @jx_istore)) (And.intro (And.intro @jx_lstore @jx_astore) (And.intro @jx_iadd @jx_isub)))) (And.intro (And.intro (And.intro @jx_imul (And.intro @jx_ladd @jx_lsub)) (And.intro @jx_lmul (And.intro @jx_idiv @jx_irem))) (And.intro (And.intro @jx_ldiv (And.intro @jx_ineg @jx_lneg)) (And.intro (And.intro @jx_iand @jx_ior) (And.intro @jx_ixor @jx_ishl))))) (And.intro (And.intro (And.intro (And.intro @jx_ishr (And.intro @jx_iushr @jx_lor)) (And.intro @jx_lshl (And.intro @jx_lcmp @jx_i2l))) (And.intro (And.intro @jx_l2i (And.intro @jx_i2b @jx_i2c)) (And.intro (And.intro @jx_dupI @jx_popI) (And.intro @jx_dup2II @jx_dupx1II)))) (And.intro (And.intro (And.intro @jx_dup2IR (And.intro @jx_dupx1IR @jx_dupR)) (And.intro (And.intro @jx_popR @jx_dup2RI) (And.intro @jx_dupx1RI @jx_dup2RR))) (And.intro (And.intro @jx_dupx1RR (And.intro @jx_goto @jx_icmp_eq)) (And.intro (And.intro @jx_if_eq @jx_icmp_ne) (And.intro @jx_if_ne @jx_icmp_lt))))))) (And.intro (And.intro (And.intro (And.intro (And.intro (And.intro @jx_if_lt (And.intro @jx_icmp_ge @jx_if_ge)) (And.intro @jx_icmp_gt (And.intro @jx_if_gt @jx_icmp_le))) (And.intro (And.intro @jx_if_le (And.intro @jx_ifnull @jx_ifnonnull)) (And.intro (And.intro @jx_getfI @jx_getfL) (And.intro @jx_getfR @jx_putfI)))) (And.intro (And.intro (And.intro @jx_putfZ (And.intro @jx_putfL @jx_putfR)) (And.intro @jx_iald (And.intro @jx_bald @jx_zald))) (And.intro (And.intro @jx_lald (And.intro @jx_aald @jx_iast)) (And.intro (And.intro @jx_bast @jx_zast) (And.intro @jx_last @jx_aast))))) (And.intro (And.intro (And.intro (And.intro @jx_alen (And.intro @jx_new @jx_newarr)) (And.intro @jx_multi (And.intro @jx_cast @jx_any))) (And.intro (And.intro @jx_tsw (And.intro @jx_lsw @jx_acmp_eq)) (And.intro (And.intro @jx_acmp_ne @jx_acopyI) (And.intro @jx_acopyT @jx_ireturn)))) (And.intro (And.intro (And.intro @jx_zreturn (And.intro @jx_nreturn @jx_lreturn)) (And.intro @jx_areturn (And.intro @jx_return @jx_athrow))) (And.intro (And.intro @jx_jend (And.intro @jx_callS0 @jx_callS1)) (And.intro (And.intro @jx_callV1 @jx_callI1) (And.intro @jx_callS2 @jx_callV2)))))) (And.intro (And.intro (And.intro (And.intro (And.intro @jx_callI2 (And.intro @jx_callS3 @jx_callV3)) (And.intro @jx_callI3 (And.intro @jx_callS4 @jx_callV4))) (And.intro (And.intro @jx_callI4 (And.intro @jx_callS5 @jx_callV5)) (And.intro (And.intro @jx_callI5 @jx_callS6) (And.intro @jx_callV6 @jx_callI6)))) (And.intro (And.intro (And.intro @jx_callF2 (And.intro @jx_res1 @jx_res0)) (And.intro @jx_resx (And.intro @jx_clrN @jx_clrI))) (And.intro (And.intro @jx_clrR (And.intro @jx_clrL @jx_set1_0)) (And.intro (And.intro @jx_set2_0 @jx_set1_1) (And.intro @jx_set2_1 @jx_set1_2))))) (And.intro (And.intro (And.intro (And.intro @jx_set2_2 (And.intro @jx_set1_3 @jx_set2_3)) (And.intro @jx_set1_4 (And.intro @jx_set2_4 @jx_set1_5))) (And.intro (And.intro @jx_set2_5 (And.intro @jx_set1_6 @jx_set2_6)) (And.intro (And.intro @jx_set1_7 @jx_set2_7) (And.intro @jx_set1_8 @jx_set2_8)))) (And.intro (And.intro (And.intro @jx_set1_9 (And.intro @jx_set2_9 @jx_set1_10)) (And.intro (And.intro @jx_set2_10 @jx_set1_11) (And.intro @jx_set2_11 @jx_set1_12))) (And.intro (And.intro @jx_set2_12 (And.intro @jx_set1_13 @jx_set2_13)) (And.intro (And.intro @jx_wt0 @jx_wtI) (And.intro @jx_wtR @jx_wtL))))))))
def twT {T : jjT} (hT : PT T) := (And.intro (And.intro (And.intro (And.intro (And.intro (pt_539 hT) (pt_540 hT)) (And.intro (pl_540 hT) (And.intro (pt_541 hT) (pl_541 hT)))) (And.intro (And.intro (pt_542 hT) (And.intro (pl_542 hT) (pt_543 hT))) (And.intro (pl_543 hT) (And.intro (pt_544 hT) (pl_544 hT))))) (And.intro (And.intro (And.intro (pt_545 hT) (pl_545 hT)) (And.intro (pt_546 hT) (And.intro (pl_546 hT) (pt_547 hT)))) (And.intro (And.intro (pl_547 hT) (And.intro (pt_548 hT) (pl_548 hT))) (And.intro (pt_549 hT) (And.intro (pl_549 hT) (pt_550 hT)))))) (And.intro (And.intro (And.intro (And.intro (pl_550 hT) (pt_551 hT)) (And.intro (pl_551 hT) (And.intro (pt_552 hT) (pl_552 hT)))) (And.intro (And.intro (pt_553 hT) (And.intro (pl_553 hT) (pt_554 hT))) (And.intro (pl_554 hT) (And.intro (pt_555 hT) (pl_555 hT))))) (And.intro (And.intro (And.intro (pt_556 hT) (And.intro (pl_556 hT) (pt_557 hT))) (And.intro (pl_557 hT) (And.intro (pt_558 hT) (pl_558 hT)))) (And.intro (And.intro (pt_559 hT) (And.intro (pl_559 hT) (pt_560 hT))) (And.intro (pl_560 hT) (And.intro (pt_561 hT) (pl_561 hT)))))))
def twV {v : Int → Int → Int} (hV : PV v) := (And.intro (And.intro (And.intro (And.intro (pv_539_0 hV) (pv_539_1 hV)) (And.intro (pv_539_2 hV) (And.intro (pv_539_3 hV) (pv_539_16 hV)))) (And.intro (And.intro (pv_539_22 hV) (And.intro (pv_539_23 hV) (pv_539_24 hV))) (And.intro (pv_539_26 hV) (And.intro (pv_539_27 hV) (pv_539_29 hV))))) (And.intro (And.intro (And.intro (pv_539_30 hV) (pv_539_31 hV)) (And.intro (pv_539_32 hV) (And.intro (pv_539_33 hV) (pv_539_36 hV)))) (And.intro (And.intro (pv_539_37 hV) (And.intro (pv_539_38 hV) (pv_539_39 hV))) (And.intro (pv_539_40 hV) (And.intro (pv_539_41 hV) (pv_539_42 hV))))))
def xwT {T : jjT} (hT : PT T) := (And.intro (And.intro (And.intro (And.intro (And.intro (pt_400 hT) (And.intro (pt_401 hT) (pt_402 hT))) (And.intro (pl_402 hT) (And.intro (pt_403 hT) (pl_403 hT)))) (And.intro (And.intro (pt_404 hT) (And.intro (pl_404 hT) (pt_405 hT))) (And.intro (And.intro (pl_405 hT) (pt_416 hT)) (And.intro (pl_416 hT) (pt_429 hT))))) (And.intro (And.intro (And.intro (pl_429 hT) (And.intro (pt_460 hT) (pl_460 hT))) (And.intro (And.intro (pt_461 hT) (pt_462 hT)) (And.intro (pl_462 hT) (pt_463 hT)))) (And.intro (And.intro (pl_463 hT) (And.intro (pt_464 hT) (pl_464 hT))) (And.intro (And.intro (pt_465 hT) (pl_465 hT)) (And.intro (pt_476 hT) (pl_476 hT)))))) (And.intro (And.intro (And.intro (And.intro (pt_489 hT) (And.intro (pl_489 hT) (pt_520 hT))) (And.intro (And.intro (pl_520 hT) (pt_521 hT)) (And.intro (pl_521 hT) (pt_522 hT)))) (And.intro (And.intro (pl_522 hT) (And.intro (pt_523 hT) (pl_523 hT))) (And.intro (And.intro (pt_524 hT) (pl_524 hT)) (And.intro (pt_525 hT) (pl_525 hT))))) (And.intro (And.intro (And.intro (pt_526 hT) (And.intro (pl_526 hT) (pt_527 hT))) (And.intro (And.intro (pl_527 hT) (pt_528 hT)) (And.intro (pl_528 hT) (pt_529 hT)))) (And.intro (And.intro (pl_529 hT) (And.intro (pt_530 hT) (pl_530 hT))) (And.intro (And.intro (pt_537 hT) (pl_537 hT)) (And.intro (pt_538 hT) (pl_538 hT)))))))
def xwV {v : Int → Int → Int} (hV : PV v) := (And.intro (And.intro (And.intro (And.intro (pv_401_0 hV) (And.intro (pv_401_1 hV) (pv_401_2 hV))) (And.intro (And.intro (pv_401_3 hV) (pv_401_4 hV)) (And.intro (pv_401_5 hV) (pv_401_6 hV)))) (And.intro (And.intro (pv_461_0 hV) (And.intro (pv_461_1 hV) (pv_461_2 hV))) (And.intro (And.intro (pv_461_3 hV) (pv_461_4 hV)) (And.intro (pv_461_5 hV) (pv_461_6 hV))))) (And.intro (And.intro (And.intro (pv_400_0 hV) (And.intro (pv_400_1 hV) (pv_400_2 hV))) (And.intro (And.intro (pv_400_6 hV) (pv_400_7 hV)) (And.intro (pv_400_8 hV) (pv_400_9 hV)))) (And.intro (And.intro (pv_400_11 hV) (And.intro (pv_400_12 hV) (pv_400_15 hV))) (And.intro (And.intro (pv_400_16 hV) (pv_400_17 hV)) (And.intro (pv_400_18 hV) (pv_400_19 hV))))))
def hps := (And.intro (And.intro (And.intro @up2_A @upA_eq) (And.intro @upA_ne (And.intro @upA_same @upA_comm))) (And.intro (And.intro @up1_eq (And.intro @up1_ne @up1_same)) (And.intro @jb_eq0 (And.intro @jb_ne0 @jb_eq1))))
