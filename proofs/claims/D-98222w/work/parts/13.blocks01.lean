/-! blocks of the methods and their soundness -/
set_option maxRecDepth 100000
def bJ0_fill : jjB := fun e K k => match k with
  | 0 => (ji_const 0 (ji_istore 2 (ji_aload 0 (ji_alen (-1) (ji_istore 3 (K 1))))))
  | 1 => (ji_iload 2 (ji_iload 3 (ji_icmp_ge (ji_return e)
    (ji_aload 0 (ji_iload 2 (ji_iload 1 (ji_iast (ji_iinc 2 1 (ji_goto (K 1))))))))))
  | _ => fun _ _ _ _ _ => False
def pJ0_fill : Nat → Nat := fun k => match k with
  | 0 => 0
  | 1 => 5
  | _ => 0
theorem sJ0_fill : jSound bJ0_fill pJ0_fill MJ0_fill := by
  intro e p ev R s m args below meth c hX hr hn hlk K hK k
  match k with
  | 0 => exact (js_const hX (z := 0) (by unfold inI; omega) dJ0_fill_0 (Or.inl ⟨0, rfl, rfl, rfl⟩) (js_istore_n hX dJ0_fill_1 rfl (by decide) (js_aload_n hX dJ0_fill_2 rfl (js_alen hX (cd := (-1)) (by decide) dJ0_fill_3 (js_istore_n hX dJ0_fill_4 rfl (by decide) (hK 1))))))
  | 1 => exact (js_iload_n hX dJ0_fill_5 rfl (js_iload_n hX dJ0_fill_6 rfl (js_icmp_ge hX (tgt := 20) dJ0_fill_7 rfl (js_return hX hr hlk dJ0_fill_20)
    (js_aload_n hX dJ0_fill_10 rfl (js_iload_n hX dJ0_fill_11 rfl (js_iload_n hX dJ0_fill_12 rfl (js_iast hX dJ0_fill_13 (js_iinc hX dJ0_fill_14 (by decide) (js_goto hX (tgt := 5) dJ0_fill_17 rfl (hK 1))))))))))
  | k + 2 => intro ls st h nc ns hf; exact hf.elim
def bJ0_fill_2 : jjB := fun e K k => match k with
  | 0 => (ji_aload 0 (ji_alen (-1) (ji_iload 1 (ji_iload 2 (ji_callS e MJ0_rangeCheck 3 (ji_iload 1 (ji_istore 4 (K 1))))))))
  | 1 => (ji_iload 4 (ji_iload 2 (ji_icmp_ge (ji_return e)
    (ji_aload 0 (ji_iload 4 (ji_iload 3 (ji_iast (ji_iinc 4 1 (ji_goto (K 1))))))))))
  | _ => fun _ _ _ _ _ => False
def pJ0_fill_2 : Nat → Nat := fun k => match k with
  | 0 => 0
  | 1 => 10
  | _ => 0
theorem sJ0_fill_2 : jSound bJ0_fill_2 pJ0_fill_2 MJ0_fill_2 := by
  intro e p ev R s m args below meth c hX hr hn hlk K hK k
  match k with
  | 0 => exact (js_aload_n hX dJ0_fill_2_0 rfl (js_alen hX (cd := (-1)) (by decide) dJ0_fill_2_1 (js_iload_n hX dJ0_fill_2_2 rfl (js_iload_n hX dJ0_fill_2_3 rfl (js_callS hX MJ0_rangeCheck (n := 3) (lw_S q208 q209 q154 q210) npJ0_rangeCheck dJ0_fill_2_4 (js_iload_n hX dJ0_fill_2_7 rfl (js_istore hX dJ0_fill_2_8 (by decide) (hK 1))))))))
  | 1 => exact (js_iload hX dJ0_fill_2_10 (js_iload_n hX dJ0_fill_2_12 rfl (js_icmp_ge hX (tgt := 27) dJ0_fill_2_13 rfl (js_return hX hr hlk dJ0_fill_2_27)
    (js_aload_n hX dJ0_fill_2_16 rfl (js_iload hX dJ0_fill_2_17 (js_iload_n hX dJ0_fill_2_19 rfl (js_iast hX dJ0_fill_2_20 (js_iinc hX dJ0_fill_2_21 (by decide) (js_goto hX (tgt := 10) dJ0_fill_2_24 rfl (hK 1))))))))))
  | k + 2 => intro ls st h nc ns hf; exact hf.elim
def bJ0_rangeCheck : jjB := fun e K k => match k with
  | 0 => (ji_iload 1 (ji_iload 2 (ji_icmp_le (ji_iload 1 (ji_if_ge (ji_iload 2 (ji_iload 0 (ji_icmp_le (ji_return e)
    ji_stop)))
    ji_stop))
    ji_stop)))
  | _ => fun _ _ _ _ _ => False
def pJ0_rangeCheck : Nat → Nat := fun k => match k with
  | 0 => 0
  | _ => 0
theorem sJ0_rangeCheck : jSound bJ0_rangeCheck pJ0_rangeCheck MJ0_rangeCheck := by
  intro e p ev R s m args below meth c hX hr hn hlk K hK k
  match k with
  | 0 => exact (js_iload_n hX dJ0_rangeCheck_0 rfl (js_iload_n hX dJ0_rangeCheck_1 rfl (js_icmp_le hX (tgt := 46) dJ0_rangeCheck_2 rfl (js_iload_n hX dJ0_rangeCheck_46 rfl (js_if_ge hX (tgt := 59) dJ0_rangeCheck_47 rfl (js_iload_n hX dJ0_rangeCheck_59 rfl (js_iload_n hX dJ0_rangeCheck_60 rfl (js_icmp_le hX (tgt := 73) dJ0_rangeCheck_61 rfl (js_return hX hr hlk dJ0_rangeCheck_73)
    js_stop)))
    js_stop))
    js_stop)))
  | k + 1 => intro ls st h nc ns hf; exact hf.elim
def bJ1_checkIndex : jjB := fun e K k => match k with
  | 0 => (ji_iload 0 (ji_iload 1 (ji_null (ji_callS e MJ2_checkIndex 3 (ji_ireturn e)))))
  | _ => fun _ _ _ _ _ => False
def pJ1_checkIndex : Nat → Nat := fun k => match k with
  | 0 => 0
  | _ => 0
theorem sJ1_checkIndex : jSound bJ1_checkIndex pJ1_checkIndex MJ1_checkIndex := by
  intro e p ev R s m args below meth c hX hr hn hlk K hK k
  match k with
  | 0 => exact (js_iload_n hX dJ1_checkIndex_0 rfl (js_iload_n hX dJ1_checkIndex_1 rfl (js_null hX dJ1_checkIndex_2 (js_callS hX MJ2_checkIndex (n := 3) (lw_S q399 q400 q158 q401) npJ2_checkIndex dJ1_checkIndex_3 (js_ireturn hX hr hlk dJ1_checkIndex_6)))))
  | k + 1 => intro ls st h nc ns hf; exact hf.elim
def bJ11_init : jjB := fun e K k => match k with
  | 0 => (ji_aload 0 (ji_callI e MJ10_init 1 (ji_return e)))
  | _ => fun _ _ _ _ _ => False
def pJ11_init : Nat → Nat := fun k => match k with
  | 0 => 0
  | _ => 0
theorem sJ11_init : jSound bJ11_init pJ11_init MJ11_init := by
  intro e p ev R s m args below meth c hX hr hn hlk K hK k
  match k with
  | 0 => exact (js_aload_n hX dJ11_init_0 rfl (js_callI hX MJ10_init (n := 0) q657 q635 q168 (lw_meth q636) rfl rfl npJ10_init dJ11_init_1 (js_return hX hr hlk dJ11_init_4)))
  | k + 1 => intro ls st h nc ns hf; exact hf.elim
def bJ12_init : jjB := fun e K k => match k with
  | 0 => (ji_aload 0 (ji_callI e MJ16_init 1 (ji_return e)))
  | _ => fun _ _ _ _ _ => False
def pJ12_init : Nat → Nat := fun k => match k with
  | 0 => 0
  | _ => 0
theorem sJ12_init : jSound bJ12_init pJ12_init MJ12_init := by
  intro e p ev R s m args below meth c hX hr hn hlk K hK k
  match k with
  | 0 => exact (js_aload_n hX dJ12_init_0 rfl (js_callI hX MJ16_init (n := 0) q716 q190 q2033 (lw_meth q191) rfl rfl npJ16_init dJ12_init_1 (js_return hX hr hlk dJ12_init_4)))
  | k + 1 => intro ls st h nc ns hf; exact hf.elim
def bJ13_init : jjB := fun e K k => match k with
  | 0 => (ji_aload 0 (ji_callI e MJ16_init 1 (ji_return e)))
  | _ => fun _ _ _ _ _ => False
def pJ13_init : Nat → Nat := fun k => match k with
  | 0 => 0
  | _ => 0
theorem sJ13_init : jSound bJ13_init pJ13_init MJ13_init := by
  intro e p ev R s m args below meth c hX hr hn hlk K hK k
  match k with
  | 0 => exact (js_aload_n hX dJ13_init_0 rfl (js_callI hX MJ16_init (n := 0) q812 q190 q2033 (lw_meth q191) rfl rfl npJ16_init dJ13_init_1 (js_return hX hr hlk dJ13_init_4)))
  | k + 1 => intro ls st h nc ns hf; exact hf.elim
def bJ14_intValue : jjB := fun e K k => match k with
  | 0 => (ji_aload 0 (ji_getfI 15 0 (ji_ireturn e)))
  | _ => fun _ _ _ _ _ => False
def pJ14_intValue : Nat → Nat := fun k => match k with
  | 0 => 0
  | _ => 0
theorem sJ14_intValue : jSound bJ14_intValue pJ14_intValue MJ14_intValue := by
  intro e p ev R s m args below meth c hX hr hn hlk K hK k
  match k with
  | 0 => exact (js_aload_n hX dJ14_intValue_0 rfl (js_getfI hX (ci := 15) (k := 0) (RJ14, TJ14, 1) rfl (by decide) rfl (Or.inl q813) (fun _ h => h) dJ14_intValue_1 (js_ireturn hX hr hlk dJ14_intValue_4)))
  | k + 1 => intro ls st h nc ns hf; exact hf.elim
def bJ14_valueOf : jjB := fun e K k => match k with
  | 0 => (ji_iload 0 (ji_const (-128) (ji_icmp_lt (K 1)
    (ji_iload 0 (ji_const 127 (ji_icmp_gt (K 1)
    (ji_refc 6 (ji_iload 0 (ji_const 128 (ji_iadd (ji_aald (-10) (ji_areturn e))))))))))))
  | 1 => (ji_new e 15 1 (ji_dup (ji_iload 0 (ji_callI e MJ14_init 2 (ji_areturn e)))))
  | _ => fun _ _ _ _ _ => False
def pJ14_valueOf : Nat → Nat := fun k => match k with
  | 0 => 0
  | 1 => 23
  | _ => 0
theorem sJ14_valueOf : jSound bJ14_valueOf pJ14_valueOf MJ14_valueOf := by
  intro e p ev R s m args below meth c hX hr hn hlk K hK k
  match k with
  | 0 => exact (js_iload_n hX dJ14_valueOf_0 rfl (js_const hX (z := (-128)) (by unfold inI; omega) dJ14_valueOf_1 (Or.inr (Or.inl ⟨(-128), rfl, rfl, rfl⟩)) (js_icmp_lt hX (tgt := 23) dJ14_valueOf_3 rfl (hK 1)
    (js_iload_n hX dJ14_valueOf_6 rfl (js_getsI hX (z := 127) (by unfold inI; omega) (by simp [jst]) q800 (fun _ h => h) dJ14_valueOf_7 (js_icmp_gt hX (tgt := 23) dJ14_valueOf_10 rfl (hK 1)
    (js_getsR hX (z := 6) (by decide) (by simp [jst]) q802 (fun _ h => h) dJ14_valueOf_13 (js_iload_n hX dJ14_valueOf_16 rfl (js_const hX (z := 128) (by unfold inI; omega) dJ14_valueOf_17 (Or.inr (Or.inr (Or.inl ⟨128, rfl, rfl, rfl⟩))) (js_iadd hX dJ14_valueOf_20 (js_aald hX (cd := (-10)) (by decide) rfl rfl dJ14_valueOf_21 (js_areturn hX hr (by first | exact Or.inl ⟨_, rfl⟩ | exact Or.inr ⟨_, rfl⟩) hlk dJ14_valueOf_22))))))))))))
  | 1 => exact (js_new hX (ci := 15) (RJ14, TJ14, 1) rfl (by decide) q804 q805 q178 dJ14_valueOf_23 (js_dup hX dJ14_valueOf_26 (js_iload_n hX dJ14_valueOf_27 rfl (js_callI hX MJ14_init (n := 1) q806 q807 q178 (lw_meth q808) rfl rfl npJ14_init dJ14_valueOf_28 (js_areturn hX hr (by first | exact Or.inl ⟨_, rfl⟩ | exact Or.inr ⟨_, rfl⟩) hlk dJ14_valueOf_31)))))
  | k + 2 => intro ls st h nc ns hf; exact hf.elim
def bJ14_init : jjB := fun e K k => match k with
  | 0 => (ji_aload 0 (ji_callI e MJ13_init 1 (ji_aload 0 (ji_iload 1 (ji_putfI 15 0 (ji_return e))))))
  | _ => fun _ _ _ _ _ => False
def pJ14_init : Nat → Nat := fun k => match k with
  | 0 => 0
  | _ => 0
theorem sJ14_init : jSound bJ14_init pJ14_init MJ14_init := by
  intro e p ev R s m args below meth c hX hr hn hlk K hK k
  match k with
  | 0 => exact (js_aload_n hX dJ14_init_0 rfl (js_callI hX MJ13_init (n := 0) q809 q810 q177 (lw_meth q811) rfl rfl npJ13_init dJ14_init_1 (js_aload_n hX dJ14_init_4 rfl (js_iload_n hX dJ14_init_5 rfl (js_putfI hX (ci := 15) (k := 0) (RJ14, TJ14, 1) rfl (by decide) rfl (Or.inl q813) (fun _ h => h) (Or.inr ⟨rfl, hn, rfl, q813⟩) dJ14_init_6 (js_return hX hr hlk dJ14_init_9))))))
  | k + 1 => intro ls st h nc ns hf; exact hf.elim
def bJ14_bitCount : jjB := fun e K k => match k with
  | 0 => (ji_iload 0 (ji_iload 0 (ji_const 1 (ji_iushr (ji_const 1431655765 (ji_iand (ji_isub (ji_istore 0 (ji_iload 0 (ji_const 858993459 (ji_iand (ji_iload 0 (ji_const 2 (ji_iushr (ji_const 858993459 (ji_iand (ji_iadd (ji_istore 0 (ji_iload 0 (ji_iload 0 (ji_const 4 (ji_iushr (ji_iadd (ji_const 252645135 (ji_iand (ji_istore 0 (ji_iload 0 (ji_iload 0 (ji_const 8 (ji_iushr (ji_iadd (ji_istore 0 (ji_iload 0 (ji_iload 0 (ji_const 16 (ji_iushr (ji_iadd (ji_istore 0 (ji_iload 0 (ji_const 63 (ji_iand (ji_ireturn e))))))))))))))))))))))))))))))))))))))))))
  | _ => fun _ _ _ _ _ => False
def pJ14_bitCount : Nat → Nat := fun k => match k with
  | 0 => 0
  | _ => 0
theorem sJ14_bitCount : jSound bJ14_bitCount pJ14_bitCount MJ14_bitCount := by
  intro e p ev R s m args below meth c hX hr hn hlk K hK k
  match k with
  | 0 => exact (js_iload_n hX dJ14_bitCount_0 rfl (js_iload_n hX dJ14_bitCount_1 rfl (js_const hX (z := 1) (by unfold inI; omega) dJ14_bitCount_2 (Or.inl ⟨1, rfl, rfl, rfl⟩) (js_iushr hX dJ14_bitCount_3 (js_const hX (z := 1431655765) (by unfold inI; omega) dJ14_bitCount_4 (Or.inr (Or.inr (Or.inr (Or.inr ⟨265, rfl, rfl, q1181⟩)))) (js_iand hX dJ14_bitCount_7 (js_isub hX dJ14_bitCount_8 (js_istore_n hX dJ14_bitCount_9 rfl (by decide) (js_iload_n hX dJ14_bitCount_10 rfl (js_const hX (z := 858993459) (by unfold inI; omega) dJ14_bitCount_11 (Or.inr (Or.inr (Or.inr (Or.inr ⟨266, rfl, rfl, q1182⟩)))) (js_iand hX dJ14_bitCount_14 (js_iload_n hX dJ14_bitCount_15 rfl (js_const hX (z := 2) (by unfold inI; omega) dJ14_bitCount_16 (Or.inl ⟨2, rfl, rfl, rfl⟩) (js_iushr hX dJ14_bitCount_17 (js_const hX (z := 858993459) (by unfold inI; omega) dJ14_bitCount_18 (Or.inr (Or.inr (Or.inr (Or.inr ⟨266, rfl, rfl, q1182⟩)))) (js_iand hX dJ14_bitCount_21 (js_iadd hX dJ14_bitCount_22 (js_istore_n hX dJ14_bitCount_23 rfl (by decide) (js_iload_n hX dJ14_bitCount_24 rfl (js_iload_n hX dJ14_bitCount_25 rfl (js_const hX (z := 4) (by unfold inI; omega) dJ14_bitCount_26 (Or.inl ⟨4, rfl, rfl, rfl⟩) (js_iushr hX dJ14_bitCount_27 (js_iadd hX dJ14_bitCount_28 (js_const hX (z := 252645135) (by unfold inI; omega) dJ14_bitCount_29 (Or.inr (Or.inr (Or.inr (Or.inr ⟨267, rfl, rfl, q1183⟩)))) (js_iand hX dJ14_bitCount_32 (js_istore_n hX dJ14_bitCount_33 rfl (by decide) (js_iload_n hX dJ14_bitCount_34 rfl (js_iload_n hX dJ14_bitCount_35 rfl (js_const hX (z := 8) (by unfold inI; omega) dJ14_bitCount_36 (Or.inr (Or.inl ⟨8, rfl, rfl, rfl⟩)) (js_iushr hX dJ14_bitCount_38 (js_iadd hX dJ14_bitCount_39 (js_istore_n hX dJ14_bitCount_40 rfl (by decide) (js_iload_n hX dJ14_bitCount_41 rfl (js_iload_n hX dJ14_bitCount_42 rfl (js_const hX (z := 16) (by unfold inI; omega) dJ14_bitCount_43 (Or.inr (Or.inl ⟨16, rfl, rfl, rfl⟩)) (js_iushr hX dJ14_bitCount_45 (js_iadd hX dJ14_bitCount_46 (js_istore_n hX dJ14_bitCount_47 rfl (by decide) (js_iload_n hX dJ14_bitCount_48 rfl (js_const hX (z := 63) (by unfold inI; omega) dJ14_bitCount_49 (Or.inr (Or.inl ⟨63, rfl, rfl, rfl⟩)) (js_iand hX dJ14_bitCount_51 (js_ireturn hX hr hlk dJ14_bitCount_52))))))))))))))))))))))))))))))))))))))))))
  | k + 1 => intro ls st h nc ns hf; exact hf.elim
def bJ15_newLength : jjB := fun e K k => match k with
  | 0 => (ji_iload 0 (ji_iload 1 (ji_iload 2 (ji_callS e MJ3_max_2 2 (ji_iadd (ji_istore 3 (ji_const 0 (ji_iload 3 (ji_icmp_ge (K 1)
    (ji_iload 3 (ji_const 2147483639 (ji_icmp_gt (K 1)
    (ji_iload 3 (ji_ireturn e))))))))))))))
  | 1 => (ji_iload 0 (ji_iload 1 (ji_callS e MJ15_hugeLength 2 (ji_ireturn e))))
  | _ => fun _ _ _ _ _ => False
def pJ15_newLength : Nat → Nat := fun k => match k with
  | 0 => 0
  | 1 => 21
  | _ => 0
theorem sJ15_newLength : jSound bJ15_newLength pJ15_newLength MJ15_newLength := by
  intro e p ev R s m args below meth c hX hr hn hlk K hK k
  match k with
  | 0 => exact (js_iload_n hX dJ15_newLength_0 rfl (js_iload_n hX dJ15_newLength_1 rfl (js_iload_n hX dJ15_newLength_2 rfl (js_callS hX MJ3_max_2 (n := 2) (lw_S q836 q837 q159 q838) npJ3_max_2 dJ15_newLength_3 (js_iadd hX dJ15_newLength_6 (js_istore_n hX dJ15_newLength_7 rfl (by decide) (js_const hX (z := 0) (by unfold inI; omega) dJ15_newLength_8 (Or.inl ⟨0, rfl, rfl, rfl⟩) (js_iload_n hX dJ15_newLength_9 rfl (js_icmp_ge hX (tgt := 21) dJ15_newLength_10 rfl (hK 1)
    (js_iload_n hX dJ15_newLength_13 rfl (js_const hX (z := 2147483639) (by unfold inI; omega) dJ15_newLength_14 (Or.inr (Or.inr (Or.inr (Or.inl ⟨200, rfl, rfl, q839⟩)))) (js_icmp_gt hX (tgt := 21) dJ15_newLength_16 rfl (hK 1)
    (js_iload_n hX dJ15_newLength_19 rfl (js_ireturn hX hr hlk dJ15_newLength_20))))))))))))))
  | 1 => exact (js_iload_n hX dJ15_newLength_21 rfl (js_iload_n hX dJ15_newLength_22 rfl (js_callS hX MJ15_hugeLength (n := 2) (lw_S q840 q841 q180 q842) npJ15_hugeLength dJ15_newLength_23 (js_ireturn hX hr hlk dJ15_newLength_26))))
  | k + 2 => intro ls st h nc ns hf; exact hf.elim
def bJ15_hugeLength : jjB := fun e K k => match k with
  | 0 => (ji_iload 0 (ji_iload 1 (ji_iadd (ji_istore 2 (ji_iload 2 (ji_if_ge (ji_iload 2 (ji_const 2147483639 (ji_icmp_gt (ji_iload 2 (ji_ireturn e))
    (ji_const 2147483639 (ji_ireturn e)))))
    ji_stop))))))
  | _ => fun _ _ _ _ _ => False
def pJ15_hugeLength : Nat → Nat := fun k => match k with
  | 0 => 0
  | _ => 0
theorem sJ15_hugeLength : jSound bJ15_hugeLength pJ15_hugeLength MJ15_hugeLength := by
  intro e p ev R s m args below meth c hX hr hn hlk K hK k
  match k with
  | 0 => exact (js_iload_n hX dJ15_hugeLength_0 rfl (js_iload_n hX dJ15_hugeLength_1 rfl (js_iadd hX dJ15_hugeLength_2 (js_istore_n hX dJ15_hugeLength_3 rfl (by decide) (js_iload_n hX dJ15_hugeLength_4 rfl (js_if_ge hX (tgt := 49) dJ15_hugeLength_5 rfl (js_iload_n hX dJ15_hugeLength_49 rfl (js_const hX (z := 2147483639) (by unfold inI; omega) dJ15_hugeLength_50 (Or.inr (Or.inr (Or.inr (Or.inl ⟨200, rfl, rfl, q839⟩)))) (js_icmp_gt hX (tgt := 58) dJ15_hugeLength_52 rfl (js_iload_n hX dJ15_hugeLength_58 rfl (js_ireturn hX hr hlk dJ15_hugeLength_59))
    (js_const hX (z := 2147483639) (by unfold inI; omega) dJ15_hugeLength_55 (Or.inr (Or.inr (Or.inr (Or.inl ⟨200, rfl, rfl, q839⟩)))) (js_ireturn hX hr hlk dJ15_hugeLength_57)))))
    js_stop))))))
  | k + 1 => intro ls st h nc ns hf; exact hf.elim
def bJ16_init : jjB := fun e K k => match k with
  | 0 => (ji_return e)
  | _ => fun _ _ _ _ _ => False
def pJ16_init : Nat → Nat := fun k => match k with
  | 0 => 0
  | _ => 0
theorem sJ16_init : jSound bJ16_init pJ16_init MJ16_init := by
  intro e p ev R s m args below meth c hX hr hn hlk K hK k
  match k with
  | 0 => exact (js_return hX hr hlk dJ16_init_0)
  | k + 1 => intro ls st h nc ns hf; exact hf.elim
def bJ2_checkIndex : jjB := fun e K k => match k with
  | 0 => (ji_iload 0 (ji_if_lt (K 1)
    (ji_iload 0 (ji_iload 1 (ji_icmp_lt (ji_iload 0 (ji_ireturn e))
    (K 1))))))
  | 1 => ji_stop
  | _ => fun _ _ _ _ _ => False
def pJ2_checkIndex : Nat → Nat := fun k => match k with
  | 0 => 0
  | 1 => 9
  | _ => 0
theorem sJ2_checkIndex : jSound bJ2_checkIndex pJ2_checkIndex MJ2_checkIndex := by
  intro e p ev R s m args below meth c hX hr hn hlk K hK k
  match k with
  | 0 => exact (js_iload_n hX dJ2_checkIndex_0 rfl (js_if_lt hX (tgt := 9) dJ2_checkIndex_1 rfl (hK 1)
    (js_iload_n hX dJ2_checkIndex_4 rfl (js_iload_n hX dJ2_checkIndex_5 rfl (js_icmp_lt hX (tgt := 16) dJ2_checkIndex_6 rfl (js_iload_n hX dJ2_checkIndex_16 rfl (js_ireturn hX hr hlk dJ2_checkIndex_17))
    (hK 1))))))
  | 1 => exact js_stop
  | k + 2 => intro ls st h nc ns hf; exact hf.elim
def bJ3_min : jjB := fun e K k => match k with
  | 0 => (ji_lload 0 (ji_lload 2 (ji_lcmp (ji_if_gt (ji_lload 2 (K 1))
    (ji_lload 0 (ji_goto (K 1)))))))
  | 1 => (ji_lreturn e)
  | _ => fun _ _ _ _ _ => False
def pJ3_min : Nat → Nat := fun k => match k with
  | 0 => 0
  | 1 => 11
  | _ => 0
theorem sJ3_min : jSound bJ3_min pJ3_min MJ3_min := by
  intro e p ev R s m args below meth c hX hr hn hlk K hK k
  match k with
  | 0 => exact (js_lload_n hX dJ3_min_0 rfl (js_lload_n hX dJ3_min_1 rfl (js_lcmp hX dJ3_min_2 (js_if_gt hX (tgt := 10) dJ3_min_3 rfl (js_lload_n hX dJ3_min_10 rfl (hK 1))
    (js_lload_n hX dJ3_min_6 rfl (js_goto hX (tgt := 11) dJ3_min_7 rfl (hK 1)))))))
  | 1 => exact (js_lreturn hX hr hlk dJ3_min_11)
  | k + 2 => intro ls st h nc ns hf; exact hf.elim
def bJ3_max : jjB := fun e K k => match k with
  | 0 => (ji_lload 0 (ji_lload 2 (ji_lcmp (ji_if_lt (ji_lload 2 (K 1))
    (ji_lload 0 (ji_goto (K 1)))))))
  | 1 => (ji_lreturn e)
  | _ => fun _ _ _ _ _ => False
def pJ3_max : Nat → Nat := fun k => match k with
  | 0 => 0
  | 1 => 11
  | _ => 0
theorem sJ3_max : jSound bJ3_max pJ3_max MJ3_max := by
  intro e p ev R s m args below meth c hX hr hn hlk K hK k
  match k with
  | 0 => exact (js_lload_n hX dJ3_max_0 rfl (js_lload_n hX dJ3_max_1 rfl (js_lcmp hX dJ3_max_2 (js_if_lt hX (tgt := 10) dJ3_max_3 rfl (js_lload_n hX dJ3_max_10 rfl (hK 1))
    (js_lload_n hX dJ3_max_6 rfl (js_goto hX (tgt := 11) dJ3_max_7 rfl (hK 1)))))))
  | 1 => exact (js_lreturn hX hr hlk dJ3_max_11)
  | k + 2 => intro ls st h nc ns hf; exact hf.elim
def bJ3_min_2 : jjB := fun e K k => match k with
  | 0 => (ji_iload 0 (ji_iload 1 (ji_icmp_gt (ji_iload 1 (K 1))
    (ji_iload 0 (ji_goto (K 1))))))
  | 1 => (ji_ireturn e)
  | _ => fun _ _ _ _ _ => False
def pJ3_min_2 : Nat → Nat := fun k => match k with
  | 0 => 0
  | 1 => 10
  | _ => 0
theorem sJ3_min_2 : jSound bJ3_min_2 pJ3_min_2 MJ3_min_2 := by
  intro e p ev R s m args below meth c hX hr hn hlk K hK k
  match k with
  | 0 => exact (js_iload_n hX dJ3_min_2_0 rfl (js_iload_n hX dJ3_min_2_1 rfl (js_icmp_gt hX (tgt := 9) dJ3_min_2_2 rfl (js_iload_n hX dJ3_min_2_9 rfl (hK 1))
    (js_iload_n hX dJ3_min_2_5 rfl (js_goto hX (tgt := 10) dJ3_min_2_6 rfl (hK 1))))))
  | 1 => exact (js_ireturn hX hr hlk dJ3_min_2_10)
  | k + 2 => intro ls st h nc ns hf; exact hf.elim
def bJ3_max_2 : jjB := fun e K k => match k with
  | 0 => (ji_iload 0 (ji_iload 1 (ji_icmp_lt (ji_iload 1 (K 1))
    (ji_iload 0 (ji_goto (K 1))))))
  | 1 => (ji_ireturn e)
  | _ => fun _ _ _ _ _ => False
def pJ3_max_2 : Nat → Nat := fun k => match k with
  | 0 => 0
  | 1 => 10
  | _ => 0
theorem sJ3_max_2 : jSound bJ3_max_2 pJ3_max_2 MJ3_max_2 := by
  intro e p ev R s m args below meth c hX hr hn hlk K hK k
  match k with
  | 0 => exact (js_iload_n hX dJ3_max_2_0 rfl (js_iload_n hX dJ3_max_2_1 rfl (js_icmp_lt hX (tgt := 9) dJ3_max_2_2 rfl (js_iload_n hX dJ3_max_2_9 rfl (hK 1))
    (js_iload_n hX dJ3_max_2_5 rfl (js_goto hX (tgt := 10) dJ3_max_2_6 rfl (hK 1))))))
  | 1 => exact (js_ireturn hX hr hlk dJ3_max_2_10)
  | k + 2 => intro ls st h nc ns hf; exact hf.elim
def bJ4_init : jjB := fun e K k => match k with
  | 0 => (ji_aload 0 (ji_callI e MJ16_init 1 (ji_return e)))
  | _ => fun _ _ _ _ _ => False
def pJ4_init : Nat → Nat := fun k => match k with
  | 0 => 0
  | _ => 0
theorem sJ4_init : jSound bJ4_init pJ4_init MJ4_init := by
  intro e p ev R s m args below meth c hX hr hn hlk K hK k
  match k with
  | 0 => exact (js_aload_n hX dJ4_init_0 rfl (js_callI hX MJ16_init (n := 0) q502 q190 q2033 (lw_meth q191) rfl rfl npJ16_init dJ4_init_1 (js_return hX hr hlk dJ4_init_4)))
  | k + 1 => intro ls st h nc ns hf; exact hf.elim
def bJ5_init : jjB := fun e K k => match k with
  | 0 => (ji_aload 0 (ji_callI e MJ4_init 1 (ji_aload 0 (ji_const 0 (ji_putfI 14 0 (ji_return e))))))
  | _ => fun _ _ _ _ _ => False
def pJ5_init : Nat → Nat := fun k => match k with
  | 0 => 0
  | _ => 0
theorem sJ5_init : jSound bJ5_init pJ5_init MJ5_init := by
  intro e p ev R s m args below meth c hX hr hn hlk K hK k
  match k with
  | 0 => exact (js_aload_n hX dJ5_init_0 rfl (js_callI hX MJ4_init (n := 0) q499 q500 q162 (lw_meth q501) rfl rfl npJ4_init dJ5_init_1 (js_aload_n hX dJ5_init_4 rfl (js_const hX (z := 0) (by unfold inI; omega) dJ5_init_5 (Or.inl ⟨0, rfl, rfl, rfl⟩) (js_putfI hX (ci := 14) (k := 0) (RJ6, TJ6, 3) rfl (by decide) rfl (Or.inl q507) (fun _ h => h) (Or.inl rfl) dJ5_init_6 (js_return hX hr hlk dJ5_init_9))))))
  | k + 1 => intro ls st h nc ns hf; exact hf.elim
def bJ6_size : jjB := fun e K k => match k with
  | 0 => (ji_aload 0 (ji_getfI 14 2 (ji_ireturn e)))
  | _ => fun _ _ _ _ _ => False
def pJ6_size : Nat → Nat := fun k => match k with
  | 0 => 0
  | _ => 0
theorem sJ6_size : jSound bJ6_size pJ6_size MJ6_size := by
  intro e p ev R s m args below meth c hX hr hn hlk K hK k
  match k with
  | 0 => exact (js_aload_n hX dJ6_size_0 rfl (js_getfI hX (ci := 14) (k := 2) (RJ6, TJ6, 3) rfl (by decide) rfl (Or.inl q506) (fun _ h => h) dJ6_size_1 (js_ireturn hX hr hlk dJ6_size_4)))
  | k + 1 => intro ls st h nc ns hf; exact hf.elim
def bJ6_get : jjB := fun e K k => match k with
  | 0 => (ji_iload 1 (ji_aload 0 (ji_getfI 14 2 (ji_callS e MJ1_checkIndex 2 (ji_pop (ji_aload 0 (ji_iload 1 (ji_callV e MJ6_elementData 14 2 (ji_areturn e)))))))))
  | _ => fun _ _ _ _ _ => False
def pJ6_get : Nat → Nat := fun k => match k with
  | 0 => 0
  | _ => 0
theorem sJ6_get : jSound bJ6_get pJ6_get MJ6_get := by
  intro e p ev R s m args below meth c hX hr hn hlk K hK k
  match k with
  | 0 => exact (js_iload_n hX dJ6_get_0 rfl (js_aload_n hX dJ6_get_1 rfl (js_getfI hX (ci := 14) (k := 2) (RJ6, TJ6, 3) rfl (by decide) rfl (Or.inl q506) (fun _ h => h) dJ6_get_2 (js_callS hX MJ1_checkIndex (n := 2) (lw_S q396 q397 q157 q398) npJ1_checkIndex dJ6_get_5 (js_pop hX dJ6_get_8 (js_aload_n hX dJ6_get_9 rfl (js_iload_n hX dJ6_get_10 rfl (js_callV hX MJ6_elementData (ci := 14) (n := 1) (RJ6, TJ6, 3) rfl rfl (lw_V q402 q403 q404 q164 q405) npJ6_elementData dJ6_get_11 (js_areturn hX hr (by first | exact Or.inl ⟨_, rfl⟩ | exact Or.inr ⟨_, rfl⟩) hlk dJ6_get_14)))))))))
  | k + 1 => intro ls st h nc ns hf; exact hf.elim
def bJ6_elementData : jjB := fun e K k => match k with
  | 0 => (ji_aload 0 (ji_getfR 14 1 (ji_iload 1 (ji_aald (-8) (ji_areturn e)))))
  | _ => fun _ _ _ _ _ => False
def pJ6_elementData : Nat → Nat := fun k => match k with
  | 0 => 0
  | _ => 0
theorem sJ6_elementData : jSound bJ6_elementData pJ6_elementData MJ6_elementData := by
  intro e p ev R s m args below meth c hX hr hn hlk K hK k
  match k with
  | 0 => exact (js_aload_n hX dJ6_elementData_0 rfl (js_getfR hX (ci := 14) (k := 1) (RJ6, TJ6, 3) rfl (by decide) rfl (Or.inl q505) (fun _ h => h) dJ6_elementData_1 (js_iload_n hX dJ6_elementData_4 rfl (js_aald hX (cd := (-8)) (by decide) rfl rfl dJ6_elementData_5 (js_areturn hX hr (by first | exact Or.inl ⟨_, rfl⟩ | exact Or.inr ⟨_, rfl⟩) hlk dJ6_elementData_6)))))
  | k + 1 => intro ls st h nc ns hf; exact hf.elim
def bJ6_init : jjB := fun e K k => match k with
  | 0 => (ji_aload 0 (ji_callI e MJ5_init 1 (ji_aload 0 (ji_refc 7 (ji_putfR 14 1 (ji_return e))))))
  | _ => fun _ _ _ _ _ => False
def pJ6_init : Nat → Nat := fun k => match k with
  | 0 => 0
  | _ => 0
theorem sJ6_init : jSound bJ6_init pJ6_init MJ6_init := by
  intro e p ev R s m args below meth c hX hr hn hlk K hK k
  match k with
  | 0 => exact (js_aload_n hX dJ6_init_0 rfl (js_callI hX MJ5_init (n := 0) q496 q497 q163 (lw_meth q498) rfl rfl npJ5_init dJ6_init_1 (js_aload_n hX dJ6_init_4 rfl (js_getsR hX (z := 7) (by decide) (by simp [jst]) q503 (fun _ h => h) dJ6_init_5 (js_putfR hX (ci := 14) (k := 1) (RJ6, TJ6, 3) rfl (by decide) rfl rfl (Or.inl q505) (fun _ h => h) (Or.inl rfl) dJ6_init_8 (js_return hX hr hlk dJ6_init_11))))))
  | k + 1 => intro ls st h nc ns hf; exact hf.elim
def bJ6_add : jjB := fun e K k => match k with
  | 0 => (ji_aload 0 (ji_dup (ji_getfI 14 0 (ji_const 1 (ji_iadd (ji_putfI 14 0 (ji_aload 0 (ji_aload 1 (ji_aload 0 (ji_getfR 14 1 (ji_aload 0 (ji_getfI 14 2 (ji_callV e MJ6_add_2 14 4 (ji_const 1 (ji_zreturn e)))))))))))))))
  | _ => fun _ _ _ _ _ => False
def pJ6_add : Nat → Nat := fun k => match k with
  | 0 => 0
  | _ => 0
theorem sJ6_add : jSound bJ6_add pJ6_add MJ6_add := by
  intro e p ev R s m args below meth c hX hr hn hlk K hK k
  match k with
  | 0 => exact (js_aload_n hX dJ6_add_0 rfl (js_dup hX dJ6_add_1 (js_getfI hX (ci := 14) (k := 0) (RJ6, TJ6, 3) rfl (by decide) rfl (Or.inl q508) (u_same (hX.2.2.2.2.1 _ q509)) dJ6_add_2 (js_const hX (z := 1) (by unfold inI; omega) dJ6_add_5 (Or.inl ⟨1, rfl, rfl, rfl⟩) (js_iadd hX dJ6_add_6 (js_putfI hX (ci := 14) (k := 0) (RJ6, TJ6, 3) rfl (by decide) rfl (Or.inl q508) (u_same (hX.2.2.2.2.1 _ q509)) (Or.inl rfl) dJ6_add_7 (js_aload_n hX dJ6_add_10 rfl (js_aload_n hX dJ6_add_11 rfl (js_aload_n hX dJ6_add_12 rfl (js_getfR hX (ci := 14) (k := 1) (RJ6, TJ6, 3) rfl (by decide) rfl (Or.inl q505) (fun _ h => h) dJ6_add_13 (js_aload_n hX dJ6_add_16 rfl (js_getfI hX (ci := 14) (k := 2) (RJ6, TJ6, 3) rfl (by decide) rfl (Or.inl q506) (fun _ h => h) dJ6_add_17 (js_callV hX MJ6_add_2 (ci := 14) (n := 3) (RJ6, TJ6, 3) rfl rfl (lw_V q821 q823 qs22 q164 q824) npJ6_add_2 dJ6_add_20 (js_const hX (z := 1) (by unfold inI; omega) dJ6_add_23 (Or.inl ⟨1, rfl, rfl, rfl⟩) (js_zreturn hX hr hlk dJ6_add_24)))))))))))))))
  | k + 1 => intro ls st h nc ns hf; exact hf.elim
def bJ6_add_2 : jjB := fun e K k => match k with
  | 0 => (ji_iload 3 (ji_aload 2 (ji_alen (-8) (ji_icmp_ne (K 1)
    (ji_aload 0 (ji_callV e MJ6_grow 14 1 (ji_astore 2 (K 1))))))))
  | 1 => (ji_aload 2 (ji_iload 3 (ji_aload 1 (ji_aast (-8) [6, 7, 8, 9, 10, 11, 12, 13, 15] (ji_aload 0 (ji_iload 3 (ji_const 1 (ji_iadd (ji_putfI 14 2 (ji_return e))))))))))
  | _ => fun _ _ _ _ _ => False
def pJ6_add_2 : Nat → Nat := fun k => match k with
  | 0 => 0
  | 1 => 11
  | _ => 0
theorem sJ6_add_2 : jSound bJ6_add_2 pJ6_add_2 MJ6_add_2 := by
  intro e p ev R s m args below meth c hX hr hn hlk K hK k
  match k with
  | 0 => exact (js_iload_n hX dJ6_add_2_0 rfl (js_aload_n hX dJ6_add_2_1 rfl (js_alen hX (cd := (-8)) (by decide) dJ6_add_2_2 (js_icmp_ne hX (tgt := 11) dJ6_add_2_3 rfl (hK 1)
    (js_aload_n hX dJ6_add_2_6 rfl (js_callV hX MJ6_grow (ci := 14) (n := 0) (RJ6, TJ6, 3) rfl rfl (lw_V q825 q827 qs23 q164 q828) npJ6_grow dJ6_add_2_7 (js_astore_n hX dJ6_add_2_10 rfl (by decide) (hK 1))))))))
  | 1 => exact (js_aload_n hX dJ6_add_2_11 rfl (js_iload_n hX dJ6_add_2_12 rfl (js_aload_n hX dJ6_add_2_13 rfl (js_aast hX (cd := (-8)) (cs := [6, 7, 8, 9, 10, 11, 12, 13, 15]) (jAS8) dJ6_add_2_14 (js_aload_n hX dJ6_add_2_15 rfl (js_iload_n hX dJ6_add_2_16 rfl (js_const hX (z := 1) (by unfold inI; omega) dJ6_add_2_17 (Or.inl ⟨1, rfl, rfl, rfl⟩) (js_iadd hX dJ6_add_2_18 (js_putfI hX (ci := 14) (k := 2) (RJ6, TJ6, 3) rfl (by decide) rfl (Or.inl q506) (fun _ h => h) (Or.inl rfl) dJ6_add_2_19 (js_return hX hr hlk dJ6_add_2_22))))))))))
  | k + 2 => intro ls st h nc ns hf; exact hf.elim
def bJ6_grow : jjB := fun e K k => match k with
  | 0 => (ji_aload 0 (ji_aload 0 (ji_getfI 14 2 (ji_const 1 (ji_iadd (ji_callV e MJ6_grow_2 14 2 (ji_areturn e)))))))
  | _ => fun _ _ _ _ _ => False
def pJ6_grow : Nat → Nat := fun k => match k with
  | 0 => 0
  | _ => 0
theorem sJ6_grow : jSound bJ6_grow pJ6_grow MJ6_grow := by
  intro e p ev R s m args below meth c hX hr hn hlk K hK k
  match k with
  | 0 => exact (js_aload_n hX dJ6_grow_0 rfl (js_aload_n hX dJ6_grow_1 rfl (js_getfI hX (ci := 14) (k := 2) (RJ6, TJ6, 3) rfl (by decide) rfl (Or.inl q506) (fun _ h => h) dJ6_grow_2 (js_const hX (z := 1) (by unfold inI; omega) dJ6_grow_5 (Or.inl ⟨1, rfl, rfl, rfl⟩) (js_iadd hX dJ6_grow_6 (js_callV hX MJ6_grow_2 (ci := 14) (n := 1) (RJ6, TJ6, 3) rfl rfl (lw_V q829 q831 qs24 q164 q832) npJ6_grow_2 dJ6_grow_7 (js_areturn hX hr (by first | exact Or.inl ⟨_, rfl⟩ | exact Or.inr ⟨_, rfl⟩) hlk dJ6_grow_10)))))))
  | k + 1 => intro ls st h nc ns hf; exact hf.elim
def bJ6_grow_2 : jjB := fun e K k => match k with
  | 0 => (ji_aload 0 (ji_getfR 14 1 (ji_alen (-8) (ji_istore 2 (ji_iload 2 (ji_if_gt (K 1)
    (ji_aload 0 (ji_getfR 14 1 (ji_refc 7 (ji_acmp_eq (ji_aload 0 (ji_const 10 (ji_iload 1 (ji_callS e MJ3_max_2 2 (ji_newarr e (-8) (ji_dupx1 (ji_putfR 14 1 (ji_areturn e))))))))
    (K 1)))))))))))
  | 1 => (ji_iload 2 (ji_iload 1 (ji_iload 2 (ji_isub (ji_iload 2 (ji_const 1 (ji_ishr (ji_callS e MJ15_newLength 3 (ji_istore 3 (ji_aload 0 (ji_aload 0 (ji_getfR 14 1 (ji_iload 3 (ji_callS e MJ0_copyOf 2 (ji_dupx1 (ji_putfR 14 1 (ji_areturn e)))))))))))))))))
  | _ => fun _ _ _ _ _ => False
def pJ6_grow_2 : Nat → Nat := fun k => match k with
  | 0 => 0
  | 1 => 20
  | _ => 0
theorem sJ6_grow_2 : jSound bJ6_grow_2 pJ6_grow_2 MJ6_grow_2 := by
  intro e p ev R s m args below meth c hX hr hn hlk K hK k
  match k with
  | 0 => exact (js_aload_n hX dJ6_grow_2_0 rfl (js_getfR hX (ci := 14) (k := 1) (RJ6, TJ6, 3) rfl (by decide) rfl (Or.inl q505) (fun _ h => h) dJ6_grow_2_1 (js_alen hX (cd := (-8)) (by decide) dJ6_grow_2_4 (js_istore_n hX dJ6_grow_2_5 rfl (by decide) (js_iload_n hX dJ6_grow_2_6 rfl (js_if_gt hX (tgt := 20) dJ6_grow_2_7 rfl (hK 1)
    (js_aload_n hX dJ6_grow_2_10 rfl (js_getfR hX (ci := 14) (k := 1) (RJ6, TJ6, 3) rfl (by decide) rfl (Or.inl q505) (fun _ h => h) dJ6_grow_2_11 (js_getsR hX (z := 7) (by decide) (by simp [jst]) q503 (fun _ h => h) dJ6_grow_2_14 (js_acmp_eq hX (tgt := 45) dJ6_grow_2_17 rfl (js_aload_n hX dJ6_grow_2_45 rfl (js_const hX (z := 10) (by unfold inI; omega) dJ6_grow_2_46 (Or.inr (Or.inl ⟨10, rfl, rfl, rfl⟩)) (js_iload_n hX dJ6_grow_2_48 rfl (js_callS hX MJ3_max_2 (n := 2) (lw_S q874 q837 q159 q838) npJ3_max_2 dJ6_grow_2_49 (js_anew hX (cd := (-8)) (by decide) (by decide) rfl q875 q870 dJ6_grow_2_52 (js_dupx1 hX dJ6_grow_2_55 (js_putfR hX (ci := 14) (k := 1) (RJ6, TJ6, 3) rfl (by decide) rfl rfl (Or.inl q505) (fun _ h => h) (Or.inl rfl) dJ6_grow_2_56 (js_areturn hX hr (by first | exact Or.inl ⟨_, rfl⟩ | exact Or.inr ⟨_, rfl⟩) hlk dJ6_grow_2_59))))))))
    (hK 1)))))))))))
  | 1 => exact (js_iload_n hX dJ6_grow_2_20 rfl (js_iload_n hX dJ6_grow_2_21 rfl (js_iload_n hX dJ6_grow_2_22 rfl (js_isub hX dJ6_grow_2_23 (js_iload_n hX dJ6_grow_2_24 rfl (js_const hX (z := 1) (by unfold inI; omega) dJ6_grow_2_25 (Or.inl ⟨1, rfl, rfl, rfl⟩) (js_ishr hX dJ6_grow_2_26 (js_callS hX MJ15_newLength (n := 3) (lw_S q833 q834 q180 q835) npJ15_newLength dJ6_grow_2_27 (js_istore_n hX dJ6_grow_2_30 rfl (by decide) (js_aload_n hX dJ6_grow_2_31 rfl (js_aload_n hX dJ6_grow_2_32 rfl (js_getfR hX (ci := 14) (k := 1) (RJ6, TJ6, 3) rfl (by decide) rfl (Or.inl q505) (fun _ h => h) dJ6_grow_2_33 (js_iload_n hX dJ6_grow_2_36 rfl (js_callS hX MJ0_copyOf (n := 2) (lw_S q843 q844 q154 q845) npJ0_copyOf dJ6_grow_2_37 (js_dupx1 hX dJ6_grow_2_40 (js_putfR hX (ci := 14) (k := 1) (RJ6, TJ6, 3) rfl (by decide) rfl rfl (Or.inl q505) (fun _ h => h) (Or.inl rfl) dJ6_grow_2_41 (js_areturn hX hr (by first | exact Or.inl ⟨_, rfl⟩ | exact Or.inr ⟨_, rfl⟩) hlk dJ6_grow_2_44)))))))))))))))))
  | k + 2 => intro ls st h nc ns hf; exact hf.elim
def bJ6_isEmpty : jjB := fun e K k => match k with
  | 0 => (ji_aload 0 (ji_getfI 14 2 (ji_if_ne (ji_const 0 (K 1))
    (ji_const 1 (ji_goto (K 1))))))
  | 1 => (ji_zreturn e)
  | _ => fun _ _ _ _ _ => False
def pJ6_isEmpty : Nat → Nat := fun k => match k with
  | 0 => 0
  | 1 => 12
  | _ => 0
theorem sJ6_isEmpty : jSound bJ6_isEmpty pJ6_isEmpty MJ6_isEmpty := by
  intro e p ev R s m args below meth c hX hr hn hlk K hK k
  match k with
  | 0 => exact (js_aload_n hX dJ6_isEmpty_0 rfl (js_getfI hX (ci := 14) (k := 2) (RJ6, TJ6, 3) rfl (by decide) rfl (Or.inl q506) (fun _ h => h) dJ6_isEmpty_1 (js_if_ne hX (tgt := 11) dJ6_isEmpty_4 rfl (js_const hX (z := 0) (by unfold inI; omega) dJ6_isEmpty_11 (Or.inl ⟨0, rfl, rfl, rfl⟩) (hK 1))
    (js_const hX (z := 1) (by unfold inI; omega) dJ6_isEmpty_7 (Or.inl ⟨1, rfl, rfl, rfl⟩) (js_goto hX (tgt := 12) dJ6_isEmpty_8 rfl (hK 1))))))
  | 1 => exact (js_zreturn hX hr hlk dJ6_isEmpty_12)
  | k + 2 => intro ls st h nc ns hf; exact hf.elim
def bJ7_length : jjB := fun e K k => match k with
  | 0 => (ji_aload 0 (ji_getfR 16 0 (ji_alen (-2) (ji_aload 0 (ji_callV e MJ7_coder 16 1 (ji_ishr (ji_ireturn e)))))))
  | _ => fun _ _ _ _ _ => False
def pJ7_length : Nat → Nat := fun k => match k with
  | 0 => 0
  | _ => 0
theorem sJ7_length : jSound bJ7_length pJ7_length MJ7_length := by
  intro e p ev R s m args below meth c hX hr hn hlk K hK k
  match k with
  | 0 => exact (js_aload_n hX dJ7_length_0 rfl (js_getfR hX (ci := 16) (k := 0) ("java/lang/String", jT16, 2) rfl (by decide) rfl (Or.inl q2065) (fun _ h => h) dJ7_length_1 (js_alen hX (cd := (-2)) (by decide) dJ7_length_4 (js_aload_n hX dJ7_length_5 rfl (js_callV hX MJ7_coder (ci := 16) (n := 0) ("java/lang/String", jT16, 2) rfl rfl (lw_V q560 q561 q562 q165 q563) npJ7_coder dJ7_length_6 (js_ishr hX dJ7_length_9 (js_ireturn hX hr hlk dJ7_length_10)))))))
  | k + 1 => intro ls st h nc ns hf; exact hf.elim
def bJ7_coder : jjB := fun e K k => match k with
  | 0 => (ji_const 1 (ji_if_eq (ji_const 1 (K 1))
    (ji_aload 0 (ji_getfI 16 1 (ji_goto (K 1))))))
  | 1 => (ji_nreturn e .byte)
  | _ => fun _ _ _ _ _ => False
def pJ7_coder : Nat → Nat := fun k => match k with
  | 0 => 0
  | 1 => 14
  | _ => 0
theorem sJ7_coder : jSound bJ7_coder pJ7_coder MJ7_coder := by
  intro e p ev R s m args below meth c hX hr hn hlk K hK k
  match k with
  | 0 => exact (js_getsI hX (z := 1) (by unfold inI; omega) (by simp [jst]) q564 (fun _ h => h) dJ7_coder_0 (js_if_eq hX (tgt := 13) dJ7_coder_3 rfl (js_const hX (z := 1) (by unfold inI; omega) dJ7_coder_13 (Or.inl ⟨1, rfl, rfl, rfl⟩) (hK 1))
    (js_aload_n hX dJ7_coder_6 rfl (js_getfI hX (ci := 16) (k := 1) ("java/lang/String", jT16, 2) rfl (by decide) rfl (Or.inl q2066) (fun _ h => h) dJ7_coder_7 (js_goto hX (tgt := 14) dJ7_coder_10 rfl (hK 1))))))
  | 1 => exact (js_nreturn hX hr j_narbyte hlk dJ7_coder_14)
  | k + 2 => intro ls st h nc ns hf; exact hf.elim
def bJ7_charAt : jjB := fun e K k => match k with
  | 0 => (ji_aload 0 (ji_callV e MJ7_isLatin1 16 1 (ji_if_eq (ji_aload 0 (ji_getfR 16 0 (ji_iload 1 (ji_callS e MJ9_charAt 2 (ji_nreturn e .char)))))
    (ji_aload 0 (ji_getfR 16 0 (ji_iload 1 (ji_callS e MJ8_charAt 2 (ji_nreturn e .char))))))))
  | _ => fun _ _ _ _ _ => False
def pJ7_charAt : Nat → Nat := fun k => match k with
  | 0 => 0
  | _ => 0
theorem sJ7_charAt : jSound bJ7_charAt pJ7_charAt MJ7_charAt := by
  intro e p ev R s m args below meth c hX hr hn hlk K hK k
  match k with
  | 0 => exact (js_aload_n hX dJ7_charAt_0 rfl (js_callV hX MJ7_isLatin1 (ci := 16) (n := 0) ("java/lang/String", jT16, 2) rfl rfl (lw_V q570 q571 q572 q165 q573) npJ7_isLatin1 dJ7_charAt_1 (js_if_eq hX (tgt := 16) dJ7_charAt_4 rfl (js_aload_n hX dJ7_charAt_16 rfl (js_getfR hX (ci := 16) (k := 0) ("java/lang/String", jT16, 2) rfl (by decide) rfl (Or.inl q2065) (fun _ h => h) dJ7_charAt_17 (js_iload_n hX dJ7_charAt_20 rfl (js_callS hX MJ9_charAt (n := 2) (lw_S q583 q584 q167 q585) npJ9_charAt dJ7_charAt_21 (js_nreturn hX hr j_narchar hlk dJ7_charAt_24)))))
    (js_aload_n hX dJ7_charAt_7 rfl (js_getfR hX (ci := 16) (k := 0) ("java/lang/String", jT16, 2) rfl (by decide) rfl (Or.inl q2065) (fun _ h => h) dJ7_charAt_8 (js_iload_n hX dJ7_charAt_11 rfl (js_callS hX MJ8_charAt (n := 2) (lw_S q574 q575 q166 q576) npJ8_charAt dJ7_charAt_12 (js_nreturn hX hr j_narchar hlk dJ7_charAt_15))))))))
  | k + 1 => intro ls st h nc ns hf; exact hf.elim
def bJ7_isLatin1 : jjB := fun e K k => match k with
  | 0 => (ji_const 1 (ji_if_eq (K 1)
    (ji_aload 0 (ji_getfI 16 1 (ji_if_ne (K 1)
    (ji_const 1 (ji_goto (K 2))))))))
  | 1 => (ji_const 0 (K 2))
  | 2 => (ji_zreturn e)
  | _ => fun _ _ _ _ _ => False
def pJ7_isLatin1 : Nat → Nat := fun k => match k with
  | 0 => 0
  | 1 => 17
  | 2 => 18
  | _ => 0
theorem sJ7_isLatin1 : jSound bJ7_isLatin1 pJ7_isLatin1 MJ7_isLatin1 := by
  intro e p ev R s m args below meth c hX hr hn hlk K hK k
  match k with
  | 0 => exact (js_getsI hX (z := 1) (by unfold inI; omega) (by simp [jst]) q564 (fun _ h => h) dJ7_isLatin1_0 (js_if_eq hX (tgt := 17) dJ7_isLatin1_3 rfl (hK 1)
    (js_aload_n hX dJ7_isLatin1_6 rfl (js_getfI hX (ci := 16) (k := 1) ("java/lang/String", jT16, 2) rfl (by decide) rfl (Or.inl q2066) (fun _ h => h) dJ7_isLatin1_7 (js_if_ne hX (tgt := 17) dJ7_isLatin1_10 rfl (hK 1)
    (js_const hX (z := 1) (by unfold inI; omega) dJ7_isLatin1_13 (Or.inl ⟨1, rfl, rfl, rfl⟩) (js_goto hX (tgt := 18) dJ7_isLatin1_14 rfl (hK 2))))))))
  | 1 => exact (js_const hX (z := 0) (by unfold inI; omega) dJ7_isLatin1_17 (Or.inl ⟨0, rfl, rfl, rfl⟩) (hK 2))
  | 2 => exact (js_zreturn hX hr hlk dJ7_isLatin1_18)
  | k + 3 => intro ls st h nc ns hf; exact hf.elim
def bJ7_checkIndex : jjB := fun e K k => match k with
  | 0 => (ji_iload 0 (ji_iload 1 (ji_any 9 (ji_callS e MJ2_checkIndex 3 (ji_pop (ji_return e))))))
  | _ => fun _ _ _ _ _ => False
def pJ7_checkIndex : Nat → Nat := fun k => match k with
  | 0 => 0
  | _ => 0
theorem sJ7_checkIndex : jSound bJ7_checkIndex pJ7_checkIndex MJ7_checkIndex := by
  intro e p ev R s m args below meth c hX hr hn hlk K hK k
  match k with
  | 0 => exact (js_iload_n hX dJ7_checkIndex_0 rfl (js_iload_n hX dJ7_checkIndex_1 rfl (js_getsU hX q580 dJ7_checkIndex_2 (js_callS hX MJ2_checkIndex (n := 3) (lw_S q582 q400 q158 q401) npJ2_checkIndex dJ7_checkIndex_5 (js_pop hX dJ7_checkIndex_8 (js_return hX hr hlk dJ7_checkIndex_9))))))
  | k + 1 => intro ls st h nc ns hf; exact hf.elim
def bJ8_charAt : jjB := fun e K k => match k with
  | 0 => (ji_iload 1 (ji_aload 0 (ji_alen (-2) (ji_callS e MJ7_checkIndex 2 (ji_aload 0 (ji_iload 1 (ji_bald (ji_const 255 (ji_iand (ji_i2c (ji_nreturn e .char)))))))))))
  | _ => fun _ _ _ _ _ => False
def pJ8_charAt : Nat → Nat := fun k => match k with
  | 0 => 0
  | _ => 0
theorem sJ8_charAt : jSound bJ8_charAt pJ8_charAt MJ8_charAt := by
  intro e p ev R s m args below meth c hX hr hn hlk K hK k
  match k with
  | 0 => exact (js_iload_n hX dJ8_charAt_0 rfl (js_aload_n hX dJ8_charAt_1 rfl (js_alen hX (cd := (-2)) (by decide) dJ8_charAt_2 (js_callS hX MJ7_checkIndex (n := 2) (lw_S q577 q578 q165 q579) npJ7_checkIndex dJ8_charAt_3 (js_aload_n hX dJ8_charAt_6 rfl (js_iload_n hX dJ8_charAt_7 rfl (js_bald hX dJ8_charAt_8 (js_const hX (z := 255) (by unfold inI; omega) dJ8_charAt_9 (Or.inr (Or.inr (Or.inl ⟨255, rfl, rfl, rfl⟩))) (js_iand hX dJ8_charAt_12 (js_i2c hX dJ8_charAt_13 (js_nreturn hX hr j_narchar hlk dJ8_charAt_14)))))))))))
  | k + 1 => intro ls st h nc ns hf; exact hf.elim
def bJ9_charAt : jjB := fun e K k => match k with
  | 0 => (ji_iload 1 (ji_aload 0 (ji_callS e MJ9_checkIndex 2 (ji_aload 0 (ji_iload 1 (ji_callS e MJ9_getChar 2 (ji_nreturn e .char)))))))
  | _ => fun _ _ _ _ _ => False
def pJ9_charAt : Nat → Nat := fun k => match k with
  | 0 => 0
  | _ => 0
theorem sJ9_charAt : jSound bJ9_charAt pJ9_charAt MJ9_charAt := by
  intro e p ev R s m args below meth c hX hr hn hlk K hK k
  match k with
  | 0 => exact (js_iload_n hX dJ9_charAt_0 rfl (js_aload_n hX dJ9_charAt_1 rfl (js_callS hX MJ9_checkIndex (n := 2) (lw_S q586 q587 q167 q588) npJ9_checkIndex dJ9_charAt_2 (js_aload_n hX dJ9_charAt_5 rfl (js_iload_n hX dJ9_charAt_6 rfl (js_callS hX MJ9_getChar (n := 2) (lw_S q593 q594 q167 q595) npJ9_getChar dJ9_charAt_7 (js_nreturn hX hr j_narchar hlk dJ9_charAt_10)))))))
  | k + 1 => intro ls st h nc ns hf; exact hf.elim
def bJ9_checkIndex : jjB := fun e K k => match k with
  | 0 => (ji_iload 0 (ji_aload 1 (ji_callS e MJ9_length 1 (ji_callS e MJ7_checkIndex 2 (ji_return e)))))
  | _ => fun _ _ _ _ _ => False
def pJ9_checkIndex : Nat → Nat := fun k => match k with
  | 0 => 0
  | _ => 0
theorem sJ9_checkIndex : jSound bJ9_checkIndex pJ9_checkIndex MJ9_checkIndex := by
  intro e p ev R s m args below meth c hX hr hn hlk K hK k
  match k with
  | 0 => exact (js_iload_n hX dJ9_checkIndex_0 rfl (js_aload_n hX dJ9_checkIndex_1 rfl (js_callS hX MJ9_length (n := 1) (lw_S q589 q590 q167 q591) npJ9_length dJ9_checkIndex_2 (js_callS hX MJ7_checkIndex (n := 2) (lw_S q592 q578 q165 q579) npJ7_checkIndex dJ9_checkIndex_5 (js_return hX hr hlk dJ9_checkIndex_8)))))
  | k + 1 => intro ls st h nc ns hf; exact hf.elim
def bJ9_length : jjB := fun e K k => match k with
  | 0 => (ji_aload 0 (ji_alen (-2) (ji_const 1 (ji_ishr (ji_ireturn e)))))
  | _ => fun _ _ _ _ _ => False
def pJ9_length : Nat → Nat := fun k => match k with
  | 0 => 0
  | _ => 0
theorem sJ9_length : jSound bJ9_length pJ9_length MJ9_length := by
  intro e p ev R s m args below meth c hX hr hn hlk K hK k
  match k with
  | 0 => exact (js_aload_n hX dJ9_length_0 rfl (js_alen hX (cd := (-2)) (by decide) dJ9_length_1 (js_const hX (z := 1) (by unfold inI; omega) dJ9_length_2 (Or.inl ⟨1, rfl, rfl, rfl⟩) (js_ishr hX dJ9_length_3 (js_ireturn hX hr hlk dJ9_length_4)))))
  | k + 1 => intro ls st h nc ns hf; exact hf.elim
def bX0_init : jjB := fun e K k => match k with
  | 0 => (ji_aload 0 (ji_callI e MJ16_init 1 (ji_aload 0 (ji_new e 1 7 (ji_dup (ji_callI e MX1_init 1 (ji_putfR 0 0 (ji_aload 0 (ji_new e 1 7 (ji_dup (ji_callI e MX1_init 1 (ji_putfR 0 1 (ji_aload 0 (ji_const 300 (ji_newarr e (-2) (ji_putfR 0 2 (ji_aload 0 (ji_const (-1) (ji_putfI 0 4 (ji_aload 0 (ji_const (-1) (ji_putfI 0 5 (ji_aload 0 (ji_const 15 (ji_newarr e (-1) (ji_putfR 0 6 (ji_aload 0 (ji_const 10 (ji_newarr e (-1) (ji_putfR 0 7 (ji_aload 0 (ji_const 10 (ji_newarr e (-1) (ji_putfR 0 8 (ji_aload 0 (ji_const 501 (ji_newarr e (-3) (ji_putfR 0 9 (ji_aload 0 (ji_const 6 (ji_newarr e (-1) (ji_putfR 0 11 (ji_aload 0 (ji_const 6 (ji_newarr e (-1) (ji_putfR 0 12 (ji_aload 0 (ji_const 720 (ji_newarr e (-1) (ji_putfR 0 15 (ji_aload 0 (ji_const 720 (ji_newarr e (-1) (ji_putfR 0 16 (ji_aload 0 (ji_const 6 (ji_const 5 (ji_multi e (ji_putfR 0 17 (ji_aload 0 (ji_const 10 (ji_newarr e (-1) (ji_putfR 0 18 (ji_aload 0 (ji_const 10 (ji_newarr e (-1) (ji_putfR 0 19 (ji_aload 0 (ji_getfR 0 1 (ji_aload 0 (ji_getfR 0 0 (ji_callV e MX1_be 1 2 (ji_return e)))))))))))))))))))))))))))))))))))))))))))))))))))))))))))))))))))))))))
  | _ => fun _ _ _ _ _ => False
def pX0_init : Nat → Nat := fun k => match k with
  | 0 => 0
  | _ => 0
theorem sX0_init : jSound bX0_init pX0_init MX0_init := by
  intro e p ev R s m args below meth c hX hr hn hlk K hK k
  match k with
  | 0 => exact (js_aload_n hX dX0_init_0 rfl (js_callI hX MJ16_init (n := 0) q189 q190 q2033 (lw_meth q191) rfl rfl npJ16_init dX0_init_1 (js_aload_n hX dX0_init_4 rfl (js_new hX (ci := 1) (RX1, TX1, 7) rfl (by decide) q192 q193 q153 dX0_init_5 (js_dup hX dX0_init_8 (js_callI hX MX1_init (n := 0) q194 q195 q153 (lw_meth q196) rfl rfl npX1_init dX0_init_9 (js_putfR hX (ci := 0) (k := 0) (RX0, TX0, 20) rfl (by decide) rfl rfl (Or.inl q255) (fun _ h => h) (Or.inr ⟨rfl, hn, rfl, q255⟩) dX0_init_12 (js_aload_n hX dX0_init_15 rfl (js_new hX (ci := 1) (RX1, TX1, 7) rfl (by decide) q192 q193 q153 dX0_init_16 (js_dup hX dX0_init_19 (js_callI hX MX1_init (n := 0) q194 q195 q153 (lw_meth q196) rfl rfl npX1_init dX0_init_20 (js_putfR hX (ci := 0) (k := 1) (RX0, TX0, 20) rfl (by decide) rfl rfl (Or.inl q256) (fun _ h => h) (Or.inr ⟨rfl, hn, rfl, q256⟩) dX0_init_23 (js_aload_n hX dX0_init_26 rfl (js_const hX (z := 300) (by unfold inI; omega) dX0_init_27 (Or.inr (Or.inr (Or.inl ⟨300, rfl, rfl, rfl⟩))) (js_newarr hX (cd := (-2)) (atype := .byte) (by decide) (by decide) rfl rfl (fun _ _ h => h) (by decide) q316 dX0_init_30 (js_putfR hX (ci := 0) (k := 2) (RX0, TX0, 20) rfl (by decide) rfl rfl (Or.inl q257) (fun _ h => h) (Or.inr ⟨rfl, hn, rfl, q257⟩) dX0_init_32 (js_aload_n hX dX0_init_35 rfl (js_const hX (z := (-1)) (by unfold inI; omega) dX0_init_36 (Or.inl ⟨(-1), rfl, rfl, rfl⟩) (js_putfI hX (ci := 0) (k := 4) (RX0, TX0, 20) rfl (by decide) rfl (Or.inl q259) (fun _ h => h) (Or.inl rfl) dX0_init_37 (js_aload_n hX dX0_init_40 rfl (js_const hX (z := (-1)) (by unfold inI; omega) dX0_init_41 (Or.inl ⟨(-1), rfl, rfl, rfl⟩) (js_putfI hX (ci := 0) (k := 5) (RX0, TX0, 20) rfl (by decide) rfl (Or.inl q260) (fun _ h => h) (Or.inl rfl) dX0_init_42 (js_aload_n hX dX0_init_45 rfl (js_const hX (z := 15) (by unfold inI; omega) dX0_init_46 (Or.inr (Or.inl ⟨15, rfl, rfl, rfl⟩)) (js_newarr hX (cd := (-1)) (atype := .int) (by decide) (by decide) rfl rfl (fun _ _ h => h) (by decide) q240 dX0_init_48 (js_putfR hX (ci := 0) (k := 6) (RX0, TX0, 20) rfl (by decide) rfl rfl (Or.inl q261) (fun _ h => h) (Or.inr ⟨rfl, hn, rfl, q261⟩) dX0_init_50 (js_aload_n hX dX0_init_53 rfl (js_const hX (z := 10) (by unfold inI; omega) dX0_init_54 (Or.inr (Or.inl ⟨10, rfl, rfl, rfl⟩)) (js_newarr hX (cd := (-1)) (atype := .int) (by decide) (by decide) rfl rfl (fun _ _ h => h) (by decide) q240 dX0_init_56 (js_putfR hX (ci := 0) (k := 7) (RX0, TX0, 20) rfl (by decide) rfl rfl (Or.inl q262) (fun _ h => h) (Or.inr ⟨rfl, hn, rfl, q262⟩) dX0_init_58 (js_aload_n hX dX0_init_61 rfl (js_const hX (z := 10) (by unfold inI; omega) dX0_init_62 (Or.inr (Or.inl ⟨10, rfl, rfl, rfl⟩)) (js_newarr hX (cd := (-1)) (atype := .int) (by decide) (by decide) rfl rfl (fun _ _ h => h) (by decide) q240 dX0_init_64 (js_putfR hX (ci := 0) (k := 8) (RX0, TX0, 20) rfl (by decide) rfl rfl (Or.inl q263) (fun _ h => h) (Or.inr ⟨rfl, hn, rfl, q263⟩) dX0_init_66 (js_aload_n hX dX0_init_69 rfl (js_const hX (z := 501) (by unfold inI; omega) dX0_init_70 (Or.inr (Or.inr (Or.inl ⟨501, rfl, rfl, rfl⟩))) (js_newarr hX (cd := (-3)) (atype := .long) (by decide) (by decide) rfl rfl (fun _ _ h => h) (by decide) q317 dX0_init_73 (js_putfR hX (ci := 0) (k := 9) (RX0, TX0, 20) rfl (by decide) rfl rfl (Or.inl q264) (fun _ h => h) (Or.inr ⟨rfl, hn, rfl, q264⟩) dX0_init_75 (js_aload_n hX dX0_init_78 rfl (js_const hX (z := 6) (by unfold inI; omega) dX0_init_79 (Or.inr (Or.inl ⟨6, rfl, rfl, rfl⟩)) (js_newarr hX (cd := (-1)) (atype := .int) (by decide) (by decide) rfl rfl (fun _ _ h => h) (by decide) q240 dX0_init_81 (js_putfR hX (ci := 0) (k := 11) (RX0, TX0, 20) rfl (by decide) rfl rfl (Or.inl q266) (fun _ h => h) (Or.inr ⟨rfl, hn, rfl, q266⟩) dX0_init_83 (js_aload_n hX dX0_init_86 rfl (js_const hX (z := 6) (by unfold inI; omega) dX0_init_87 (Or.inr (Or.inl ⟨6, rfl, rfl, rfl⟩)) (js_newarr hX (cd := (-1)) (atype := .int) (by decide) (by decide) rfl rfl (fun _ _ h => h) (by decide) q240 dX0_init_89 (js_putfR hX (ci := 0) (k := 12) (RX0, TX0, 20) rfl (by decide) rfl rfl (Or.inl q267) (fun _ h => h) (Or.inr ⟨rfl, hn, rfl, q267⟩) dX0_init_91 (js_aload_n hX dX0_init_94 rfl (js_const hX (z := 720) (by unfold inI; omega) dX0_init_95 (Or.inr (Or.inr (Or.inl ⟨720, rfl, rfl, rfl⟩))) (js_newarr hX (cd := (-1)) (atype := .int) (by decide) (by decide) rfl rfl (fun _ _ h => h) (by decide) q240 dX0_init_98 (js_putfR hX (ci := 0) (k := 15) (RX0, TX0, 20) rfl (by decide) rfl rfl (Or.inl q270) (fun _ h => h) (Or.inr ⟨rfl, hn, rfl, q270⟩) dX0_init_100 (js_aload_n hX dX0_init_103 rfl (js_const hX (z := 720) (by unfold inI; omega) dX0_init_104 (Or.inr (Or.inr (Or.inl ⟨720, rfl, rfl, rfl⟩))) (js_newarr hX (cd := (-1)) (atype := .int) (by decide) (by decide) rfl rfl (fun _ _ h => h) (by decide) q240 dX0_init_107 (js_putfR hX (ci := 0) (k := 16) (RX0, TX0, 20) rfl (by decide) rfl rfl (Or.inl q271) (fun _ h => h) (Or.inr ⟨rfl, hn, rfl, q271⟩) dX0_init_109 (js_aload_n hX dX0_init_112 rfl (js_const hX (z := 6) (by unfold inI; omega) dX0_init_113 (Or.inr (Or.inl ⟨6, rfl, rfl, rfl⟩)) (js_const hX (z := 5) (by unfold inI; omega) dX0_init_115 (Or.inl ⟨5, rfl, rfl, rfl⟩) (js_multi hX q241 q199 q240 dX0_init_116 (js_putfR hX (ci := 0) (k := 17) (RX0, TX0, 20) rfl (by decide) rfl rfl (Or.inl q272) (fun _ h => h) (Or.inr ⟨rfl, hn, rfl, q272⟩) dX0_init_120 (js_aload_n hX dX0_init_123 rfl (js_const hX (z := 10) (by unfold inI; omega) dX0_init_124 (Or.inr (Or.inl ⟨10, rfl, rfl, rfl⟩)) (js_newarr hX (cd := (-1)) (atype := .int) (by decide) (by decide) rfl rfl (fun _ _ h => h) (by decide) q240 dX0_init_126 (js_putfR hX (ci := 0) (k := 18) (RX0, TX0, 20) rfl (by decide) rfl rfl (Or.inl q273) (fun _ h => h) (Or.inr ⟨rfl, hn, rfl, q273⟩) dX0_init_128 (js_aload_n hX dX0_init_131 rfl (js_const hX (z := 10) (by unfold inI; omega) dX0_init_132 (Or.inr (Or.inl ⟨10, rfl, rfl, rfl⟩)) (js_newarr hX (cd := (-1)) (atype := .int) (by decide) (by decide) rfl rfl (fun _ _ h => h) (by decide) q240 dX0_init_134 (js_putfR hX (ci := 0) (k := 19) (RX0, TX0, 20) rfl (by decide) rfl rfl (Or.inl q274) (fun _ h => h) (Or.inr ⟨rfl, hn, rfl, q274⟩) dX0_init_136 (js_aload_n hX dX0_init_139 rfl (js_getfR hX (ci := 0) (k := 1) (RX0, TX0, 20) rfl (by decide) rfl (Or.inl q256) (fun _ h => h) dX0_init_140 (js_aload_n hX dX0_init_143 rfl (js_getfR hX (ci := 0) (k := 0) (RX0, TX0, 20) rfl (by decide) rfl (Or.inl q255) (fun _ h => h) dX0_init_144 (js_callV hX MX1_be (ci := 1) (n := 1) (RX1, TX1, 7) rfl rfl (lw_V q242 q243 q244 q153 q245) npX1_be dX0_init_147 (js_return hX hr hlk dX0_init_150)))))))))))))))))))))))))))))))))))))))))))))))))))))))))))))))))))))))))
  | k + 1 => intro ls st h nc ns hf; exact hf.elim
def bX0_wide : jjB := fun e K k => match k with
  | 0 => (ji_iload 1 (ji_callS e MX0_isShelf 1 (ji_if_eq (K 1)
    (ji_iload 2 (ji_const 1 (ji_const 99 (ji_callS e MX0_in 3 (ji_if_eq (K 1)
    (ji_iload 2 (ji_aload 0 (ji_iload 1 (ji_callV e MX0_fullOf 0 2 (ji_icmp_ge (ji_aload 0 (ji_getfR 0 0 (ji_getfR 1 1 (ji_iload 1 (ji_iload 2 (ji_iast (ji_const 1 (ji_zreturn e))))))))
    (K 1))))))))))))))
  | 1 => (ji_const 0 (ji_zreturn e))
  | _ => fun _ _ _ _ _ => False
def pX0_wide : Nat → Nat := fun k => match k with
  | 0 => 0
  | 1 => 26
  | _ => 0
theorem sX0_wide : jSound bX0_wide pX0_wide MX0_wide := by
  intro e p ev R s m args below meth c hX hr hn hlk K hK k
  match k with
  | 0 => exact (js_iload_n hX dX0_wide_0 rfl (js_callS hX MX0_isShelf (n := 1) (lw_S q322 q323 q152 q324) npX0_isShelf dX0_wide_1 (js_if_eq hX (tgt := 26) dX0_wide_4 rfl (hK 1)
    (js_iload_n hX dX0_wide_7 rfl (js_const hX (z := 1) (by unfold inI; omega) dX0_wide_8 (Or.inl ⟨1, rfl, rfl, rfl⟩) (js_const hX (z := 99) (by unfold inI; omega) dX0_wide_9 (Or.inr (Or.inl ⟨99, rfl, rfl, rfl⟩)) (js_callS hX MX0_in (n := 3) (lw_S q325 q326 q152 q327) npX0_in dX0_wide_11 (js_if_eq hX (tgt := 26) dX0_wide_14 rfl (hK 1)
    (js_iload_n hX dX0_wide_17 rfl (js_aload_n hX dX0_wide_18 rfl (js_iload_n hX dX0_wide_19 rfl (js_callV hX MX0_fullOf (ci := 0) (n := 1) (RX0, TX0, 20) rfl rfl (lw_V q328 q330 qs0 q152 q331) npX0_fullOf dX0_wide_20 (js_icmp_ge hX (tgt := 28) dX0_wide_23 rfl (js_aload_n hX dX0_wide_28 rfl (js_getfR hX (ci := 0) (k := 0) (RX0, TX0, 20) rfl (by decide) rfl (Or.inl q255) (fun _ h => h) dX0_wide_29 (js_getfR hX (ci := 1) (k := 1) (RX1, TX1, 7) rfl (by decide) rfl (Or.inr ⟨_, q214⟩) (fun _ h => h) dX0_wide_32 (js_iload_n hX dX0_wide_35 rfl (js_iload_n hX dX0_wide_36 rfl (js_iast hX dX0_wide_37 (js_const hX (z := 1) (by unfold inI; omega) dX0_wide_38 (Or.inl ⟨1, rfl, rfl, rfl⟩) (js_zreturn hX hr hlk dX0_wide_39))))))))
    (hK 1))))))))))))))
  | 1 => exact (js_const hX (z := 0) (by unfold inI; omega) dX0_wide_26 (Or.inl ⟨0, rfl, rfl, rfl⟩) (js_zreturn hX hr hlk dX0_wide_27))
  | k + 2 => intro ls st h nc ns hf; exact hf.elim
def bX0_isShelf : jjB := fun e K k => match k with
  | 0 => (ji_iload 0 (ji_const 0 (ji_const 2 (ji_callS e MX0_in 3 (ji_zreturn e)))))
  | _ => fun _ _ _ _ _ => False
def pX0_isShelf : Nat → Nat := fun k => match k with
  | 0 => 0
  | _ => 0
theorem sX0_isShelf : jSound bX0_isShelf pX0_isShelf MX0_isShelf := by
  intro e p ev R s m args below meth c hX hr hn hlk K hK k
  match k with
  | 0 => exact (js_iload_n hX dX0_isShelf_0 rfl (js_const hX (z := 0) (by unfold inI; omega) dX0_isShelf_1 (Or.inl ⟨0, rfl, rfl, rfl⟩) (js_const hX (z := 2) (by unfold inI; omega) dX0_isShelf_2 (Or.inl ⟨2, rfl, rfl, rfl⟩) (js_callS hX MX0_in (n := 3) (lw_S q325 q326 q152 q327) npX0_in dX0_isShelf_3 (js_zreturn hX hr hlk dX0_isShelf_6)))))
  | k + 1 => intro ls st h nc ns hf; exact hf.elim
def bX0_in : jjB := fun e K k => match k with
  | 0 => (ji_iload 0 (ji_iload 1 (ji_icmp_lt (K 1)
    (ji_iload 0 (ji_iload 2 (ji_icmp_gt (K 1)
    (ji_const 1 (ji_goto (K 2)))))))))
  | 1 => (ji_const 0 (K 2))
  | 2 => (ji_zreturn e)
  | _ => fun _ _ _ _ _ => False
def pX0_in : Nat → Nat := fun k => match k with
  | 0 => 0
  | 1 => 14
  | 2 => 15
  | _ => 0
theorem sX0_in : jSound bX0_in pX0_in MX0_in := by
  intro e p ev R s m args below meth c hX hr hn hlk K hK k
  match k with
  | 0 => exact (js_iload_n hX dX0_in_0 rfl (js_iload_n hX dX0_in_1 rfl (js_icmp_lt hX (tgt := 14) dX0_in_2 rfl (hK 1)
    (js_iload_n hX dX0_in_5 rfl (js_iload_n hX dX0_in_6 rfl (js_icmp_gt hX (tgt := 14) dX0_in_7 rfl (hK 1)
    (js_const hX (z := 1) (by unfold inI; omega) dX0_in_10 (Or.inl ⟨1, rfl, rfl, rfl⟩) (js_goto hX (tgt := 15) dX0_in_11 rfl (hK 2)))))))))
  | 1 => exact (js_const hX (z := 0) (by unfold inI; omega) dX0_in_14 (Or.inl ⟨0, rfl, rfl, rfl⟩) (hK 2))
  | 2 => exact (js_zreturn hX hr hlk dX0_in_15)
  | k + 3 => intro ls st h nc ns hf; exact hf.elim
def bX0_fullOf : jjB := fun e K k => match k with
  | 0 => (ji_const 0 (ji_istore 2 (ji_const 0 (ji_istore 3 (K 1)))))
  | 1 => (ji_iload 3 (ji_aload 0 (ji_getfR 0 0 (ji_iload 1 (ji_callV e MX1_many 1 2 (ji_icmp_ge (ji_iload 2 (ji_ireturn e))
    (ji_iload 2 (ji_aload 0 (ji_aload 0 (ji_getfR 0 0 (ji_iload 1 (ji_iload 3 (ji_callV e MX1_bookAt 1 3 (ji_callV e MX0_thickNow 0 2 (ji_iadd (ji_istore 2 (ji_iinc 3 1 (ji_goto (K 1)))))))))))))))))))
  | _ => fun _ _ _ _ _ => False
def pX0_fullOf : Nat → Nat := fun k => match k with
  | 0 => 0
  | 1 => 4
  | _ => 0
theorem sX0_fullOf : jSound bX0_fullOf pX0_fullOf MX0_fullOf := by
  intro e p ev R s m args below meth c hX hr hn hlk K hK k
  match k with
  | 0 => exact (js_const hX (z := 0) (by unfold inI; omega) dX0_fullOf_0 (Or.inl ⟨0, rfl, rfl, rfl⟩) (js_istore_n hX dX0_fullOf_1 rfl (by decide) (js_const hX (z := 0) (by unfold inI; omega) dX0_fullOf_2 (Or.inl ⟨0, rfl, rfl, rfl⟩) (js_istore_n hX dX0_fullOf_3 rfl (by decide) (hK 1)))))
  | 1 => exact (js_iload_n hX dX0_fullOf_4 rfl (js_aload_n hX dX0_fullOf_5 rfl (js_getfR hX (ci := 0) (k := 0) (RX0, TX0, 20) rfl (by decide) rfl (Or.inl q255) (fun _ h => h) dX0_fullOf_6 (js_iload_n hX dX0_fullOf_9 rfl (js_callV hX MX1_many (ci := 1) (n := 1) (RX1, TX1, 7) rfl rfl (lw_V q332 q333 q334 q153 q335) npX1_many dX0_fullOf_10 (js_icmp_ge hX (tgt := 38) dX0_fullOf_13 rfl (js_iload_n hX dX0_fullOf_38 rfl (js_ireturn hX hr hlk dX0_fullOf_39))
    (js_iload_n hX dX0_fullOf_16 rfl (js_aload_n hX dX0_fullOf_17 rfl (js_aload_n hX dX0_fullOf_18 rfl (js_getfR hX (ci := 0) (k := 0) (RX0, TX0, 20) rfl (by decide) rfl (Or.inl q255) (fun _ h => h) dX0_fullOf_19 (js_iload_n hX dX0_fullOf_22 rfl (js_iload_n hX dX0_fullOf_23 rfl (js_callV hX MX1_bookAt (ci := 1) (n := 2) (RX1, TX1, 7) rfl rfl (lw_V q336 q337 q338 q153 q339) npX1_bookAt dX0_fullOf_24 (js_callV hX MX0_thickNow (ci := 0) (n := 1) (RX0, TX0, 20) rfl rfl (lw_V q340 q342 qs1 q152 q343) npX0_thickNow dX0_fullOf_27 (js_iadd hX dX0_fullOf_30 (js_istore_n hX dX0_fullOf_31 rfl (by decide) (js_iinc hX dX0_fullOf_32 (by decide) (js_goto hX (tgt := 4) dX0_fullOf_35 rfl (hK 1)))))))))))))))))))
  | k + 2 => intro ls st h nc ns hf; exact hf.elim
def bX0_thickNow : jjB := fun e K k => match k with
  | 0 => (ji_const 0 (ji_istore 2 (ji_aload 0 (ji_getfR 0 0 (ji_getfR 1 2 (ji_const 43 (ji_iald (ji_const 1 (ji_icmp_ne (K 1)
    (ji_aload 0 (ji_callV e MX0_rules 0 1 (ji_getfR 4 2 (ji_ifnull (K 1)
    (ji_aload 0 (ji_iload 1 (ji_callV e MX0_namesOwn 0 2 (ji_lconst 0 (ji_lconst 9 (ji_aload 0 (ji_callV e MX0_rules 0 1 (ji_getfR 4 2 (ji_aload 0 (ji_getfR 0 6 (ji_callF e [(8, MX8_of), (9, MX9_of), (10, MX10_of), (7, MX7_of)] 2 (ji_callS e MJ3_min 2 (ji_callS e MJ3_max 2 (ji_l2i (ji_istore 2 (K 1)))))))))))))))))))))))))))))
  | 1 => (ji_aload 0 (ji_getfR 0 0 (ji_getfR 1 3 (ji_iload 1 (ji_aald (-5) (ji_const 2 (ji_iald (ji_iload 2 (ji_iadd (ji_ireturn e))))))))))
  | _ => fun _ _ _ _ _ => False
def pX0_thickNow : Nat → Nat := fun k => match k with
  | 0 => 0
  | 1 => 59
  | _ => 0
theorem sX0_thickNow : jSound bX0_thickNow pX0_thickNow MX0_thickNow := by
  intro e p ev R s m args below meth c hX hr hn hlk K hK k
  match k with
  | 0 => exact (js_const hX (z := 0) (by unfold inI; omega) dX0_thickNow_0 (Or.inl ⟨0, rfl, rfl, rfl⟩) (js_istore_n hX dX0_thickNow_1 rfl (by decide) (js_aload_n hX dX0_thickNow_2 rfl (js_getfR hX (ci := 0) (k := 0) (RX0, TX0, 20) rfl (by decide) rfl (Or.inl q255) (fun _ h => h) dX0_thickNow_3 (js_getfR hX (ci := 1) (k := 2) (RX1, TX1, 7) rfl (by decide) rfl (Or.inr ⟨_, q216⟩) (fun _ h => h) dX0_thickNow_6 (js_const hX (z := 43) (by unfold inI; omega) dX0_thickNow_9 (Or.inr (Or.inl ⟨43, rfl, rfl, rfl⟩)) (js_iald hX dX0_thickNow_11 (js_const hX (z := 1) (by unfold inI; omega) dX0_thickNow_12 (Or.inl ⟨1, rfl, rfl, rfl⟩) (js_icmp_ne hX (tgt := 59) dX0_thickNow_13 rfl (hK 1)
    (js_aload_n hX dX0_thickNow_16 rfl (js_callV hX MX0_rules (ci := 0) (n := 0) (RX0, TX0, 20) rfl rfl (lw_V q344 q346 qs2 q152 q347) npX0_rules dX0_thickNow_17 (js_getfR hX (ci := 4) (k := 2) (RX4, TX4, 6) rfl (by decide) rfl (Or.inr ⟨_, q523⟩) (fun _ h => h) dX0_thickNow_20 (js_ifnull hX (tgt := 59) dX0_thickNow_23 rfl (hK 1)
    (js_aload_n hX dX0_thickNow_26 rfl (js_iload_n hX dX0_thickNow_27 rfl (js_callV hX MX0_namesOwn (ci := 0) (n := 1) (RX0, TX0, 20) rfl rfl (lw_V q350 q352 qs3 q152 q353) npX0_namesOwn dX0_thickNow_28 (js_lconst hX (z := 0) (by unfold inL; omega) dX0_thickNow_31 rfl (js_ldc2 hX (z := 9) (by unfold inL; omega) dX0_thickNow_32 q355 (js_aload_n hX dX0_thickNow_35 rfl (js_callV hX MX0_rules (ci := 0) (n := 0) (RX0, TX0, 20) rfl rfl (lw_V q344 q346 qs2 q152 q347) npX0_rules dX0_thickNow_36 (js_getfR hX (ci := 4) (k := 2) (RX4, TX4, 6) rfl (by decide) rfl (Or.inr ⟨_, q523⟩) (fun _ h => h) dX0_thickNow_39 (js_aload_n hX dX0_thickNow_42 rfl (js_getfR hX (ci := 0) (k := 6) (RX0, TX0, 20) rfl (by decide) rfl (Or.inl q261) (fun _ h => h) dX0_thickNow_43 (js_callF hX ⟨"SelfSorting$Sum", "of", "([I)J"⟩ (l := [(8, MX8_of), (9, MX9_of), (10, MX10_of), (7, MX7_of)]) (n := 1) (List.forall_mem_cons.mpr ⟨⟨(RX8, TX8, 1), rfl, lw_app (jF_ws q357 q383 q385 q174) (lw_meth q387), by decide +kernel⟩, List.forall_mem_cons.mpr ⟨⟨(RX9, TX9, 1), rfl, lw_app (jF_ws q357 q377 q379 q175) (lw_meth q381), by decide +kernel⟩, List.forall_mem_cons.mpr ⟨⟨(RX10, TX10, 1), rfl, lw_app (jF_ws q357 q369 q371 q176) (lw_meth q373), by decide +kernel⟩, List.forall_mem_cons.mpr ⟨⟨(RX7, TX7, 3), rfl, lw_app (jF_ws q357 q361 q363 q173) (lw_meth q365), by decide +kernel⟩, fun _ h => (by cases h)⟩⟩⟩⟩) (by decide +kernel) dX0_thickNow_46 (js_callS hX MJ3_min (n := 2) (lw_S q420 q415 q159 q416) npJ3_min dX0_thickNow_51 (js_callS hX MJ3_max (n := 2) (lw_S q421 q418 q159 q419) npJ3_max dX0_thickNow_54 (js_l2i hX dX0_thickNow_57 (js_istore_n hX dX0_thickNow_58 rfl (by decide) (hK 1)))))))))))))))))))))))))))))
  | 1 => exact (js_aload_n hX dX0_thickNow_59 rfl (js_getfR hX (ci := 0) (k := 0) (RX0, TX0, 20) rfl (by decide) rfl (Or.inl q255) (fun _ h => h) dX0_thickNow_60 (js_getfR hX (ci := 1) (k := 3) (RX1, TX1, 7) rfl (by decide) rfl (Or.inr ⟨_, q218⟩) (fun _ h => h) dX0_thickNow_63 (js_iload_n hX dX0_thickNow_66 rfl (js_aald hX (cd := (-5)) (by decide) rfl rfl dX0_thickNow_67 (js_const hX (z := 2) (by unfold inI; omega) dX0_thickNow_68 (Or.inl ⟨2, rfl, rfl, rfl⟩) (js_iald hX dX0_thickNow_69 (js_iload_n hX dX0_thickNow_70 rfl (js_iadd hX dX0_thickNow_71 (js_ireturn hX hr hlk dX0_thickNow_72))))))))))
  | k + 2 => intro ls st h nc ns hf; exact hf.elim
def bX0_rules : jjB := fun e K k => match k with
  | 0 => (ji_aload 0 (ji_getfR 0 0 (ji_getfR 1 0 (ji_const 3 (ji_iald (ji_const (-1) (ji_icmp_ne (ji_aload 0 (ji_getfR 0 0 (ji_getfR 1 6 (ji_aload 0 (ji_getfR 0 0 (ji_getfR 1 0 (ji_const 3 (ji_iald (ji_aald (-6) (K 1))))))))))
    (ji_refc 2 (ji_goto (K 1))))))))))
  | 1 => (ji_areturn e)
  | _ => fun _ _ _ _ _ => False
def pX0_rules : Nat → Nat := fun k => match k with
  | 0 => 0
  | 1 => 36
  | _ => 0
theorem sX0_rules : jSound bX0_rules pX0_rules MX0_rules := by
  intro e p ev R s m args below meth c hX hr hn hlk K hK k
  match k with
  | 0 => exact (js_aload_n hX dX0_rules_0 rfl (js_getfR hX (ci := 0) (k := 0) (RX0, TX0, 20) rfl (by decide) rfl (Or.inl q255) (fun _ h => h) dX0_rules_1 (js_getfR hX (ci := 1) (k := 0) (RX1, TX1, 7) rfl (by decide) rfl (Or.inr ⟨_, q212⟩) (fun _ h => h) dX0_rules_4 (js_const hX (z := 3) (by unfold inI; omega) dX0_rules_7 (Or.inl ⟨3, rfl, rfl, rfl⟩) (js_iald hX dX0_rules_8 (js_const hX (z := (-1)) (by unfold inI; omega) dX0_rules_9 (Or.inl ⟨(-1), rfl, rfl, rfl⟩) (js_icmp_ne hX (tgt := 19) dX0_rules_10 rfl (js_aload_n hX dX0_rules_19 rfl (js_getfR hX (ci := 0) (k := 0) (RX0, TX0, 20) rfl (by decide) rfl (Or.inl q255) (fun _ h => h) dX0_rules_20 (js_getfR hX (ci := 1) (k := 6) (RX1, TX1, 7) rfl (by decide) rfl (Or.inr ⟨_, q224⟩) (fun _ h => h) dX0_rules_23 (js_aload_n hX dX0_rules_26 rfl (js_getfR hX (ci := 0) (k := 0) (RX0, TX0, 20) rfl (by decide) rfl (Or.inl q255) (fun _ h => h) dX0_rules_27 (js_getfR hX (ci := 1) (k := 0) (RX1, TX1, 7) rfl (by decide) rfl (Or.inr ⟨_, q212⟩) (fun _ h => h) dX0_rules_30 (js_const hX (z := 3) (by unfold inI; omega) dX0_rules_33 (Or.inl ⟨3, rfl, rfl, rfl⟩) (js_iald hX dX0_rules_34 (js_aald hX (cd := (-6)) (by decide) rfl rfl dX0_rules_35 (hK 1))))))))))
    (js_getsR hX (z := 2) (by decide) (by simp [jst]) q348 (fun _ h => h) dX0_rules_13 (js_goto hX (tgt := 36) dX0_rules_16 rfl (hK 1))))))))))
  | 1 => exact (js_areturn hX hr (by first | exact Or.inl ⟨_, rfl⟩ | exact Or.inr ⟨_, rfl⟩) hlk dX0_rules_36)
  | k + 2 => intro ls st h nc ns hf; exact hf.elim
def bX0_namesOwn : jjB := fun e K k => match k with
  | 0 => (ji_aload 0 (ji_getfR 0 6 (ji_const 0 (ji_iload 1 (ji_iast (ji_aload 0 (ji_getfR 0 0 (ji_getfR 1 3 (ji_iload 1 (ji_aald (-5) (ji_const 0 (ji_aload 0 (ji_getfR 0 6 (ji_const 1 (ji_const 4 (ji_acopyI (ji_aload 0 (ji_getfR 0 6 (ji_const 5 (ji_aload 0 (ji_getfR 0 0 (ji_getfR 1 2 (ji_const 43 (ji_iald (ji_iast (ji_return e))))))))))))))))))))))))))
  | _ => fun _ _ _ _ _ => False
def pX0_namesOwn : Nat → Nat := fun k => match k with
  | 0 => 0
  | _ => 0
theorem sX0_namesOwn : jSound bX0_namesOwn pX0_namesOwn MX0_namesOwn := by
  intro e p ev R s m args below meth c hX hr hn hlk K hK k
  match k with
  | 0 => exact (js_aload_n hX dX0_namesOwn_0 rfl (js_getfR hX (ci := 0) (k := 6) (RX0, TX0, 20) rfl (by decide) rfl (Or.inl q261) (fun _ h => h) dX0_namesOwn_1 (js_const hX (z := 0) (by unfold inI; omega) dX0_namesOwn_4 (Or.inl ⟨0, rfl, rfl, rfl⟩) (js_iload_n hX dX0_namesOwn_5 rfl (js_iast hX dX0_namesOwn_6 (js_aload_n hX dX0_namesOwn_7 rfl (js_getfR hX (ci := 0) (k := 0) (RX0, TX0, 20) rfl (by decide) rfl (Or.inl q255) (fun _ h => h) dX0_namesOwn_8 (js_getfR hX (ci := 1) (k := 3) (RX1, TX1, 7) rfl (by decide) rfl (Or.inr ⟨_, q218⟩) (fun _ h => h) dX0_namesOwn_11 (js_iload_n hX dX0_namesOwn_14 rfl (js_aald hX (cd := (-5)) (by decide) rfl rfl dX0_namesOwn_15 (js_const hX (z := 0) (by unfold inI; omega) dX0_namesOwn_16 (Or.inl ⟨0, rfl, rfl, rfl⟩) (js_aload_n hX dX0_namesOwn_17 rfl (js_getfR hX (ci := 0) (k := 6) (RX0, TX0, 20) rfl (by decide) rfl (Or.inl q261) (fun _ h => h) dX0_namesOwn_18 (js_const hX (z := 1) (by unfold inI; omega) dX0_namesOwn_21 (Or.inl ⟨1, rfl, rfl, rfl⟩) (js_const hX (z := 4) (by unfold inI; omega) dX0_namesOwn_22 (Or.inl ⟨4, rfl, rfl, rfl⟩) (js_acopyI hX q354 dX0_namesOwn_23 (js_aload_n hX dX0_namesOwn_26 rfl (js_getfR hX (ci := 0) (k := 6) (RX0, TX0, 20) rfl (by decide) rfl (Or.inl q261) (fun _ h => h) dX0_namesOwn_27 (js_const hX (z := 5) (by unfold inI; omega) dX0_namesOwn_30 (Or.inl ⟨5, rfl, rfl, rfl⟩) (js_aload_n hX dX0_namesOwn_31 rfl (js_getfR hX (ci := 0) (k := 0) (RX0, TX0, 20) rfl (by decide) rfl (Or.inl q255) (fun _ h => h) dX0_namesOwn_32 (js_getfR hX (ci := 1) (k := 2) (RX1, TX1, 7) rfl (by decide) rfl (Or.inr ⟨_, q216⟩) (fun _ h => h) dX0_namesOwn_35 (js_const hX (z := 43) (by unfold inI; omega) dX0_namesOwn_38 (Or.inr (Or.inl ⟨43, rfl, rfl, rfl⟩)) (js_iald hX dX0_namesOwn_40 (js_iast hX dX0_namesOwn_41 (js_return hX hr hlk dX0_namesOwn_42))))))))))))))))))))))))))
  | k + 1 => intro ls st h nc ns hf; exact hf.elim
def bX0_book : jjB := fun e K k => match k with
  | 0 => (ji_aload 0 (ji_getfR 0 0 (ji_getfR 1 0 (ji_const 0 (ji_iald (ji_istore 6 (ji_iload 1 (ji_const 0 (ji_const 9 (ji_callS e MX0_in 3 (ji_if_eq (K 1)
    (ji_iload 2 (ji_const 0 (ji_const 9 (ji_callS e MX0_in 3 (ji_if_eq (K 1)
    (ji_iload 3 (ji_const 1 (ji_const 9 (ji_callS e MX0_in 3 (ji_if_eq (K 1)
    (ji_iload 4 (ji_const 0 (ji_const 9 (ji_callS e MX0_in 3 (ji_if_eq (K 1)
    (ji_iload 5 (ji_const 0 (ji_const 5 (ji_callS e MX0_in 3 (ji_if_eq (K 1)
    (ji_iload 6 (ji_const 10 (ji_icmp_ne (ji_const 5 (ji_newarr e (-1) (ji_dup (ji_const 0 (ji_iload 1 (ji_iast (ji_dup (ji_const 1 (ji_iload 2 (ji_iast (ji_dup (ji_const 2 (ji_iload 3 (ji_iast (ji_dup (ji_const 3 (ji_iload 4 (ji_iast (ji_dup (ji_const 4 (ji_iload 5 (ji_iast (ji_astore 7 (ji_aload 7 (ji_aload 0 (ji_getfR 0 0 (ji_getfR 1 3 (ji_iload 6 (ji_aald (-5) (ji_callS e MX1_copy 2 (ji_aload 0 (ji_getfR 0 0 (ji_getfR 1 0 (ji_const 0 (ji_dup2 (ji_iald (ji_const 1 (ji_iadd (ji_iast (ji_iload 6 (ji_ireturn e)))))))))))))))))))))))))))))))))))))))))
    (K 1)))))))))))))))))))))))))))))))))))
  | 1 => (ji_const (-1) (ji_ireturn e))
  | _ => fun _ _ _ _ _ => False
def pX0_book : Nat → Nat := fun k => match k with
  | 0 => 0
  | 1 => 69
  | _ => 0
theorem sX0_book : jSound bX0_book pX0_book MX0_book := by
  intro e p ev R s m args below meth c hX hr hn hlk K hK k
  match k with
  | 0 => exact (js_aload_n hX dX0_book_0 rfl (js_getfR hX (ci := 0) (k := 0) (RX0, TX0, 20) rfl (by decide) rfl (Or.inl q255) (fun _ h => h) dX0_book_1 (js_getfR hX (ci := 1) (k := 0) (RX1, TX1, 7) rfl (by decide) rfl (Or.inr ⟨_, q212⟩) (fun _ h => h) dX0_book_4 (js_const hX (z := 0) (by unfold inI; omega) dX0_book_7 (Or.inl ⟨0, rfl, rfl, rfl⟩) (js_iald hX dX0_book_8 (js_istore hX dX0_book_9 (by decide) (js_iload_n hX dX0_book_11 rfl (js_const hX (z := 0) (by unfold inI; omega) dX0_book_12 (Or.inl ⟨0, rfl, rfl, rfl⟩) (js_const hX (z := 9) (by unfold inI; omega) dX0_book_13 (Or.inr (Or.inl ⟨9, rfl, rfl, rfl⟩)) (js_callS hX MX0_in (n := 3) (lw_S q325 q326 q152 q327) npX0_in dX0_book_15 (js_if_eq hX (tgt := 69) dX0_book_18 rfl (hK 1)
    (js_iload_n hX dX0_book_21 rfl (js_const hX (z := 0) (by unfold inI; omega) dX0_book_22 (Or.inl ⟨0, rfl, rfl, rfl⟩) (js_const hX (z := 9) (by unfold inI; omega) dX0_book_23 (Or.inr (Or.inl ⟨9, rfl, rfl, rfl⟩)) (js_callS hX MX0_in (n := 3) (lw_S q325 q326 q152 q327) npX0_in dX0_book_25 (js_if_eq hX (tgt := 69) dX0_book_28 rfl (hK 1)
    (js_iload_n hX dX0_book_31 rfl (js_const hX (z := 1) (by unfold inI; omega) dX0_book_32 (Or.inl ⟨1, rfl, rfl, rfl⟩) (js_const hX (z := 9) (by unfold inI; omega) dX0_book_33 (Or.inr (Or.inl ⟨9, rfl, rfl, rfl⟩)) (js_callS hX MX0_in (n := 3) (lw_S q325 q326 q152 q327) npX0_in dX0_book_35 (js_if_eq hX (tgt := 69) dX0_book_38 rfl (hK 1)
    (js_iload hX dX0_book_41 (js_const hX (z := 0) (by unfold inI; omega) dX0_book_43 (Or.inl ⟨0, rfl, rfl, rfl⟩) (js_const hX (z := 9) (by unfold inI; omega) dX0_book_44 (Or.inr (Or.inl ⟨9, rfl, rfl, rfl⟩)) (js_callS hX MX0_in (n := 3) (lw_S q325 q326 q152 q327) npX0_in dX0_book_46 (js_if_eq hX (tgt := 69) dX0_book_49 rfl (hK 1)
    (js_iload hX dX0_book_52 (js_const hX (z := 0) (by unfold inI; omega) dX0_book_54 (Or.inl ⟨0, rfl, rfl, rfl⟩) (js_const hX (z := 5) (by unfold inI; omega) dX0_book_55 (Or.inl ⟨5, rfl, rfl, rfl⟩) (js_callS hX MX0_in (n := 3) (lw_S q325 q326 q152 q327) npX0_in dX0_book_56 (js_if_eq hX (tgt := 69) dX0_book_59 rfl (hK 1)
    (js_iload hX dX0_book_62 (js_const hX (z := 10) (by unfold inI; omega) dX0_book_64 (Or.inr (Or.inl ⟨10, rfl, rfl, rfl⟩)) (js_icmp_ne hX (tgt := 71) dX0_book_66 rfl (js_const hX (z := 5) (by unfold inI; omega) dX0_book_71 (Or.inl ⟨5, rfl, rfl, rfl⟩) (js_newarr hX (cd := (-1)) (atype := .int) (by decide) (by decide) rfl rfl (fun _ _ h => h) (by decide) q240 dX0_book_72 (js_dup hX dX0_book_74 (js_const hX (z := 0) (by unfold inI; omega) dX0_book_75 (Or.inl ⟨0, rfl, rfl, rfl⟩) (js_iload_n hX dX0_book_76 rfl (js_iast hX dX0_book_77 (js_dup hX dX0_book_78 (js_const hX (z := 1) (by unfold inI; omega) dX0_book_79 (Or.inl ⟨1, rfl, rfl, rfl⟩) (js_iload_n hX dX0_book_80 rfl (js_iast hX dX0_book_81 (js_dup hX dX0_book_82 (js_const hX (z := 2) (by unfold inI; omega) dX0_book_83 (Or.inl ⟨2, rfl, rfl, rfl⟩) (js_iload_n hX dX0_book_84 rfl (js_iast hX dX0_book_85 (js_dup hX dX0_book_86 (js_const hX (z := 3) (by unfold inI; omega) dX0_book_87 (Or.inl ⟨3, rfl, rfl, rfl⟩) (js_iload hX dX0_book_88 (js_iast hX dX0_book_90 (js_dup hX dX0_book_91 (js_const hX (z := 4) (by unfold inI; omega) dX0_book_92 (Or.inl ⟨4, rfl, rfl, rfl⟩) (js_iload hX dX0_book_93 (js_iast hX dX0_book_95 (js_astore hX dX0_book_96 (by decide) (js_aload hX dX0_book_98 (js_aload_n hX dX0_book_100 rfl (js_getfR hX (ci := 0) (k := 0) (RX0, TX0, 20) rfl (by decide) rfl (Or.inl q255) (fun _ h => h) dX0_book_101 (js_getfR hX (ci := 1) (k := 3) (RX1, TX1, 7) rfl (by decide) rfl (Or.inr ⟨_, q218⟩) (fun _ h => h) dX0_book_104 (js_iload hX dX0_book_107 (js_aald hX (cd := (-5)) (by decide) rfl rfl dX0_book_109 (js_callSN hX MX1_copy (n := 2) q426 q247 q153 (lw_meth q248) npX1_copy dX0_book_110 (js_aload_n hX dX0_book_113 rfl (js_getfR hX (ci := 0) (k := 0) (RX0, TX0, 20) rfl (by decide) rfl (Or.inl q255) (fun _ h => h) dX0_book_114 (js_getfR hX (ci := 1) (k := 0) (RX1, TX1, 7) rfl (by decide) rfl (Or.inr ⟨_, q212⟩) (fun _ h => h) dX0_book_117 (js_const hX (z := 0) (by unfold inI; omega) dX0_book_120 (Or.inl ⟨0, rfl, rfl, rfl⟩) (js_dup2 hX dX0_book_121 (js_iald hX dX0_book_122 (js_const hX (z := 1) (by unfold inI; omega) dX0_book_123 (Or.inl ⟨1, rfl, rfl, rfl⟩) (js_iadd hX dX0_book_124 (js_iast hX dX0_book_125 (js_iload hX dX0_book_126 (js_ireturn hX hr hlk dX0_book_128)))))))))))))))))))))))))))))))))))))))))
    (hK 1)))))))))))))))))))))))))))))))))))
  | 1 => exact (js_const hX (z := (-1)) (by unfold inI; omega) dX0_book_69 (Or.inl ⟨(-1), rfl, rfl, rfl⟩) (js_ireturn hX hr hlk dX0_book_70))
  | k + 2 => intro ls st h nc ns hf; exact hf.elim
def bX0_need : jjB := fun e K k => match k with
  | 0 => (ji_iload 1 (ji_const 1 (ji_const 2 (ji_callS e MX0_in 3 (ji_if_ne (ji_aload 0 (ji_getfR 0 0 (ji_getfR 1 0 (ji_const 1 (ji_iload 1 (ji_iast (ji_const 1 (ji_zreturn e))))))))
    (ji_const 0 (ji_zreturn e)))))))
  | _ => fun _ _ _ _ _ => False
def pX0_need : Nat → Nat := fun k => match k with
  | 0 => 0
  | _ => 0
theorem sX0_need : jSound bX0_need pX0_need MX0_need := by
  intro e p ev R s m args below meth c hX hr hn hlk K hK k
  match k with
  | 0 => exact (js_iload_n hX dX0_need_0 rfl (js_const hX (z := 1) (by unfold inI; omega) dX0_need_1 (Or.inl ⟨1, rfl, rfl, rfl⟩) (js_const hX (z := 2) (by unfold inI; omega) dX0_need_2 (Or.inl ⟨2, rfl, rfl, rfl⟩) (js_callS hX MX0_in (n := 3) (lw_S q325 q326 q152 q327) npX0_in dX0_need_3 (js_if_ne hX (tgt := 11) dX0_need_6 rfl (js_aload_n hX dX0_need_11 rfl (js_getfR hX (ci := 0) (k := 0) (RX0, TX0, 20) rfl (by decide) rfl (Or.inl q255) (fun _ h => h) dX0_need_12 (js_getfR hX (ci := 1) (k := 0) (RX1, TX1, 7) rfl (by decide) rfl (Or.inr ⟨_, q212⟩) (fun _ h => h) dX0_need_15 (js_const hX (z := 1) (by unfold inI; omega) dX0_need_18 (Or.inl ⟨1, rfl, rfl, rfl⟩) (js_iload_n hX dX0_need_19 rfl (js_iast hX dX0_need_20 (js_const hX (z := 1) (by unfold inI; omega) dX0_need_21 (Or.inl ⟨1, rfl, rfl, rfl⟩) (js_zreturn hX hr hlk dX0_need_22))))))))
    (js_const hX (z := 0) (by unfold inI; omega) dX0_need_9 (Or.inl ⟨0, rfl, rfl, rfl⟩) (js_zreturn hX hr hlk dX0_need_10)))))))
  | k + 1 => intro ls st h nc ns hf; exact hf.elim
def bX0_feed : jjB := fun e K k => match k with
  | 0 => (ji_aload 0 (ji_getfI 0 3 (ji_const 20 (ji_iadd (ji_const 300 (ji_icmp_le (ji_aload 0 (ji_iload 1 (ji_callV e MX0_put 0 2 (ji_aload 0 (ji_iload 2 (ji_callV e MX0_put 0 2 (ji_aload 0 (ji_iload 3 (ji_callV e MX0_put 0 2 (ji_aload 0 (ji_iload 4 (ji_callV e MX0_put 0 2 (ji_aload 0 (ji_iload 5 (ji_callV e MX0_put 0 2 (ji_aload 0 (ji_getfI 0 3 (ji_ireturn e))))))))))))))))))
    (ji_const (-1) (ji_ireturn e))))))))
  | _ => fun _ _ _ _ _ => False
def pX0_feed : Nat → Nat := fun k => match k with
  | 0 => 0
  | _ => 0
theorem sX0_feed : jSound bX0_feed pX0_feed MX0_feed := by
  intro e p ev R s m args below meth c hX hr hn hlk K hK k
  match k with
  | 0 => exact (js_aload_n hX dX0_feed_0 rfl (js_getfI hX (ci := 0) (k := 3) (RX0, TX0, 20) rfl (by decide) rfl (Or.inl q258) (fun _ h => h) dX0_feed_1 (js_const hX (z := 20) (by unfold inI; omega) dX0_feed_4 (Or.inr (Or.inl ⟨20, rfl, rfl, rfl⟩)) (js_iadd hX dX0_feed_6 (js_const hX (z := 300) (by unfold inI; omega) dX0_feed_7 (Or.inr (Or.inr (Or.inl ⟨300, rfl, rfl, rfl⟩))) (js_icmp_le hX (tgt := 15) dX0_feed_10 rfl (js_aload_n hX dX0_feed_15 rfl (js_iload_n hX dX0_feed_16 rfl (js_callV hX MX0_put (ci := 0) (n := 1) (RX0, TX0, 20) rfl rfl (lw_V q435 q437 qs4 q152 q438) npX0_put dX0_feed_17 (js_aload_n hX dX0_feed_20 rfl (js_iload_n hX dX0_feed_21 rfl (js_callV hX MX0_put (ci := 0) (n := 1) (RX0, TX0, 20) rfl rfl (lw_V q435 q437 qs4 q152 q438) npX0_put dX0_feed_22 (js_aload_n hX dX0_feed_25 rfl (js_iload_n hX dX0_feed_26 rfl (js_callV hX MX0_put (ci := 0) (n := 1) (RX0, TX0, 20) rfl rfl (lw_V q435 q437 qs4 q152 q438) npX0_put dX0_feed_27 (js_aload_n hX dX0_feed_30 rfl (js_iload hX dX0_feed_31 (js_callV hX MX0_put (ci := 0) (n := 1) (RX0, TX0, 20) rfl rfl (lw_V q435 q437 qs4 q152 q438) npX0_put dX0_feed_33 (js_aload_n hX dX0_feed_36 rfl (js_iload hX dX0_feed_37 (js_callV hX MX0_put (ci := 0) (n := 1) (RX0, TX0, 20) rfl rfl (lw_V q435 q437 qs4 q152 q438) npX0_put dX0_feed_39 (js_aload_n hX dX0_feed_42 rfl (js_getfI hX (ci := 0) (k := 3) (RX0, TX0, 20) rfl (by decide) rfl (Or.inl q258) (fun _ h => h) dX0_feed_43 (js_ireturn hX hr hlk dX0_feed_46))))))))))))))))))
    (js_const hX (z := (-1)) (by unfold inI; omega) dX0_feed_13 (Or.inl ⟨(-1), rfl, rfl, rfl⟩) (js_ireturn hX hr hlk dX0_feed_14))))))))
  | k + 1 => intro ls st h nc ns hf; exact hf.elim
def bX0_put : jjB := fun e K k => match k with
  | 0 => (ji_const 24 (ji_istore 2 (K 1)))
  | 1 => (ji_iload 2 (ji_if_lt (ji_return e)
    (ji_aload 0 (ji_getfR 0 2 (ji_aload 0 (ji_getfI 0 3 (ji_iload 1 (ji_iload 2 (ji_ishr (ji_i2b (ji_bast (ji_aload 0 (ji_dup (ji_getfI 0 3 (ji_const 1 (ji_iadd (ji_putfI 0 3 (ji_iinc 2 (-8) (ji_goto (K 1))))))))))))))))))))
  | _ => fun _ _ _ _ _ => False
def pX0_put : Nat → Nat := fun k => match k with
  | 0 => 0
  | 1 => 3
  | _ => 0
theorem sX0_put : jSound bX0_put pX0_put MX0_put := by
  intro e p ev R s m args below meth c hX hr hn hlk K hK k
  match k with
  | 0 => exact (js_const hX (z := 24) (by unfold inI; omega) dX0_put_0 (Or.inr (Or.inl ⟨24, rfl, rfl, rfl⟩)) (js_istore_n hX dX0_put_2 rfl (by decide) (hK 1)))
  | 1 => exact (js_iload_n hX dX0_put_3 rfl (js_if_lt hX (tgt := 36) dX0_put_4 rfl (js_return hX hr hlk dX0_put_36)
    (js_aload_n hX dX0_put_7 rfl (js_getfR hX (ci := 0) (k := 2) (RX0, TX0, 20) rfl (by decide) rfl (Or.inl q257) (fun _ h => h) dX0_put_8 (js_aload_n hX dX0_put_11 rfl (js_getfI hX (ci := 0) (k := 3) (RX0, TX0, 20) rfl (by decide) rfl (Or.inl q258) (fun _ h => h) dX0_put_12 (js_iload_n hX dX0_put_15 rfl (js_iload_n hX dX0_put_16 rfl (js_ishr hX dX0_put_17 (js_i2b hX dX0_put_18 (js_bast hX dX0_put_19 (js_aload_n hX dX0_put_20 rfl (js_dup hX dX0_put_21 (js_getfI hX (ci := 0) (k := 3) (RX0, TX0, 20) rfl (by decide) rfl (Or.inl q258) (fun _ h => h) dX0_put_22 (js_const hX (z := 1) (by unfold inI; omega) dX0_put_25 (Or.inl ⟨1, rfl, rfl, rfl⟩) (js_iadd hX dX0_put_26 (js_putfI hX (ci := 0) (k := 3) (RX0, TX0, 20) rfl (by decide) rfl (Or.inl q258) (fun _ h => h) (Or.inl rfl) dX0_put_27 (js_iinc hX dX0_put_30 (by decide) (js_goto hX (tgt := 3) dX0_put_33 rfl (hK 1))))))))))))))))))))
  | k + 2 => intro ls st h nc ns hf; exact hf.elim
def bX0_end : jjB := fun e K k => match k with
  | 0 => (ji_iload 1 (ji_const 0 (ji_aload 0 (ji_getfI 0 3 (ji_callS e MX0_in 3 (ji_if_ne (ji_aload 0 (ji_iload 1 (ji_putfI 0 3 (ji_iload 1 (ji_ireturn e)))))
    (ji_const (-1) (ji_ireturn e))))))))
  | _ => fun _ _ _ _ _ => False
def pX0_end : Nat → Nat := fun k => match k with
  | 0 => 0
  | _ => 0
theorem sX0_end : jSound bX0_end pX0_end MX0_end := by
  intro e p ev R s m args below meth c hX hr hn hlk K hK k
  match k with
  | 0 => exact (js_iload_n hX dX0_end_0 rfl (js_const hX (z := 0) (by unfold inI; omega) dX0_end_1 (Or.inl ⟨0, rfl, rfl, rfl⟩) (js_aload_n hX dX0_end_2 rfl (js_getfI hX (ci := 0) (k := 3) (RX0, TX0, 20) rfl (by decide) rfl (Or.inl q258) (fun _ h => h) dX0_end_3 (js_callS hX MX0_in (n := 3) (lw_S q325 q326 q152 q327) npX0_in dX0_end_6 (js_if_ne hX (tgt := 14) dX0_end_9 rfl (js_aload_n hX dX0_end_14 rfl (js_iload_n hX dX0_end_15 rfl (js_putfI hX (ci := 0) (k := 3) (RX0, TX0, 20) rfl (by decide) rfl (Or.inl q258) (fun _ h => h) (Or.inl rfl) dX0_end_16 (js_iload_n hX dX0_end_19 rfl (js_ireturn hX hr hlk dX0_end_20)))))
    (js_const hX (z := (-1)) (by unfold inI; omega) dX0_end_12 (Or.inl ⟨(-1), rfl, rfl, rfl⟩) (js_ireturn hX hr hlk dX0_end_13))))))))
  | k + 1 => intro ls st h nc ns hf; exact hf.elim
def bX0_fault : jjB := fun e K k => match k with
  | 0 => (ji_iload 1 (ji_if_ne (ji_iload 1 (ji_const 1 (ji_icmp_ne (ji_const (-1) (K 1))
    (ji_aload 0 (ji_getfI 0 5 (ji_goto (K 1)))))))
    (ji_aload 0 (ji_getfI 0 4 (ji_goto (K 1))))))
  | 1 => (ji_ireturn e)
  | _ => fun _ _ _ _ _ => False
def pX0_fault : Nat → Nat := fun k => match k with
  | 0 => 0
  | 1 => 24
  | _ => 0
theorem sX0_fault : jSound bX0_fault pX0_fault MX0_fault := by
  intro e p ev R s m args below meth c hX hr hn hlk K hK k
  match k with
  | 0 => exact (js_iload_n hX dX0_fault_0 rfl (js_if_ne hX (tgt := 11) dX0_fault_1 rfl (js_iload_n hX dX0_fault_11 rfl (js_const hX (z := 1) (by unfold inI; omega) dX0_fault_12 (Or.inl ⟨1, rfl, rfl, rfl⟩) (js_icmp_ne hX (tgt := 23) dX0_fault_13 rfl (js_const hX (z := (-1)) (by unfold inI; omega) dX0_fault_23 (Or.inl ⟨(-1), rfl, rfl, rfl⟩) (hK 1))
    (js_aload_n hX dX0_fault_16 rfl (js_getfI hX (ci := 0) (k := 5) (RX0, TX0, 20) rfl (by decide) rfl (Or.inl q260) (fun _ h => h) dX0_fault_17 (js_goto hX (tgt := 24) dX0_fault_20 rfl (hK 1)))))))
    (js_aload_n hX dX0_fault_4 rfl (js_getfI hX (ci := 0) (k := 4) (RX0, TX0, 20) rfl (by decide) rfl (Or.inl q259) (fun _ h => h) dX0_fault_5 (js_goto hX (tgt := 24) dX0_fault_8 rfl (hK 1))))))
  | 1 => exact (js_ireturn hX hr hlk dX0_fault_24)
  | k + 2 => intro ls st h nc ns hf; exact hf.elim
def bX0_by : jjB := fun e K k => match k with
  | 0 => (ji_iload 1 (ji_const (-1) (ji_icmp_eq (K 1)
    (ji_aload 0 (ji_iload 1 (ji_callV e MX0_isText 0 2 (ji_if_ne (K 1)
    (ji_const 0 (ji_zreturn e)))))))))
  | 1 => (ji_aload 0 (ji_getfR 0 0 (ji_getfR 1 0 (ji_const 3 (ji_iload 1 (ji_iast (ji_const 1 (ji_zreturn e))))))))
  | _ => fun _ _ _ _ _ => False
def pX0_by : Nat → Nat := fun k => match k with
  | 0 => 0
  | 1 => 15
  | _ => 0
theorem sX0_by : jSound bX0_by pX0_by MX0_by := by
  intro e p ev R s m args below meth c hX hr hn hlk K hK k
  match k with
  | 0 => exact (js_iload_n hX dX0_by_0 rfl (js_const hX (z := (-1)) (by unfold inI; omega) dX0_by_1 (Or.inl ⟨(-1), rfl, rfl, rfl⟩) (js_icmp_eq hX (tgt := 15) dX0_by_2 rfl (hK 1)
    (js_aload_n hX dX0_by_5 rfl (js_iload_n hX dX0_by_6 rfl (js_callV hX MX0_isText (ci := 0) (n := 1) (RX0, TX0, 20) rfl rfl (lw_V q951 q953 qs26 q152 q954) npX0_isText dX0_by_7 (js_if_ne hX (tgt := 15) dX0_by_10 rfl (hK 1)
    (js_const hX (z := 0) (by unfold inI; omega) dX0_by_13 (Or.inl ⟨0, rfl, rfl, rfl⟩) (js_zreturn hX hr hlk dX0_by_14)))))))))
  | 1 => exact (js_aload_n hX dX0_by_15 rfl (js_getfR hX (ci := 0) (k := 0) (RX0, TX0, 20) rfl (by decide) rfl (Or.inl q255) (fun _ h => h) dX0_by_16 (js_getfR hX (ci := 1) (k := 0) (RX1, TX1, 7) rfl (by decide) rfl (Or.inr ⟨_, q212⟩) (fun _ h => h) dX0_by_19 (js_const hX (z := 3) (by unfold inI; omega) dX0_by_22 (Or.inl ⟨3, rfl, rfl, rfl⟩) (js_iload_n hX dX0_by_23 rfl (js_iast hX dX0_by_24 (js_const hX (z := 1) (by unfold inI; omega) dX0_by_25 (Or.inl ⟨1, rfl, rfl, rfl⟩) (js_zreturn hX hr hlk dX0_by_26))))))))
  | k + 2 => intro ls st h nc ns hf; exact hf.elim
def bX0_isText : jjB := fun e K k => match k with
  | 0 => (ji_iload 1 (ji_const 0 (ji_aload 0 (ji_getfR 0 0 (ji_getfR 1 0 (ji_const 2 (ji_iald (ji_const 1 (ji_isub (ji_callS e MX0_in 3 (ji_zreturn e)))))))))))
  | _ => fun _ _ _ _ _ => False
def pX0_isText : Nat → Nat := fun k => match k with
  | 0 => 0
  | _ => 0
theorem sX0_isText : jSound bX0_isText pX0_isText MX0_isText := by
  intro e p ev R s m args below meth c hX hr hn hlk K hK k
  match k with
  | 0 => exact (js_iload_n hX dX0_isText_0 rfl (js_const hX (z := 0) (by unfold inI; omega) dX0_isText_1 (Or.inl ⟨0, rfl, rfl, rfl⟩) (js_aload_n hX dX0_isText_2 rfl (js_getfR hX (ci := 0) (k := 0) (RX0, TX0, 20) rfl (by decide) rfl (Or.inl q255) (fun _ h => h) dX0_isText_3 (js_getfR hX (ci := 1) (k := 0) (RX1, TX1, 7) rfl (by decide) rfl (Or.inr ⟨_, q212⟩) (fun _ h => h) dX0_isText_6 (js_const hX (z := 2) (by unfold inI; omega) dX0_isText_9 (Or.inl ⟨2, rfl, rfl, rfl⟩) (js_iald hX dX0_isText_10 (js_const hX (z := 1) (by unfold inI; omega) dX0_isText_11 (Or.inl ⟨1, rfl, rfl, rfl⟩) (js_isub hX dX0_isText_12 (js_callS hX MX0_in (n := 3) (lw_S q325 q326 q152 q327) npX0_in dX0_isText_13 (js_zreturn hX hr hlk dX0_isText_16)))))))))))
  | k + 1 => intro ls st h nc ns hf; exact hf.elim
def bX0_pushes : jjB := fun e K k => match k with
  | 0 => (ji_aload 0 (ji_iload 1 (ji_callV e MX0_isBook 0 2 (ji_if_eq (K 1)
    (ji_aload 0 (ji_iload 2 (ji_callV e MX0_isBook 0 2 (ji_if_eq (K 1)
    (ji_iload 1 (ji_iload 2 (ji_icmp_eq (K 1)
    (ji_aload 0 (ji_iload 1 (ji_iload 2 (ji_iload 3 (ji_callV e MX0_pushesNow 0 4 (ji_if_eq (K 1)
    (ji_const 1 (ji_goto (K 2))))))))))))))))))))
  | 1 => (ji_const 0 (K 2))
  | 2 => (ji_zreturn e)
  | _ => fun _ _ _ _ _ => False
def pX0_pushes : Nat → Nat := fun k => match k with
  | 0 => 0
  | 1 => 35
  | 2 => 36
  | _ => 0
theorem sX0_pushes : jSound bX0_pushes pX0_pushes MX0_pushes := by
  intro e p ev R s m args below meth c hX hr hn hlk K hK k
  match k with
  | 0 => exact (js_aload_n hX dX0_pushes_0 rfl (js_iload_n hX dX0_pushes_1 rfl (js_callV hX MX0_isBook (ci := 0) (n := 1) (RX0, TX0, 20) rfl rfl (lw_V q959 q961 qs27 q152 q962) npX0_isBook dX0_pushes_2 (js_if_eq hX (tgt := 35) dX0_pushes_5 rfl (hK 1)
    (js_aload_n hX dX0_pushes_8 rfl (js_iload_n hX dX0_pushes_9 rfl (js_callV hX MX0_isBook (ci := 0) (n := 1) (RX0, TX0, 20) rfl rfl (lw_V q959 q961 qs27 q152 q962) npX0_isBook dX0_pushes_10 (js_if_eq hX (tgt := 35) dX0_pushes_13 rfl (hK 1)
    (js_iload_n hX dX0_pushes_16 rfl (js_iload_n hX dX0_pushes_17 rfl (js_icmp_eq hX (tgt := 35) dX0_pushes_18 rfl (hK 1)
    (js_aload_n hX dX0_pushes_21 rfl (js_iload_n hX dX0_pushes_22 rfl (js_iload_n hX dX0_pushes_23 rfl (js_iload_n hX dX0_pushes_24 rfl (js_callV hX MX0_pushesNow (ci := 0) (n := 3) (RX0, TX0, 20) rfl rfl (lw_V q963 q965 qs28 q152 q966) npX0_pushesNow dX0_pushes_25 (js_if_eq hX (tgt := 35) dX0_pushes_28 rfl (hK 1)
    (js_const hX (z := 1) (by unfold inI; omega) dX0_pushes_31 (Or.inl ⟨1, rfl, rfl, rfl⟩) (js_goto hX (tgt := 36) dX0_pushes_32 rfl (hK 2))))))))))))))))))))
  | 1 => exact (js_const hX (z := 0) (by unfold inI; omega) dX0_pushes_35 (Or.inl ⟨0, rfl, rfl, rfl⟩) (hK 2))
  | 2 => exact (js_zreturn hX hr hlk dX0_pushes_36)
  | k + 3 => intro ls st h nc ns hf; exact hf.elim
def bX0_isBook : jjB := fun e K k => match k with
  | 0 => (ji_iload 1 (ji_const 0 (ji_aload 0 (ji_getfR 0 0 (ji_getfR 1 0 (ji_const 0 (ji_iald (ji_const 1 (ji_isub (ji_callS e MX0_in 3 (ji_zreturn e)))))))))))
  | _ => fun _ _ _ _ _ => False
def pX0_isBook : Nat → Nat := fun k => match k with
  | 0 => 0
  | _ => 0
theorem sX0_isBook : jSound bX0_isBook pX0_isBook MX0_isBook := by
  intro e p ev R s m args below meth c hX hr hn hlk K hK k
  match k with
  | 0 => exact (js_iload_n hX dX0_isBook_0 rfl (js_const hX (z := 0) (by unfold inI; omega) dX0_isBook_1 (Or.inl ⟨0, rfl, rfl, rfl⟩) (js_aload_n hX dX0_isBook_2 rfl (js_getfR hX (ci := 0) (k := 0) (RX0, TX0, 20) rfl (by decide) rfl (Or.inl q255) (fun _ h => h) dX0_isBook_3 (js_getfR hX (ci := 1) (k := 0) (RX1, TX1, 7) rfl (by decide) rfl (Or.inr ⟨_, q212⟩) (fun _ h => h) dX0_isBook_6 (js_const hX (z := 0) (by unfold inI; omega) dX0_isBook_9 (Or.inl ⟨0, rfl, rfl, rfl⟩) (js_iald hX dX0_isBook_10 (js_const hX (z := 1) (by unfold inI; omega) dX0_isBook_11 (Or.inl ⟨1, rfl, rfl, rfl⟩) (js_isub hX dX0_isBook_12 (js_callS hX MX0_in (n := 3) (lw_S q325 q326 q152 q327) npX0_in dX0_isBook_13 (js_zreturn hX hr hlk dX0_isBook_16)))))))))))
  | k + 1 => intro ls st h nc ns hf; exact hf.elim
def bX0_pushesNow : jjB := fun e K k => match k with
  | 0 => (ji_aload 0 (ji_aload 0 (ji_getfR 0 0 (ji_getfR 1 3 (ji_iload 1 (ji_aald (-6) (ji_const 4 (ji_iald (ji_iload 1 (ji_iload 2 (ji_iload 3 (ji_callV e MX0_pushesBy 0 5 (ji_zreturn e)))))))))))))
  | _ => fun _ _ _ _ _ => False
def pX0_pushesNow : Nat → Nat := fun k => match k with
  | 0 => 0
  | _ => 0
theorem sX0_pushesNow : jSound bX0_pushesNow pX0_pushesNow MX0_pushesNow := by
  intro e p ev R s m args below meth c hX hr hn hlk K hK k
  match k with
  | 0 => exact (js_aload_n hX dX0_pushesNow_0 rfl (js_aload_n hX dX0_pushesNow_1 rfl (js_getfR hX (ci := 0) (k := 0) (RX0, TX0, 20) rfl (by decide) rfl (Or.inl q255) (fun _ h => h) dX0_pushesNow_2 (js_getfR hX (ci := 1) (k := 3) (RX1, TX1, 7) rfl (by decide) rfl (Or.inr ⟨_, q218⟩) (fun _ h => h) dX0_pushesNow_5 (js_iload_n hX dX0_pushesNow_8 rfl (js_aald hX (cd := (-6)) (by decide) rfl rfl dX0_pushesNow_9 (js_const hX (z := 4) (by unfold inI; omega) dX0_pushesNow_10 (Or.inl ⟨4, rfl, rfl, rfl⟩) (js_iald hX dX0_pushesNow_11 (js_iload_n hX dX0_pushesNow_12 rfl (js_iload_n hX dX0_pushesNow_13 rfl (js_iload_n hX dX0_pushesNow_14 rfl (js_callV hX MX0_pushesBy (ci := 0) (n := 4) (RX0, TX0, 20) rfl rfl (lw_V q967 q969 qs29 q152 q970) npX0_pushesBy dX0_pushesNow_15 (js_zreturn hX hr hlk dX0_pushesNow_18)))))))))))))
  | k + 1 => intro ls st h nc ns hf; exact hf.elim
def bX0_pushesBy : jjB := fun e K k => match k with
  | 0 => (ji_aload 0 (ji_callV e MX0_rules 0 1 (ji_getfR 4 0 (ji_iload 1 (ji_aald (-7) (ji_astore 5 (ji_aload 5 (ji_ifnonnull (ji_aload 0 (ji_iload 2 (ji_callV e MX0_namesOwn 0 2 (ji_aload 0 (ji_getfR 0 6 (ji_const 6 (ji_iload 4 (ji_if_eq (ji_const 0 (K 1))
    (ji_const 1 (ji_goto (K 1)))))))))))
    (ji_const 0 (ji_zreturn e))))))))))
  | 1 => (ji_iast (ji_aload 0 (ji_getfR 0 6 (ji_const 7 (ji_iload 3 (ji_iast (ji_aload 0 (ji_getfR 0 0 (ji_getfR 1 3 (ji_iload 3 (ji_aald (-5) (ji_const 0 (ji_aload 0 (ji_getfR 0 6 (ji_const 8 (ji_const 4 (ji_acopyI (ji_aload 5 (ji_aload 0 (ji_getfR 0 6 (ji_callF e [(11, MX11_is), (6, MX6_is), (12, MX12_is)] 2 (ji_zreturn e))))))))))))))))))))))
  | _ => fun _ _ _ _ _ => False
def pX0_pushesBy : Nat → Nat := fun k => match k with
  | 0 => 0
  | 1 => 39
  | _ => 0
theorem sX0_pushesBy : jSound bX0_pushesBy pX0_pushesBy MX0_pushesBy := by
  intro e p ev R s m args below meth c hX hr hn hlk K hK k
  match k with
  | 0 => exact (js_aload_n hX dX0_pushesBy_0 rfl (js_callV hX MX0_rules (ci := 0) (n := 0) (RX0, TX0, 20) rfl rfl (lw_V q344 q346 qs2 q152 q347) npX0_rules dX0_pushesBy_1 (js_getfR hX (ci := 4) (k := 0) (RX4, TX4, 6) rfl (by decide) rfl (Or.inr ⟨_, q519⟩) (fun _ h => h) dX0_pushesBy_4 (js_iload_n hX dX0_pushesBy_7 rfl (js_aald hX (cd := (-7)) (by decide) rfl rfl dX0_pushesBy_8 (js_astore hX dX0_pushesBy_9 (by decide) (js_aload hX dX0_pushesBy_11 (js_ifnonnull hX (tgt := 18) dX0_pushesBy_13 rfl (js_aload_n hX dX0_pushesBy_18 rfl (js_iload_n hX dX0_pushesBy_19 rfl (js_callV hX MX0_namesOwn (ci := 0) (n := 1) (RX0, TX0, 20) rfl rfl (lw_V q350 q352 qs3 q152 q353) npX0_namesOwn dX0_pushesBy_20 (js_aload_n hX dX0_pushesBy_23 rfl (js_getfR hX (ci := 0) (k := 6) (RX0, TX0, 20) rfl (by decide) rfl (Or.inl q261) (fun _ h => h) dX0_pushesBy_24 (js_const hX (z := 6) (by unfold inI; omega) dX0_pushesBy_27 (Or.inr (Or.inl ⟨6, rfl, rfl, rfl⟩)) (js_iload hX dX0_pushesBy_29 (js_if_eq hX (tgt := 38) dX0_pushesBy_31 rfl (js_const hX (z := 0) (by unfold inI; omega) dX0_pushesBy_38 (Or.inl ⟨0, rfl, rfl, rfl⟩) (hK 1))
    (js_const hX (z := 1) (by unfold inI; omega) dX0_pushesBy_34 (Or.inl ⟨1, rfl, rfl, rfl⟩) (js_goto hX (tgt := 39) dX0_pushesBy_35 rfl (hK 1)))))))))))
    (js_const hX (z := 0) (by unfold inI; omega) dX0_pushesBy_16 (Or.inl ⟨0, rfl, rfl, rfl⟩) (js_zreturn hX hr hlk dX0_pushesBy_17))))))))))
  | 1 => exact (js_iast hX dX0_pushesBy_39 (js_aload_n hX dX0_pushesBy_40 rfl (js_getfR hX (ci := 0) (k := 6) (RX0, TX0, 20) rfl (by decide) rfl (Or.inl q261) (fun _ h => h) dX0_pushesBy_41 (js_const hX (z := 7) (by unfold inI; omega) dX0_pushesBy_44 (Or.inr (Or.inl ⟨7, rfl, rfl, rfl⟩)) (js_iload_n hX dX0_pushesBy_46 rfl (js_iast hX dX0_pushesBy_47 (js_aload_n hX dX0_pushesBy_48 rfl (js_getfR hX (ci := 0) (k := 0) (RX0, TX0, 20) rfl (by decide) rfl (Or.inl q255) (fun _ h => h) dX0_pushesBy_49 (js_getfR hX (ci := 1) (k := 3) (RX1, TX1, 7) rfl (by decide) rfl (Or.inr ⟨_, q218⟩) (fun _ h => h) dX0_pushesBy_52 (js_iload_n hX dX0_pushesBy_55 rfl (js_aald hX (cd := (-5)) (by decide) rfl rfl dX0_pushesBy_56 (js_const hX (z := 0) (by unfold inI; omega) dX0_pushesBy_57 (Or.inl ⟨0, rfl, rfl, rfl⟩) (js_aload_n hX dX0_pushesBy_58 rfl (js_getfR hX (ci := 0) (k := 6) (RX0, TX0, 20) rfl (by decide) rfl (Or.inl q261) (fun _ h => h) dX0_pushesBy_59 (js_const hX (z := 8) (by unfold inI; omega) dX0_pushesBy_62 (Or.inr (Or.inl ⟨8, rfl, rfl, rfl⟩)) (js_const hX (z := 4) (by unfold inI; omega) dX0_pushesBy_64 (Or.inl ⟨4, rfl, rfl, rfl⟩) (js_acopyI hX q354 dX0_pushesBy_65 (js_aload hX dX0_pushesBy_68 (js_aload_n hX dX0_pushesBy_70 rfl (js_getfR hX (ci := 0) (k := 6) (RX0, TX0, 20) rfl (by decide) rfl (Or.inl q261) (fun _ h => h) dX0_pushesBy_71 (js_callF hX ⟨"SelfSorting$Asked", "is", "([I)Z"⟩ (l := [(11, MX11_is), (6, MX6_is), (12, MX12_is)]) (n := 1) (List.forall_mem_cons.mpr ⟨⟨(RX11, TX11, 3), rfl, lw_app (jF_ws q972 q987 q989 q181) (lw_meth q991), by decide +kernel⟩, List.forall_mem_cons.mpr ⟨⟨(RX6, TX6, 1), rfl, lw_app (jF_ws q972 q995 q997 q172) (lw_meth q999), by decide +kernel⟩, List.forall_mem_cons.mpr ⟨⟨(RX12, TX12, 2), rfl, lw_app (jF_ws q972 q976 q978 q182) (lw_meth q980), by decide +kernel⟩, fun _ h => (by cases h)⟩⟩⟩) (by decide +kernel) dX0_pushesBy_74 (js_zreturn hX hr hlk dX0_pushesBy_79))))))))))))))))))))))
  | k + 2 => intro ls st h nc ns hf; exact hf.elim
