/-! blocks of the methods and their soundness -/
set_option maxRecDepth 100000
def bX2_fits : jjB := fun e K k => match k with
  | 0 => (ji_iload 1 (ji_callS e MX2_isShelf 1 (ji_if_ne (ji_aload 0 (ji_getfR 2 0 (ji_const 10 (ji_iload 1 (ji_iadd (ji_iald (ji_aload 0 (ji_iload 1 (ji_callV e MX2_fullOf 2 2 (ji_isub (ji_istore 2 (ji_const 0 (ji_istore 3 (ji_const 0 (ji_istore 4 (ji_const 1 (ji_istore 5 (K 1))))))))))))))))))
    (ji_const (-1) (ji_ireturn e)))))
  | 1 => (ji_iload 5 (ji_const 1 (ji_aload 0 (ji_getfR 2 0 (ji_const 0 (ji_iald (ji_ishl (ji_icmp_ge (ji_iload 3 (ji_ireturn e))
    (ji_const 0 (ji_istore 6 (ji_const 0 (ji_istore 7 (K 2)))))))))))))
  | 2 => (ji_iload 7 (ji_aload 0 (ji_getfR 2 0 (ji_const 0 (ji_iald (ji_icmp_ge (ji_iload 6 (ji_iload 2 (ji_icmp_gt (K 5)
    (ji_iload 5 (ji_callS e MX2_bits 1 (ji_iload 3 (ji_callS e MX2_bits 1 (ji_icmp_lt (K 5)
    (ji_iload 5 (ji_callS e MX2_bits 1 (ji_iload 3 (ji_callS e MX2_bits 1 (ji_icmp_ne (K 4)
    (ji_iload 6 (ji_iload 4 (ji_icmp_lt (K 4)
    (ji_goto (K 5))))))))))))))))))
    (ji_iload 6 (ji_iload 5 (ji_iload 7 (ji_callS e MX2_has 2 (ji_if_ne (ji_aload 0 (ji_iload 7 (ji_const 5 (ji_callV e MX2_get 2 3 (ji_const 3 (ji_icmp_ne (ji_const 1000000 (K 3))
    (ji_aload 0 (ji_iload 7 (ji_callV e MX2_thickNow 2 2 (ji_goto (K 3)))))))))))
    (ji_const 0 (ji_goto (K 3))))))))))))))
  | 3 => (ji_iadd (ji_istore 6 (ji_iinc 7 1 (ji_goto (K 2)))))
  | 4 => (ji_iload 5 (ji_istore 3 (ji_iload 6 (ji_istore 4 (K 5)))))
  | 5 => (ji_iinc 5 1 (ji_goto (K 1)))
  | _ => fun _ _ _ _ _ => False
def pX2_fits : Nat → Nat := fun k => match k with
  | 0 => 0
  | 1 => 33
  | 2 => 52
  | 3 => 102
  | 4 => 151
  | 5 => 158
  | _ => 0
theorem sX2_fits : jSound bX2_fits pX2_fits MX2_fits := by
  intro e p ev R s m args below meth c hX hr hn hlk K hK k
  match k with
  | 0 => exact (js_iload_n hX dX2_fits_0 rfl (js_callS hX MX2_isShelf (n := 1) (lw_S q1693 q1694 q156 q1695) npX2_isShelf dX2_fits_1 (js_if_ne hX (tgt := 9) dX2_fits_4 rfl (js_aload_n hX dX2_fits_9 rfl (js_getfR hX (ci := 2) (k := 0) (RX2, TX2, 43) rfl (by decide) rfl (Or.inl q1346) (fun _ h => h) dX2_fits_10 (js_const hX (z := 10) (by unfold inI; omega) dX2_fits_13 (Or.inr (Or.inl ⟨10, rfl, rfl, rfl⟩)) (js_iload_n hX dX2_fits_15 rfl (js_iadd hX dX2_fits_16 (js_iald hX dX2_fits_17 (js_aload_n hX dX2_fits_18 rfl (js_iload_n hX dX2_fits_19 rfl (js_callV hX MX2_fullOf (ci := 2) (n := 1) (RX2, TX2, 43) rfl rfl (lw_V q1696 q1698 qs103 q156 q1699) npX2_fullOf dX2_fits_20 (js_isub hX dX2_fits_23 (js_istore_n hX dX2_fits_24 rfl (by decide) (js_const hX (z := 0) (by unfold inI; omega) dX2_fits_25 (Or.inl ⟨0, rfl, rfl, rfl⟩) (js_istore_n hX dX2_fits_26 rfl (by decide) (js_const hX (z := 0) (by unfold inI; omega) dX2_fits_27 (Or.inl ⟨0, rfl, rfl, rfl⟩) (js_istore hX dX2_fits_28 (by decide) (js_const hX (z := 1) (by unfold inI; omega) dX2_fits_30 (Or.inl ⟨1, rfl, rfl, rfl⟩) (js_istore hX dX2_fits_31 (by decide) (hK 1))))))))))))))))))
    (js_const hX (z := (-1)) (by unfold inI; omega) dX2_fits_7 (Or.inl ⟨(-1), rfl, rfl, rfl⟩) (js_ireturn hX hr hlk dX2_fits_8)))))
  | 1 => exact (js_iload hX dX2_fits_33 (js_const hX (z := 1) (by unfold inI; omega) dX2_fits_35 (Or.inl ⟨1, rfl, rfl, rfl⟩) (js_aload_n hX dX2_fits_36 rfl (js_getfR hX (ci := 2) (k := 0) (RX2, TX2, 43) rfl (by decide) rfl (Or.inl q1346) (fun _ h => h) dX2_fits_37 (js_const hX (z := 0) (by unfold inI; omega) dX2_fits_40 (Or.inl ⟨0, rfl, rfl, rfl⟩) (js_iald hX dX2_fits_41 (js_ishl hX dX2_fits_42 (js_icmp_ge hX (tgt := 164) dX2_fits_43 rfl (js_iload_n hX dX2_fits_164 rfl (js_ireturn hX hr hlk dX2_fits_165))
    (js_const hX (z := 0) (by unfold inI; omega) dX2_fits_46 (Or.inl ⟨0, rfl, rfl, rfl⟩) (js_istore hX dX2_fits_47 (by decide) (js_const hX (z := 0) (by unfold inI; omega) dX2_fits_49 (Or.inl ⟨0, rfl, rfl, rfl⟩) (js_istore hX dX2_fits_50 (by decide) (hK 2)))))))))))))
  | 2 => exact (js_iload hX dX2_fits_52 (js_aload_n hX dX2_fits_54 rfl (js_getfR hX (ci := 2) (k := 0) (RX2, TX2, 43) rfl (by decide) rfl (Or.inl q1346) (fun _ h => h) dX2_fits_55 (js_const hX (z := 0) (by unfold inI; omega) dX2_fits_58 (Or.inl ⟨0, rfl, rfl, rfl⟩) (js_iald hX dX2_fits_59 (js_icmp_ge hX (tgt := 111) dX2_fits_60 rfl (js_iload hX dX2_fits_111 (js_iload_n hX dX2_fits_113 rfl (js_icmp_gt hX (tgt := 158) dX2_fits_114 rfl (hK 5)
    (js_iload hX dX2_fits_117 (js_callS hX MX2_bits (n := 1) (lw_S q1874 q1875 q156 q1876) npX2_bits dX2_fits_119 (js_iload_n hX dX2_fits_122 rfl (js_callS hX MX2_bits (n := 1) (lw_S q1874 q1875 q156 q1876) npX2_bits dX2_fits_123 (js_icmp_lt hX (tgt := 158) dX2_fits_126 rfl (hK 5)
    (js_iload hX dX2_fits_129 (js_callS hX MX2_bits (n := 1) (lw_S q1874 q1875 q156 q1876) npX2_bits dX2_fits_131 (js_iload_n hX dX2_fits_134 rfl (js_callS hX MX2_bits (n := 1) (lw_S q1874 q1875 q156 q1876) npX2_bits dX2_fits_135 (js_icmp_ne hX (tgt := 151) dX2_fits_138 rfl (hK 4)
    (js_iload hX dX2_fits_141 (js_iload hX dX2_fits_143 (js_icmp_lt hX (tgt := 151) dX2_fits_145 rfl (hK 4)
    (js_goto hX (tgt := 158) dX2_fits_148 rfl (hK 5))))))))))))))))))
    (js_iload hX dX2_fits_63 (js_iload hX dX2_fits_65 (js_iload hX dX2_fits_67 (js_callS hX MX2_has (n := 2) (lw_S q1885 q1886 q156 q1887) npX2_has dX2_fits_69 (js_if_ne hX (tgt := 79) dX2_fits_72 rfl (js_aload_n hX dX2_fits_79 rfl (js_iload hX dX2_fits_80 (js_const hX (z := 5) (by unfold inI; omega) dX2_fits_82 (Or.inl ⟨5, rfl, rfl, rfl⟩) (js_callV hX MX2_get (ci := 2) (n := 2) (RX2, TX2, 43) rfl rfl (lw_V q1658 q1660 qs98 q156 q1661) npX2_get dX2_fits_83 (js_const hX (z := 3) (by unfold inI; omega) dX2_fits_86 (Or.inl ⟨3, rfl, rfl, rfl⟩) (js_icmp_ne hX (tgt := 99) dX2_fits_87 rfl (js_const hX (z := 1000000) (by unfold inI; omega) dX2_fits_99 (Or.inr (Or.inr (Or.inr (Or.inr ⟨488, rfl, rfl, q1995⟩)))) (hK 3))
    (js_aload_n hX dX2_fits_90 rfl (js_iload hX dX2_fits_91 (js_callV hX MX2_thickNow (ci := 2) (n := 1) (RX2, TX2, 43) rfl rfl (lw_V q1704 q1706 qs105 q156 q1707) npX2_thickNow dX2_fits_93 (js_goto hX (tgt := 102) dX2_fits_96 rfl (hK 3)))))))))))
    (js_const hX (z := 0) (by unfold inI; omega) dX2_fits_75 (Or.inl ⟨0, rfl, rfl, rfl⟩) (js_goto hX (tgt := 102) dX2_fits_76 rfl (hK 3))))))))))))))
  | 3 => exact (js_iadd hX dX2_fits_102 (js_istore hX dX2_fits_103 (by decide) (js_iinc hX dX2_fits_105 (by decide) (js_goto hX (tgt := 52) dX2_fits_108 rfl (hK 2)))))
  | 4 => exact (js_iload hX dX2_fits_151 (js_istore_n hX dX2_fits_153 rfl (by decide) (js_iload hX dX2_fits_154 (js_istore hX dX2_fits_156 (by decide) (hK 5)))))
  | 5 => exact (js_iinc hX dX2_fits_158 (by decide) (js_goto hX (tgt := 33) dX2_fits_161 rfl (hK 1)))
  | k + 6 => intro ls st h nc ns hf; exact hf.elim
def bX2_image : jjB := fun e K k => match k with
  | 0 => (ji_aload 0 (ji_getfR 2 0 (ji_aload 0 (ji_getfR 2 1 (ji_callS e MX2_copy 2 (ji_aload 0 (ji_getfR 2 0 (ji_const 1 (ji_iald (ji_ireturn e))))))))))
  | _ => fun _ _ _ _ _ => False
def pX2_image : Nat → Nat := fun k => match k with
  | 0 => 0
  | _ => 0
theorem sX2_image : jSound bX2_image pX2_image MX2_image := by
  intro e p ev R s m args below meth c hX hr hn hlk K hK k
  match k with
  | 0 => exact (js_aload_n hX dX2_image_0 rfl (js_getfR hX (ci := 2) (k := 0) (RX2, TX2, 43) rfl (by decide) rfl (Or.inl q1346) (fun _ h => h) dX2_image_1 (js_aload_n hX dX2_image_4 rfl (js_getfR hX (ci := 2) (k := 1) (RX2, TX2, 43) rfl (by decide) rfl (Or.inl q1347) (fun _ h => h) dX2_image_5 (js_callS hX MX2_copy (n := 2) (lw_S q1343 q1344 q156 q1345) npX2_copy dX2_image_8 (js_aload_n hX dX2_image_11 rfl (js_getfR hX (ci := 2) (k := 0) (RX2, TX2, 43) rfl (by decide) rfl (Or.inl q1346) (fun _ h => h) dX2_image_12 (js_const hX (z := 1) (by unfold inI; omega) dX2_image_15 (Or.inl ⟨1, rfl, rfl, rfl⟩) (js_iald hX dX2_image_16 (js_ireturn hX hr hlk dX2_image_17))))))))))
  | k + 1 => intro ls st h nc ns hf; exact hf.elim
def bX2_back : jjB := fun e K k => match k with
  | 0 => (ji_aload 0 (ji_getfR 2 1 (ji_aload 0 (ji_getfR 2 0 (ji_callS e MX2_copy 2 (ji_aload 0 (ji_getfR 2 0 (ji_const 1 (ji_iald (ji_ireturn e))))))))))
  | _ => fun _ _ _ _ _ => False
def pX2_back : Nat → Nat := fun k => match k with
  | 0 => 0
  | _ => 0
theorem sX2_back : jSound bX2_back pX2_back MX2_back := by
  intro e p ev R s m args below meth c hX hr hn hlk K hK k
  match k with
  | 0 => exact (js_aload_n hX dX2_back_0 rfl (js_getfR hX (ci := 2) (k := 1) (RX2, TX2, 43) rfl (by decide) rfl (Or.inl q1347) (fun _ h => h) dX2_back_1 (js_aload_n hX dX2_back_4 rfl (js_getfR hX (ci := 2) (k := 0) (RX2, TX2, 43) rfl (by decide) rfl (Or.inl q1346) (fun _ h => h) dX2_back_5 (js_callS hX MX2_copy (n := 2) (lw_S q1343 q1344 q156 q1345) npX2_copy dX2_back_8 (js_aload_n hX dX2_back_11 rfl (js_getfR hX (ci := 2) (k := 0) (RX2, TX2, 43) rfl (by decide) rfl (Or.inl q1346) (fun _ h => h) dX2_back_12 (js_const hX (z := 1) (by unfold inI; omega) dX2_back_15 (Or.inl ⟨1, rfl, rfl, rfl⟩) (js_iald hX dX2_back_16 (js_ireturn hX hr hlk dX2_back_17))))))))))
  | k + 1 => intro ls st h nc ns hf; exact hf.elim
def bX2_about : jjB := fun e K k => match k with
  | 0 => (ji_iload 1 (ji_const 9 (ji_icmp_ne (ji_iload 1 (ji_const 0 (ji_const 8 (ji_callS e MX2_isIn 3 (ji_if_eq (ji_iload 1 (ji_const 10 (ji_icmp_ne (ji_const (-2) (K 3))
    (ji_aload 0 (ji_getfI 2 4 (ji_goto (K 3)))))))
    (ji_aload 0 (ji_getfR 2 0 (ji_iload 1 (ji_iald (ji_goto (K 3)))))))))))
    (ji_const 0 (ji_istore 2 (ji_const 0 (ji_istore 3 (K 1))))))))
  | 1 => (ji_iload 3 (ji_aload 0 (ji_getfR 2 0 (ji_const 0 (ji_iald (ji_icmp_ge (ji_iload 2 (ji_ireturn e))
    (ji_iload 2 (ji_aload 0 (ji_iload 3 (ji_const 5 (ji_callV e MX2_get 2 3 (ji_const 4 (ji_icmp_ne (ji_const 0 (K 2))
    (ji_const 1 (ji_iload 3 (ji_ishl (ji_goto (K 2))))))))))))))))))
  | 2 => (ji_ior (ji_istore 2 (ji_iinc 3 1 (ji_goto (K 1)))))
  | 3 => (ji_ireturn e)
  | _ => fun _ _ _ _ _ => False
def pX2_about : Nat → Nat := fun k => match k with
  | 0 => 0
  | 1 => 10
  | 2 => 38
  | 3 => 82
  | _ => 0
theorem sX2_about : jSound bX2_about pX2_about MX2_about := by
  intro e p ev R s m args below meth c hX hr hn hlk K hK k
  match k with
  | 0 => exact (js_iload_n hX dX2_about_0 rfl (js_const hX (z := 9) (by unfold inI; omega) dX2_about_1 (Or.inr (Or.inl ⟨9, rfl, rfl, rfl⟩)) (js_icmp_ne hX (tgt := 48) dX2_about_3 rfl (js_iload_n hX dX2_about_48 rfl (js_const hX (z := 0) (by unfold inI; omega) dX2_about_49 (Or.inl ⟨0, rfl, rfl, rfl⟩) (js_const hX (z := 8) (by unfold inI; omega) dX2_about_50 (Or.inr (Or.inl ⟨8, rfl, rfl, rfl⟩)) (js_callS hX MX2_isIn (n := 3) (lw_S q1479 q1480 q156 q1481) npX2_isIn dX2_about_52 (js_if_eq hX (tgt := 67) dX2_about_55 rfl (js_iload_n hX dX2_about_67 rfl (js_const hX (z := 10) (by unfold inI; omega) dX2_about_68 (Or.inr (Or.inl ⟨10, rfl, rfl, rfl⟩)) (js_icmp_ne hX (tgt := 80) dX2_about_70 rfl (js_const hX (z := (-2)) (by unfold inI; omega) dX2_about_80 (Or.inr (Or.inl ⟨(-2), rfl, rfl, rfl⟩)) (hK 3))
    (js_aload_n hX dX2_about_73 rfl (js_getfI hX (ci := 2) (k := 4) (RX2, TX2, 43) rfl (by decide) rfl (Or.inl q1350) (fun _ h => h) dX2_about_74 (js_goto hX (tgt := 82) dX2_about_77 rfl (hK 3)))))))
    (js_aload_n hX dX2_about_58 rfl (js_getfR hX (ci := 2) (k := 0) (RX2, TX2, 43) rfl (by decide) rfl (Or.inl q1346) (fun _ h => h) dX2_about_59 (js_iload_n hX dX2_about_62 rfl (js_iald hX dX2_about_63 (js_goto hX (tgt := 82) dX2_about_64 rfl (hK 3)))))))))))
    (js_const hX (z := 0) (by unfold inI; omega) dX2_about_6 (Or.inl ⟨0, rfl, rfl, rfl⟩) (js_istore_n hX dX2_about_7 rfl (by decide) (js_const hX (z := 0) (by unfold inI; omega) dX2_about_8 (Or.inl ⟨0, rfl, rfl, rfl⟩) (js_istore_n hX dX2_about_9 rfl (by decide) (hK 1))))))))
  | 1 => exact (js_iload_n hX dX2_about_10 rfl (js_aload_n hX dX2_about_11 rfl (js_getfR hX (ci := 2) (k := 0) (RX2, TX2, 43) rfl (by decide) rfl (Or.inl q1346) (fun _ h => h) dX2_about_12 (js_const hX (z := 0) (by unfold inI; omega) dX2_about_15 (Or.inl ⟨0, rfl, rfl, rfl⟩) (js_iald hX dX2_about_16 (js_icmp_ge hX (tgt := 46) dX2_about_17 rfl (js_iload_n hX dX2_about_46 rfl (js_ireturn hX hr hlk dX2_about_47))
    (js_iload_n hX dX2_about_20 rfl (js_aload_n hX dX2_about_21 rfl (js_iload_n hX dX2_about_22 rfl (js_const hX (z := 5) (by unfold inI; omega) dX2_about_23 (Or.inl ⟨5, rfl, rfl, rfl⟩) (js_callV hX MX2_get (ci := 2) (n := 2) (RX2, TX2, 43) rfl rfl (lw_V q1658 q1660 qs98 q156 q1661) npX2_get dX2_about_24 (js_const hX (z := 4) (by unfold inI; omega) dX2_about_27 (Or.inl ⟨4, rfl, rfl, rfl⟩) (js_icmp_ne hX (tgt := 37) dX2_about_28 rfl (js_const hX (z := 0) (by unfold inI; omega) dX2_about_37 (Or.inl ⟨0, rfl, rfl, rfl⟩) (hK 2))
    (js_const hX (z := 1) (by unfold inI; omega) dX2_about_31 (Or.inl ⟨1, rfl, rfl, rfl⟩) (js_iload_n hX dX2_about_32 rfl (js_ishl hX dX2_about_33 (js_goto hX (tgt := 38) dX2_about_34 rfl (hK 2))))))))))))))))))
  | 2 => exact (js_ior hX dX2_about_38 (js_istore_n hX dX2_about_39 rfl (by decide) (js_iinc hX dX2_about_40 (by decide) (js_goto hX (tgt := 10) dX2_about_43 rfl (hK 1)))))
  | 3 => exact (js_ireturn hX hr hlk dX2_about_82)
  | k + 4 => intro ls st h nc ns hf; exact hf.elim
def bX3_init : jjB := fun e K k => match k with
  | 0 => (ji_aload 0 (ji_callI e MJ16_init 1 (ji_aload 0 (ji_aload 1 (ji_putfR 3 0 (ji_aload 0 (ji_iload 2 (ji_putfI 3 1 (ji_return e)))))))))
  | _ => fun _ _ _ _ _ => False
def pX3_init : Nat → Nat := fun k => match k with
  | 0 => 0
  | _ => 0
theorem sX3_init : jSound bX3_init pX3_init MX3_init := by
  intro e p ev R s m args below meth c hX hr hn hlk K hK k
  match k with
  | 0 => exact (js_aload_n hX dX3_init_0 rfl (js_callI hX MJ16_init (n := 0) q453 q190 q2033 (lw_meth q191) rfl rfl npJ16_init dX3_init_1 (js_aload_n hX dX3_init_4 rfl (js_aload_n hX dX3_init_5 rfl (js_putfR hX (ci := 3) (k := 0) (RX3, TX3, 8) rfl (by decide) rfl rfl (Or.inl q454) (fun _ h => h) (Or.inr ⟨rfl, hn, rfl, q454⟩) dX3_init_6 (js_aload_n hX dX3_init_9 rfl (js_iload_n hX dX3_init_10 rfl (js_putfI hX (ci := 3) (k := 1) (RX3, TX3, 8) rfl (by decide) rfl (Or.inl q455) (fun _ h => h) (Or.inr ⟨rfl, hn, rfl, q455⟩) dX3_init_11 (js_return hX hr hlk dX3_init_14)))))))))
  | k + 1 => intro ls st h nc ns hf; exact hf.elim
def bX3_read : jjB := fun e K k => match k with
  | 0 => (ji_new e 4 6 (ji_dup (ji_callI e MX4_init 1 (ji_astore 1 (ji_aload 0 (ji_callV e MX3_next 3 1 (K 1)))))))
  | 1 => (ji_aload 0 (ji_getfI 3 4 (ji_const 301 (ji_icmp_eq (ji_aload 1 (ji_areturn e))
    (ji_aload 0 (ji_getfI 3 4 (ji_const 200 (ji_icmp_lt (K 2)
    (ji_aload 0 (ji_getfI 3 4 (ji_const 209 (ji_icmp_le (ji_aload 0 (ji_aload 0 (ji_getfI 3 4 (ji_putfI 3 7 (ji_aload 0 (ji_getfI 3 7 (ji_const 201 (ji_icmp_ne (K 3)
    (ji_aload 1 (ji_getfR 4 1 (ji_ifnonnull (K 5)
    (K 3))))))))))))
    (K 2)))))))))))))
  | 2 => (ji_aload 0 (ji_const 1 (ji_callV e MX3_wrong 3 2 (ji_athrow e))))
  | 3 => (ji_aload 0 (ji_getfI 3 7 (ji_const 202 (ji_icmp_ne (K 4)
    (ji_aload 1 (ji_getfR 4 2 (ji_ifnonnull (K 5)
    (K 4))))))))
  | 4 => (ji_aload 0 (ji_getfI 3 7 (ji_const 203 (ji_icmp_ne (K 6)
    (ji_aload 1 (ji_getfI 4 3 (ji_if_le (K 6)
    (K 5))))))))
  | 5 => (ji_aload 0 (ji_const 4 (ji_callV e MX3_wrong 3 2 (ji_athrow e))))
  | 6 => (ji_aload 1 (ji_getfI 4 4 (ji_const 24 (ji_icmp_ne (ji_aload 0 (ji_callV e MX3_next 3 1 (ji_aload 0 (ji_aload 1 (ji_callV e MX3_clause 3 2 (ji_aload 0 (ji_const 59 (ji_callV e MX3_want 3 2 (ji_aload 1 (ji_dup (ji_getfI 4 4 (ji_const 1 (ji_iadd (ji_putfI 4 4 (ji_goto (K 1))))))))))))))))
    (ji_aload 0 (ji_const 6 (ji_callV e MX3_wrong 3 2 (ji_athrow e))))))))
  | _ => fun _ _ _ _ _ => False
def pX3_read : Nat → Nat := fun k => match k with
  | 0 => 0
  | 1 => 12
  | 2 => 42
  | 3 => 73
  | 4 => 90
  | 5 => 107
  | 6 => 113
  | _ => 0
theorem sX3_read : jSound bX3_read pX3_read MX3_read := by
  intro e p ev R s m args below meth c hX hr hn hlk K hK k
  match k with
  | 0 => exact (js_new hX (ci := 4) (RX4, TX4, 6) rfl (by decide) q483 q484 q161 dX3_read_0 (js_dup hX dX3_read_3 (js_callIN hX MX4_init (n := 0) q485 q486 q161 (lw_meth q487) rfl rfl npX4_init dX3_read_4 (js_astore_n hX dX3_read_7 rfl (by decide) (js_aload_n hX dX3_read_8 rfl (js_callV hX MX3_next (ci := 3) (n := 0) (RX3, TX3, 8) rfl rfl (lw_V q543 q545 qs5 q160 q546) npX3_next dX3_read_9 (hK 1)))))))
  | 1 => exact (js_aload_n hX dX3_read_12 rfl (js_getfI hX (ci := 3) (k := 4) (RX3, TX3, 8) rfl (by decide) rfl (Or.inl q458) (fun _ h => h) dX3_read_13 (js_const hX (z := 301) (by unfold inI; omega) dX3_read_16 (Or.inr (Or.inr (Or.inl ⟨301, rfl, rfl, rfl⟩))) (js_icmp_eq hX (tgt := 157) dX3_read_19 rfl (js_aload_n hX dX3_read_157 rfl (js_areturn hX hr (by first | exact Or.inl ⟨_, rfl⟩ | exact Or.inr ⟨_, rfl⟩) hlk dX3_read_158))
    (js_aload_n hX dX3_read_22 rfl (js_getfI hX (ci := 3) (k := 4) (RX3, TX3, 8) rfl (by decide) rfl (Or.inl q458) (fun _ h => h) dX3_read_23 (js_const hX (z := 200) (by unfold inI; omega) dX3_read_26 (Or.inr (Or.inr (Or.inl ⟨200, rfl, rfl, rfl⟩))) (js_icmp_lt hX (tgt := 42) dX3_read_29 rfl (hK 2)
    (js_aload_n hX dX3_read_32 rfl (js_getfI hX (ci := 3) (k := 4) (RX3, TX3, 8) rfl (by decide) rfl (Or.inl q458) (fun _ h => h) dX3_read_33 (js_const hX (z := 209) (by unfold inI; omega) dX3_read_36 (Or.inr (Or.inr (Or.inl ⟨209, rfl, rfl, rfl⟩))) (js_icmp_le hX (tgt := 48) dX3_read_39 rfl (js_aload_n hX dX3_read_48 rfl (js_aload_n hX dX3_read_49 rfl (js_getfI hX (ci := 3) (k := 4) (RX3, TX3, 8) rfl (by decide) rfl (Or.inl q458) (fun _ h => h) dX3_read_50 (js_putfI hX (ci := 3) (k := 7) (RX3, TX3, 8) rfl (by decide) rfl (Or.inl q461) (fun _ h => h) (Or.inl rfl) dX3_read_53 (js_aload_n hX dX3_read_56 rfl (js_getfI hX (ci := 3) (k := 7) (RX3, TX3, 8) rfl (by decide) rfl (Or.inl q461) (fun _ h => h) dX3_read_57 (js_const hX (z := 201) (by unfold inI; omega) dX3_read_60 (Or.inr (Or.inr (Or.inl ⟨201, rfl, rfl, rfl⟩))) (js_icmp_ne hX (tgt := 73) dX3_read_63 rfl (hK 3)
    (js_aload_n hX dX3_read_66 rfl (js_getfR hX (ci := 4) (k := 1) (RX4, TX4, 6) rfl (by decide) rfl (Or.inr ⟨_, q520⟩) (fun _ h => h) dX3_read_67 (js_ifnonnull hX (tgt := 107) dX3_read_70 rfl (hK 5)
    (hK 3))))))))))))
    (hK 2)))))))))))))
  | 2 => exact (js_aload_n hX dX3_read_42 rfl (js_const hX (z := 1) (by unfold inI; omega) dX3_read_43 (Or.inl ⟨1, rfl, rfl, rfl⟩) (js_callV hX MX3_wrong (ci := 3) (n := 1) (RX3, TX3, 8) rfl rfl (lw_V q610 q612 qs7 q160 q613) npX3_wrong dX3_read_44 (js_athrow hX dX3_read_47))))
  | 3 => exact (js_aload_n hX dX3_read_73 rfl (js_getfI hX (ci := 3) (k := 7) (RX3, TX3, 8) rfl (by decide) rfl (Or.inl q461) (fun _ h => h) dX3_read_74 (js_const hX (z := 202) (by unfold inI; omega) dX3_read_77 (Or.inr (Or.inr (Or.inl ⟨202, rfl, rfl, rfl⟩))) (js_icmp_ne hX (tgt := 90) dX3_read_80 rfl (hK 4)
    (js_aload_n hX dX3_read_83 rfl (js_getfR hX (ci := 4) (k := 2) (RX4, TX4, 6) rfl (by decide) rfl (Or.inr ⟨_, q522⟩) (fun _ h => h) dX3_read_84 (js_ifnonnull hX (tgt := 107) dX3_read_87 rfl (hK 5)
    (hK 4))))))))
  | 4 => exact (js_aload_n hX dX3_read_90 rfl (js_getfI hX (ci := 3) (k := 7) (RX3, TX3, 8) rfl (by decide) rfl (Or.inl q461) (fun _ h => h) dX3_read_91 (js_const hX (z := 203) (by unfold inI; omega) dX3_read_94 (Or.inr (Or.inr (Or.inl ⟨203, rfl, rfl, rfl⟩))) (js_icmp_ne hX (tgt := 113) dX3_read_97 rfl (hK 6)
    (js_aload_n hX dX3_read_100 rfl (js_getfI hX (ci := 4) (k := 3) (RX4, TX4, 6) rfl (by decide) rfl (Or.inr ⟨_, q524⟩) (fun _ h => h) dX3_read_101 (js_if_le hX (tgt := 113) dX3_read_104 rfl (hK 6)
    (hK 5))))))))
  | 5 => exact (js_aload_n hX dX3_read_107 rfl (js_const hX (z := 4) (by unfold inI; omega) dX3_read_108 (Or.inl ⟨4, rfl, rfl, rfl⟩) (js_callV hX MX3_wrong (ci := 3) (n := 1) (RX3, TX3, 8) rfl rfl (lw_V q610 q612 qs7 q160 q613) npX3_wrong dX3_read_109 (js_athrow hX dX3_read_112))))
  | 6 => exact (js_aload_n hX dX3_read_113 rfl (js_getfI hX (ci := 4) (k := 4) (RX4, TX4, 6) rfl (by decide) rfl (Or.inr ⟨_, q526⟩) (fun _ h => h) dX3_read_114 (js_const hX (z := 24) (by unfold inI; omega) dX3_read_117 (Or.inr (Or.inl ⟨24, rfl, rfl, rfl⟩)) (js_icmp_ne hX (tgt := 129) dX3_read_119 rfl (js_aload_n hX dX3_read_129 rfl (js_callV hX MX3_next (ci := 3) (n := 0) (RX3, TX3, 8) rfl rfl (lw_V q543 q545 qs5 q160 q546) npX3_next dX3_read_130 (js_aload_n hX dX3_read_133 rfl (js_aload_n hX dX3_read_134 rfl (js_callV hX MX3_clause (ci := 3) (n := 1) (RX3, TX3, 8) rfl rfl (lw_V q678 q680 qs9 q160 q681) npX3_clause dX3_read_135 (js_aload_n hX dX3_read_138 rfl (js_const hX (z := 59) (by unfold inI; omega) dX3_read_139 (Or.inr (Or.inl ⟨59, rfl, rfl, rfl⟩)) (js_callV hX MX3_want (ci := 3) (n := 1) (RX3, TX3, 8) rfl rfl (lw_V q763 q765 qs21 q160 q766) npX3_want dX3_read_141 (js_aload_n hX dX3_read_144 rfl (js_dup hX dX3_read_145 (js_getfI hX (ci := 4) (k := 4) (RX4, TX4, 6) rfl (by decide) rfl (Or.inr ⟨_, q526⟩) (fun _ h => h) dX3_read_146 (js_const hX (z := 1) (by unfold inI; omega) dX3_read_149 (Or.inl ⟨1, rfl, rfl, rfl⟩) (js_iadd hX dX3_read_150 (js_putfI hX (ci := 4) (k := 4) (RX4, TX4, 6) rfl (by decide) rfl (Or.inr ⟨_, q526⟩) (fun _ h => h) (Or.inl rfl) dX3_read_151 (js_goto hX (tgt := 12) dX3_read_154 rfl (hK 1))))))))))))))))
    (js_aload_n hX dX3_read_122 rfl (js_const hX (z := 6) (by unfold inI; omega) dX3_read_123 (Or.inr (Or.inl ⟨6, rfl, rfl, rfl⟩)) (js_callV hX MX3_wrong (ci := 3) (n := 1) (RX3, TX3, 8) rfl rfl (lw_V q610 q612 qs7 q160 q613) npX3_wrong dX3_read_125 (js_athrow hX dX3_read_128))))))))
  | k + 7 => intro ls st h nc ns hf; exact hf.elim
def bX3_next : jjB := fun e K k => match k with
  | 0 => (ji_aload 0 (ji_getfI 3 2 (ji_aload 0 (ji_getfI 3 1 (ji_icmp_ge (K 2)
    (ji_aload 0 (ji_getfR 3 0 (ji_aload 0 (ji_getfI 3 2 (ji_bald (ji_const 32 (ji_icmp_eq (K 1)
    (ji_aload 0 (ji_getfR 3 0 (ji_aload 0 (ji_getfI 3 2 (ji_bald (ji_const 10 (ji_icmp_ne (K 2)
    (K 1))))))))))))))))))))
  | 1 => (ji_aload 0 (ji_dup (ji_getfI 3 2 (ji_const 1 (ji_iadd (ji_putfI 3 2 (ji_goto (K 0))))))))
  | 2 => (ji_aload 0 (ji_aload 0 (ji_getfI 3 2 (ji_putfI 3 3 (ji_aload 0 (ji_getfI 3 2 (ji_aload 0 (ji_getfI 3 1 (ji_icmp_ne (ji_aload 0 (ji_getfR 3 0 (ji_aload 0 (ji_getfI 3 2 (ji_bald (ji_callS e MX3_isLetter 1 (ji_if_eq (ji_aload 0 (ji_getfR 3 0 (ji_aload 0 (ji_getfI 3 2 (ji_bald (ji_callS e MX3_isDigit 1 (ji_if_eq (ji_aload 0 (ji_getfR 3 0 (ji_aload 0 (ji_getfI 3 2 (ji_bald (ji_istore 1 (ji_aload 0 (ji_dup (ji_getfI 3 2 (ji_const 1 (ji_iadd (ji_putfI 3 2 (ji_aload 0 (ji_const 302 (ji_putfI 3 4 (ji_const 0 (ji_istore 2 (K 8))))))))))))))))))
    (ji_aload 0 (ji_const 300 (ji_putfI 3 4 (ji_aload 0 (ji_const 0 (ji_putfI 3 5 (K 7))))))))))))))
    (K 3))))))))
    (ji_aload 0 (ji_const 301 (ji_putfI 3 4 (ji_goto (K 12))))))))))))))
  | 3 => (ji_aload 0 (ji_getfI 3 2 (ji_aload 0 (ji_getfI 3 1 (ji_icmp_ge (K 4)
    (ji_aload 0 (ji_getfR 3 0 (ji_aload 0 (ji_getfI 3 2 (ji_bald (ji_callS e MX3_isLetter 1 (ji_if_eq (K 4)
    (ji_aload 0 (ji_dup (ji_getfI 3 2 (ji_const 1 (ji_iadd (ji_putfI 3 2 (ji_goto (K 3))))))))))))))))))))
  | 4 => (ji_aload 0 (ji_const 302 (ji_putfI 3 4 (ji_const 0 (ji_istore 1 (K 5))))))
  | 5 => (ji_iload 1 (ji_refc 5 (ji_alen (-9) (ji_icmp_ge (ji_goto (K 12))
    (ji_aload 0 (ji_refc 5 (ji_iload 1 (ji_aald (-9) (ji_callV e MX3_isWord 3 2 (ji_if_eq (K 6)
    (ji_aload 0 (ji_const 200 (ji_iload 1 (ji_iadd (ji_putfI 3 4 (K 6))))))))))))))))
  | 6 => (ji_iinc 1 1 (ji_goto (K 5)))
  | 7 => (ji_aload 0 (ji_getfI 3 2 (ji_aload 0 (ji_getfI 3 1 (ji_icmp_ge (K 12)
    (ji_aload 0 (ji_getfR 3 0 (ji_aload 0 (ji_getfI 3 2 (ji_bald (ji_callS e MX3_isDigit 1 (ji_if_eq (K 12)
    (ji_aload 0 (ji_const 99999 (ji_const 10 (ji_aload 0 (ji_getfI 3 5 (ji_imul (ji_aload 0 (ji_getfR 3 0 (ji_aload 0 (ji_getfI 3 2 (ji_bald (ji_iadd (ji_const 48 (ji_isub (ji_callS e MJ3_min_2 2 (ji_putfI 3 5 (ji_aload 0 (ji_dup (ji_getfI 3 2 (ji_const 1 (ji_iadd (ji_putfI 3 2 (ji_goto (K 7))))))))))))))))))))))))))))))))))))
  | 8 => (ji_iload 2 (ji_refc 8 (ji_callV e MJ7_length 16 1 (ji_icmp_ge (ji_iload 1 (ji_const 60 (ji_icmp_eq (K 10)
    (ji_iload 1 (ji_const 62 (ji_icmp_ne (K 12)
    (K 10)))))))
    (ji_refc 8 (ji_iload 2 (ji_callV e MJ7_charAt 16 2 (ji_iload 1 (ji_icmp_ne (K 9)
    (ji_aload 0 (ji_iload 1 (ji_putfI 3 4 (K 9)))))))))))))
  | 9 => (ji_iinc 2 1 (ji_goto (K 8)))
  | 10 => (ji_aload 0 (ji_getfI 3 2 (ji_aload 0 (ji_getfI 3 1 (ji_icmp_ge (K 12)
    (ji_aload 0 (ji_getfR 3 0 (ji_aload 0 (ji_getfI 3 2 (ji_bald (ji_const 61 (ji_icmp_ne (K 12)
    (ji_aload 0 (ji_iload 1 (ji_const 60 (ji_icmp_ne (ji_const 304 (K 11))
    (ji_const 303 (ji_goto (K 11)))))))))))))))))))
  | 11 => (ji_putfI 3 4 (ji_aload 0 (ji_dup (ji_getfI 3 2 (ji_const 1 (ji_iadd (ji_putfI 3 2 (K 12))))))))
  | 12 => (ji_return e)
  | _ => fun _ _ _ _ _ => False
def pX3_next : Nat → Nat := fun k => match k with
  | 0 => 0
  | 1 => 39
  | 2 => 52
  | 3 => 96
  | 4 => 135
  | 5 => 144
  | 6 => 173
  | 7 => 209
  | 8 => 306
  | 9 => 330
  | 10 => 348
  | 11 => 389
  | 12 => 402
  | _ => 0
theorem sX3_next : jSound bX3_next pX3_next MX3_next := by
  intro e p ev R s m args below meth c hX hr hn hlk K hK k
  match k with
  | 0 => exact (js_aload_n hX dX3_next_0 rfl (js_getfI hX (ci := 3) (k := 2) (RX3, TX3, 8) rfl (by decide) rfl (Or.inl q456) (fun _ h => h) dX3_next_1 (js_aload_n hX dX3_next_4 rfl (js_getfI hX (ci := 3) (k := 1) (RX3, TX3, 8) rfl (by decide) rfl (Or.inl q455) (fun _ h => h) dX3_next_5 (js_icmp_ge hX (tgt := 52) dX3_next_8 rfl (hK 2)
    (js_aload_n hX dX3_next_11 rfl (js_getfR hX (ci := 3) (k := 0) (RX3, TX3, 8) rfl (by decide) rfl (Or.inl q454) (fun _ h => h) dX3_next_12 (js_aload_n hX dX3_next_15 rfl (js_getfI hX (ci := 3) (k := 2) (RX3, TX3, 8) rfl (by decide) rfl (Or.inl q456) (fun _ h => h) dX3_next_16 (js_bald hX dX3_next_19 (js_const hX (z := 32) (by unfold inI; omega) dX3_next_20 (Or.inr (Or.inl ⟨32, rfl, rfl, rfl⟩)) (js_icmp_eq hX (tgt := 39) dX3_next_22 rfl (hK 1)
    (js_aload_n hX dX3_next_25 rfl (js_getfR hX (ci := 3) (k := 0) (RX3, TX3, 8) rfl (by decide) rfl (Or.inl q454) (fun _ h => h) dX3_next_26 (js_aload_n hX dX3_next_29 rfl (js_getfI hX (ci := 3) (k := 2) (RX3, TX3, 8) rfl (by decide) rfl (Or.inl q456) (fun _ h => h) dX3_next_30 (js_bald hX dX3_next_33 (js_const hX (z := 10) (by unfold inI; omega) dX3_next_34 (Or.inr (Or.inl ⟨10, rfl, rfl, rfl⟩)) (js_icmp_ne hX (tgt := 52) dX3_next_36 rfl (hK 2)
    (hK 1))))))))))))))))))))
  | 1 => exact (js_aload_n hX dX3_next_39 rfl (js_dup hX dX3_next_40 (js_getfI hX (ci := 3) (k := 2) (RX3, TX3, 8) rfl (by decide) rfl (Or.inl q456) (fun _ h => h) dX3_next_41 (js_const hX (z := 1) (by unfold inI; omega) dX3_next_44 (Or.inl ⟨1, rfl, rfl, rfl⟩) (js_iadd hX dX3_next_45 (js_putfI hX (ci := 3) (k := 2) (RX3, TX3, 8) rfl (by decide) rfl (Or.inl q456) (fun _ h => h) (Or.inl rfl) dX3_next_46 (js_goto hX (tgt := 0) dX3_next_49 rfl (hK 0))))))))
  | 2 => exact (js_aload_n hX dX3_next_52 rfl (js_aload_n hX dX3_next_53 rfl (js_getfI hX (ci := 3) (k := 2) (RX3, TX3, 8) rfl (by decide) rfl (Or.inl q456) (fun _ h => h) dX3_next_54 (js_putfI hX (ci := 3) (k := 3) (RX3, TX3, 8) rfl (by decide) rfl (Or.inl q457) (fun _ h => h) (Or.inl rfl) dX3_next_57 (js_aload_n hX dX3_next_60 rfl (js_getfI hX (ci := 3) (k := 2) (RX3, TX3, 8) rfl (by decide) rfl (Or.inl q456) (fun _ h => h) dX3_next_61 (js_aload_n hX dX3_next_64 rfl (js_getfI hX (ci := 3) (k := 1) (RX3, TX3, 8) rfl (by decide) rfl (Or.inl q455) (fun _ h => h) dX3_next_65 (js_icmp_ne hX (tgt := 81) dX3_next_68 rfl (js_aload_n hX dX3_next_81 rfl (js_getfR hX (ci := 3) (k := 0) (RX3, TX3, 8) rfl (by decide) rfl (Or.inl q454) (fun _ h => h) dX3_next_82 (js_aload_n hX dX3_next_85 rfl (js_getfI hX (ci := 3) (k := 2) (RX3, TX3, 8) rfl (by decide) rfl (Or.inl q456) (fun _ h => h) dX3_next_86 (js_bald hX dX3_next_89 (js_callS hX MX3_isLetter (n := 1) (lw_S q547 q548 q160 q549) npX3_isLetter dX3_next_90 (js_if_eq hX (tgt := 182) dX3_next_93 rfl (js_aload_n hX dX3_next_182 rfl (js_getfR hX (ci := 3) (k := 0) (RX3, TX3, 8) rfl (by decide) rfl (Or.inl q454) (fun _ h => h) dX3_next_183 (js_aload_n hX dX3_next_186 rfl (js_getfI hX (ci := 3) (k := 2) (RX3, TX3, 8) rfl (by decide) rfl (Or.inl q456) (fun _ h => h) dX3_next_187 (js_bald hX dX3_next_190 (js_callS hX MX3_isDigit (n := 1) (lw_S q602 q603 q160 q604) npX3_isDigit dX3_next_191 (js_if_eq hX (tgt := 277) dX3_next_194 rfl (js_aload_n hX dX3_next_277 rfl (js_getfR hX (ci := 3) (k := 0) (RX3, TX3, 8) rfl (by decide) rfl (Or.inl q454) (fun _ h => h) dX3_next_278 (js_aload_n hX dX3_next_281 rfl (js_getfI hX (ci := 3) (k := 2) (RX3, TX3, 8) rfl (by decide) rfl (Or.inl q456) (fun _ h => h) dX3_next_282 (js_bald hX dX3_next_285 (js_istore_n hX dX3_next_286 rfl (by decide) (js_aload_n hX dX3_next_287 rfl (js_dup hX dX3_next_288 (js_getfI hX (ci := 3) (k := 2) (RX3, TX3, 8) rfl (by decide) rfl (Or.inl q456) (fun _ h => h) dX3_next_289 (js_const hX (z := 1) (by unfold inI; omega) dX3_next_292 (Or.inl ⟨1, rfl, rfl, rfl⟩) (js_iadd hX dX3_next_293 (js_putfI hX (ci := 3) (k := 2) (RX3, TX3, 8) rfl (by decide) rfl (Or.inl q456) (fun _ h => h) (Or.inl rfl) dX3_next_294 (js_aload_n hX dX3_next_297 rfl (js_const hX (z := 302) (by unfold inI; omega) dX3_next_298 (Or.inr (Or.inr (Or.inl ⟨302, rfl, rfl, rfl⟩))) (js_putfI hX (ci := 3) (k := 4) (RX3, TX3, 8) rfl (by decide) rfl (Or.inl q458) (fun _ h => h) (Or.inl rfl) dX3_next_301 (js_const hX (z := 0) (by unfold inI; omega) dX3_next_304 (Or.inl ⟨0, rfl, rfl, rfl⟩) (js_istore_n hX dX3_next_305 rfl (by decide) (hK 8))))))))))))))))))
    (js_aload_n hX dX3_next_197 rfl (js_const hX (z := 300) (by unfold inI; omega) dX3_next_198 (Or.inr (Or.inr (Or.inl ⟨300, rfl, rfl, rfl⟩))) (js_putfI hX (ci := 3) (k := 4) (RX3, TX3, 8) rfl (by decide) rfl (Or.inl q458) (fun _ h => h) (Or.inl rfl) dX3_next_201 (js_aload_n hX dX3_next_204 rfl (js_const hX (z := 0) (by unfold inI; omega) dX3_next_205 (Or.inl ⟨0, rfl, rfl, rfl⟩) (js_putfI hX (ci := 3) (k := 5) (RX3, TX3, 8) rfl (by decide) rfl (Or.inl q459) (fun _ h => h) (Or.inl rfl) dX3_next_206 (hK 7))))))))))))))
    (hK 3))))))))
    (js_aload_n hX dX3_next_71 rfl (js_const hX (z := 301) (by unfold inI; omega) dX3_next_72 (Or.inr (Or.inr (Or.inl ⟨301, rfl, rfl, rfl⟩))) (js_putfI hX (ci := 3) (k := 4) (RX3, TX3, 8) rfl (by decide) rfl (Or.inl q458) (fun _ h => h) (Or.inl rfl) dX3_next_75 (js_goto hX (tgt := 402) dX3_next_78 rfl (hK 12))))))))))))))
  | 3 => exact (js_aload_n hX dX3_next_96 rfl (js_getfI hX (ci := 3) (k := 2) (RX3, TX3, 8) rfl (by decide) rfl (Or.inl q456) (fun _ h => h) dX3_next_97 (js_aload_n hX dX3_next_100 rfl (js_getfI hX (ci := 3) (k := 1) (RX3, TX3, 8) rfl (by decide) rfl (Or.inl q455) (fun _ h => h) dX3_next_101 (js_icmp_ge hX (tgt := 135) dX3_next_104 rfl (hK 4)
    (js_aload_n hX dX3_next_107 rfl (js_getfR hX (ci := 3) (k := 0) (RX3, TX3, 8) rfl (by decide) rfl (Or.inl q454) (fun _ h => h) dX3_next_108 (js_aload_n hX dX3_next_111 rfl (js_getfI hX (ci := 3) (k := 2) (RX3, TX3, 8) rfl (by decide) rfl (Or.inl q456) (fun _ h => h) dX3_next_112 (js_bald hX dX3_next_115 (js_callS hX MX3_isLetter (n := 1) (lw_S q547 q548 q160 q549) npX3_isLetter dX3_next_116 (js_if_eq hX (tgt := 135) dX3_next_119 rfl (hK 4)
    (js_aload_n hX dX3_next_122 rfl (js_dup hX dX3_next_123 (js_getfI hX (ci := 3) (k := 2) (RX3, TX3, 8) rfl (by decide) rfl (Or.inl q456) (fun _ h => h) dX3_next_124 (js_const hX (z := 1) (by unfold inI; omega) dX3_next_127 (Or.inl ⟨1, rfl, rfl, rfl⟩) (js_iadd hX dX3_next_128 (js_putfI hX (ci := 3) (k := 2) (RX3, TX3, 8) rfl (by decide) rfl (Or.inl q456) (fun _ h => h) (Or.inl rfl) dX3_next_129 (js_goto hX (tgt := 96) dX3_next_132 rfl (hK 3))))))))))))))))))))
  | 4 => exact (js_aload_n hX dX3_next_135 rfl (js_const hX (z := 302) (by unfold inI; omega) dX3_next_136 (Or.inr (Or.inr (Or.inl ⟨302, rfl, rfl, rfl⟩))) (js_putfI hX (ci := 3) (k := 4) (RX3, TX3, 8) rfl (by decide) rfl (Or.inl q458) (fun _ h => h) (Or.inl rfl) dX3_next_139 (js_const hX (z := 0) (by unfold inI; omega) dX3_next_142 (Or.inl ⟨0, rfl, rfl, rfl⟩) (js_istore_n hX dX3_next_143 rfl (by decide) (hK 5))))))
  | 5 => exact (js_iload_n hX dX3_next_144 rfl (js_getsR hX (z := 5) (by decide) (by simp [jst]) q550 (fun _ h => h) dX3_next_145 (js_alen hX (cd := (-9)) (by decide) dX3_next_148 (js_icmp_ge hX (tgt := 179) dX3_next_149 rfl (js_goto hX (tgt := 402) dX3_next_179 rfl (hK 12))
    (js_aload_n hX dX3_next_152 rfl (js_getsR hX (z := 5) (by decide) (by simp [jst]) q550 (fun _ h => h) dX3_next_153 (js_iload_n hX dX3_next_156 rfl (js_aald hX (cd := (-9)) (by decide) rfl rfl dX3_next_157 (js_callV hX MX3_isWord (ci := 3) (n := 1) (RX3, TX3, 8) rfl rfl (lw_V q552 q554 qs6 q160 q555) npX3_isWord dX3_next_158 (js_if_eq hX (tgt := 173) dX3_next_161 rfl (hK 6)
    (js_aload_n hX dX3_next_164 rfl (js_const hX (z := 200) (by unfold inI; omega) dX3_next_165 (Or.inr (Or.inr (Or.inl ⟨200, rfl, rfl, rfl⟩))) (js_iload_n hX dX3_next_168 rfl (js_iadd hX dX3_next_169 (js_putfI hX (ci := 3) (k := 4) (RX3, TX3, 8) rfl (by decide) rfl (Or.inl q458) (fun _ h => h) (Or.inl rfl) dX3_next_170 (hK 6))))))))))))))))
  | 6 => exact (js_iinc hX dX3_next_173 (by decide) (js_goto hX (tgt := 144) dX3_next_176 rfl (hK 5)))
  | 7 => exact (js_aload_n hX dX3_next_209 rfl (js_getfI hX (ci := 3) (k := 2) (RX3, TX3, 8) rfl (by decide) rfl (Or.inl q456) (fun _ h => h) dX3_next_210 (js_aload_n hX dX3_next_213 rfl (js_getfI hX (ci := 3) (k := 1) (RX3, TX3, 8) rfl (by decide) rfl (Or.inl q455) (fun _ h => h) dX3_next_214 (js_icmp_ge hX (tgt := 402) dX3_next_217 rfl (hK 12)
    (js_aload_n hX dX3_next_220 rfl (js_getfR hX (ci := 3) (k := 0) (RX3, TX3, 8) rfl (by decide) rfl (Or.inl q454) (fun _ h => h) dX3_next_221 (js_aload_n hX dX3_next_224 rfl (js_getfI hX (ci := 3) (k := 2) (RX3, TX3, 8) rfl (by decide) rfl (Or.inl q456) (fun _ h => h) dX3_next_225 (js_bald hX dX3_next_228 (js_callS hX MX3_isDigit (n := 1) (lw_S q602 q603 q160 q604) npX3_isDigit dX3_next_229 (js_if_eq hX (tgt := 402) dX3_next_232 rfl (hK 12)
    (js_aload_n hX dX3_next_235 rfl (js_const hX (z := 99999) (by unfold inI; omega) dX3_next_236 (Or.inr (Or.inr (Or.inr (Or.inl ⟨46, rfl, rfl, q605⟩)))) (js_const hX (z := 10) (by unfold inI; omega) dX3_next_238 (Or.inr (Or.inl ⟨10, rfl, rfl, rfl⟩)) (js_aload_n hX dX3_next_240 rfl (js_getfI hX (ci := 3) (k := 5) (RX3, TX3, 8) rfl (by decide) rfl (Or.inl q459) (fun _ h => h) dX3_next_241 (js_imul hX dX3_next_244 (js_aload_n hX dX3_next_245 rfl (js_getfR hX (ci := 3) (k := 0) (RX3, TX3, 8) rfl (by decide) rfl (Or.inl q454) (fun _ h => h) dX3_next_246 (js_aload_n hX dX3_next_249 rfl (js_getfI hX (ci := 3) (k := 2) (RX3, TX3, 8) rfl (by decide) rfl (Or.inl q456) (fun _ h => h) dX3_next_250 (js_bald hX dX3_next_253 (js_iadd hX dX3_next_254 (js_const hX (z := 48) (by unfold inI; omega) dX3_next_255 (Or.inr (Or.inl ⟨48, rfl, rfl, rfl⟩)) (js_isub hX dX3_next_257 (js_callS hX MJ3_min_2 (n := 2) (lw_S q606 q607 q159 q608) npJ3_min_2 dX3_next_258 (js_putfI hX (ci := 3) (k := 5) (RX3, TX3, 8) rfl (by decide) rfl (Or.inl q459) (fun _ h => h) (Or.inl rfl) dX3_next_261 (js_aload_n hX dX3_next_264 rfl (js_dup hX dX3_next_265 (js_getfI hX (ci := 3) (k := 2) (RX3, TX3, 8) rfl (by decide) rfl (Or.inl q456) (fun _ h => h) dX3_next_266 (js_const hX (z := 1) (by unfold inI; omega) dX3_next_269 (Or.inl ⟨1, rfl, rfl, rfl⟩) (js_iadd hX dX3_next_270 (js_putfI hX (ci := 3) (k := 2) (RX3, TX3, 8) rfl (by decide) rfl (Or.inl q456) (fun _ h => h) (Or.inl rfl) dX3_next_271 (js_goto hX (tgt := 209) dX3_next_274 rfl (hK 7))))))))))))))))))))))))))))))))))))
  | 8 => exact (js_iload_n hX dX3_next_306 rfl (js_ldcS hX dX3_next_307 (js_callV hX MJ7_length (ci := 16) (n := 0) ("java/lang/String", jT16, 2) rfl rfl (lw_V q556 q557 q558 q165 q559) npJ7_length dX3_next_309 (js_icmp_ge hX (tgt := 336) dX3_next_312 rfl (js_iload_n hX dX3_next_336 rfl (js_const hX (z := 60) (by unfold inI; omega) dX3_next_337 (Or.inr (Or.inl ⟨60, rfl, rfl, rfl⟩)) (js_icmp_eq hX (tgt := 348) dX3_next_339 rfl (hK 10)
    (js_iload_n hX dX3_next_342 rfl (js_const hX (z := 62) (by unfold inI; omega) dX3_next_343 (Or.inr (Or.inl ⟨62, rfl, rfl, rfl⟩)) (js_icmp_ne hX (tgt := 402) dX3_next_345 rfl (hK 12)
    (hK 10)))))))
    (js_ldcS hX dX3_next_315 (js_iload_n hX dX3_next_317 rfl (js_callV hX MJ7_charAt (ci := 16) (n := 1) ("java/lang/String", jT16, 2) rfl rfl (lw_V q566 q567 q568 q165 q569) npJ7_charAt dX3_next_318 (js_iload_n hX dX3_next_321 rfl (js_icmp_ne hX (tgt := 330) dX3_next_322 rfl (hK 9)
    (js_aload_n hX dX3_next_325 rfl (js_iload_n hX dX3_next_326 rfl (js_putfI hX (ci := 3) (k := 4) (RX3, TX3, 8) rfl (by decide) rfl (Or.inl q458) (fun _ h => h) (Or.inl rfl) dX3_next_327 (hK 9)))))))))))))
  | 9 => exact (js_iinc hX dX3_next_330 (by decide) (js_goto hX (tgt := 306) dX3_next_333 rfl (hK 8)))
  | 10 => exact (js_aload_n hX dX3_next_348 rfl (js_getfI hX (ci := 3) (k := 2) (RX3, TX3, 8) rfl (by decide) rfl (Or.inl q456) (fun _ h => h) dX3_next_349 (js_aload_n hX dX3_next_352 rfl (js_getfI hX (ci := 3) (k := 1) (RX3, TX3, 8) rfl (by decide) rfl (Or.inl q455) (fun _ h => h) dX3_next_353 (js_icmp_ge hX (tgt := 402) dX3_next_356 rfl (hK 12)
    (js_aload_n hX dX3_next_359 rfl (js_getfR hX (ci := 3) (k := 0) (RX3, TX3, 8) rfl (by decide) rfl (Or.inl q454) (fun _ h => h) dX3_next_360 (js_aload_n hX dX3_next_363 rfl (js_getfI hX (ci := 3) (k := 2) (RX3, TX3, 8) rfl (by decide) rfl (Or.inl q456) (fun _ h => h) dX3_next_364 (js_bald hX dX3_next_367 (js_const hX (z := 61) (by unfold inI; omega) dX3_next_368 (Or.inr (Or.inl ⟨61, rfl, rfl, rfl⟩)) (js_icmp_ne hX (tgt := 402) dX3_next_370 rfl (hK 12)
    (js_aload_n hX dX3_next_373 rfl (js_iload_n hX dX3_next_374 rfl (js_const hX (z := 60) (by unfold inI; omega) dX3_next_375 (Or.inr (Or.inl ⟨60, rfl, rfl, rfl⟩)) (js_icmp_ne hX (tgt := 386) dX3_next_377 rfl (js_const hX (z := 304) (by unfold inI; omega) dX3_next_386 (Or.inr (Or.inr (Or.inl ⟨304, rfl, rfl, rfl⟩))) (hK 11))
    (js_const hX (z := 303) (by unfold inI; omega) dX3_next_380 (Or.inr (Or.inr (Or.inl ⟨303, rfl, rfl, rfl⟩))) (js_goto hX (tgt := 389) dX3_next_383 rfl (hK 11)))))))))))))))))))
  | 11 => exact (js_putfI hX (ci := 3) (k := 4) (RX3, TX3, 8) rfl (by decide) rfl (Or.inl q458) (fun _ h => h) (Or.inl rfl) dX3_next_389 (js_aload_n hX dX3_next_392 rfl (js_dup hX dX3_next_393 (js_getfI hX (ci := 3) (k := 2) (RX3, TX3, 8) rfl (by decide) rfl (Or.inl q456) (fun _ h => h) dX3_next_394 (js_const hX (z := 1) (by unfold inI; omega) dX3_next_397 (Or.inl ⟨1, rfl, rfl, rfl⟩) (js_iadd hX dX3_next_398 (js_putfI hX (ci := 3) (k := 2) (RX3, TX3, 8) rfl (by decide) rfl (Or.inl q456) (fun _ h => h) (Or.inl rfl) dX3_next_399 (hK 12))))))))
  | 12 => exact (js_return hX hr hlk dX3_next_402)
  | k + 13 => intro ls st h nc ns hf; exact hf.elim
def bX3_isLetter : jjB := fun e K k => match k with
  | 0 => (ji_iload 0 (ji_const 97 (ji_icmp_lt (K 1)
    (ji_iload 0 (ji_const 122 (ji_icmp_le (K 2)
    (K 1)))))))
  | 1 => (ji_iload 0 (ji_const 65 (ji_icmp_lt (K 3)
    (ji_iload 0 (ji_const 90 (ji_icmp_gt (K 3)
    (K 2)))))))
  | 2 => (ji_const 1 (ji_goto (K 4)))
  | 3 => (ji_const 0 (K 4))
  | 4 => (ji_zreturn e)
  | _ => fun _ _ _ _ _ => False
def pX3_isLetter : Nat → Nat := fun k => match k with
  | 0 => 0
  | 1 => 12
  | 2 => 24
  | 3 => 28
  | 4 => 29
  | _ => 0
theorem sX3_isLetter : jSound bX3_isLetter pX3_isLetter MX3_isLetter := by
  intro e p ev R s m args below meth c hX hr hn hlk K hK k
  match k with
  | 0 => exact (js_iload_n hX dX3_isLetter_0 rfl (js_const hX (z := 97) (by unfold inI; omega) dX3_isLetter_1 (Or.inr (Or.inl ⟨97, rfl, rfl, rfl⟩)) (js_icmp_lt hX (tgt := 12) dX3_isLetter_3 rfl (hK 1)
    (js_iload_n hX dX3_isLetter_6 rfl (js_const hX (z := 122) (by unfold inI; omega) dX3_isLetter_7 (Or.inr (Or.inl ⟨122, rfl, rfl, rfl⟩)) (js_icmp_le hX (tgt := 24) dX3_isLetter_9 rfl (hK 2)
    (hK 1)))))))
  | 1 => exact (js_iload_n hX dX3_isLetter_12 rfl (js_const hX (z := 65) (by unfold inI; omega) dX3_isLetter_13 (Or.inr (Or.inl ⟨65, rfl, rfl, rfl⟩)) (js_icmp_lt hX (tgt := 28) dX3_isLetter_15 rfl (hK 3)
    (js_iload_n hX dX3_isLetter_18 rfl (js_const hX (z := 90) (by unfold inI; omega) dX3_isLetter_19 (Or.inr (Or.inl ⟨90, rfl, rfl, rfl⟩)) (js_icmp_gt hX (tgt := 28) dX3_isLetter_21 rfl (hK 3)
    (hK 2)))))))
  | 2 => exact (js_const hX (z := 1) (by unfold inI; omega) dX3_isLetter_24 (Or.inl ⟨1, rfl, rfl, rfl⟩) (js_goto hX (tgt := 29) dX3_isLetter_25 rfl (hK 4)))
  | 3 => exact (js_const hX (z := 0) (by unfold inI; omega) dX3_isLetter_28 (Or.inl ⟨0, rfl, rfl, rfl⟩) (hK 4))
  | 4 => exact (js_zreturn hX hr hlk dX3_isLetter_29)
  | k + 5 => intro ls st h nc ns hf; exact hf.elim
def bX3_isWord : jjB := fun e K k => match k with
  | 0 => (ji_aload 0 (ji_getfI 3 2 (ji_aload 0 (ji_getfI 3 3 (ji_isub (ji_aload 1 (ji_callV e MJ7_length 16 1 (ji_icmp_eq (ji_const 0 (ji_istore 2 (K 1)))
    (ji_const 0 (ji_zreturn e))))))))))
  | 1 => (ji_iload 2 (ji_aload 1 (ji_callV e MJ7_length 16 1 (ji_icmp_ge (ji_const 1 (ji_zreturn e))
    (ji_aload 0 (ji_getfR 3 0 (ji_aload 0 (ji_getfI 3 3 (ji_iload 2 (ji_iadd (ji_bald (ji_aload 1 (ji_iload 2 (ji_callV e MJ7_charAt 16 2 (ji_icmp_eq (ji_iinc 2 1 (ji_goto (K 1)))
    (ji_const 0 (ji_zreturn e)))))))))))))))))
  | _ => fun _ _ _ _ _ => False
def pX3_isWord : Nat → Nat := fun k => match k with
  | 0 => 0
  | 1 => 20
  | _ => 0
theorem sX3_isWord : jSound bX3_isWord pX3_isWord MX3_isWord := by
  intro e p ev R s m args below meth c hX hr hn hlk K hK k
  match k with
  | 0 => exact (js_aload_n hX dX3_isWord_0 rfl (js_getfI hX (ci := 3) (k := 2) (RX3, TX3, 8) rfl (by decide) rfl (Or.inl q456) (fun _ h => h) dX3_isWord_1 (js_aload_n hX dX3_isWord_4 rfl (js_getfI hX (ci := 3) (k := 3) (RX3, TX3, 8) rfl (by decide) rfl (Or.inl q457) (fun _ h => h) dX3_isWord_5 (js_isub hX dX3_isWord_8 (js_aload_n hX dX3_isWord_9 rfl (js_callV hX MJ7_length (ci := 16) (n := 0) ("java/lang/String", jT16, 2) rfl rfl (lw_V q556 q557 q558 q165 q559) npJ7_length dX3_isWord_10 (js_icmp_eq hX (tgt := 18) dX3_isWord_13 rfl (js_const hX (z := 0) (by unfold inI; omega) dX3_isWord_18 (Or.inl ⟨0, rfl, rfl, rfl⟩) (js_istore_n hX dX3_isWord_19 rfl (by decide) (hK 1)))
    (js_const hX (z := 0) (by unfold inI; omega) dX3_isWord_16 (Or.inl ⟨0, rfl, rfl, rfl⟩) (js_zreturn hX hr hlk dX3_isWord_17))))))))))
  | 1 => exact (js_iload_n hX dX3_isWord_20 rfl (js_aload_n hX dX3_isWord_21 rfl (js_callV hX MJ7_length (ci := 16) (n := 0) ("java/lang/String", jT16, 2) rfl rfl (lw_V q556 q557 q558 q165 q559) npJ7_length dX3_isWord_22 (js_icmp_ge hX (tgt := 55) dX3_isWord_25 rfl (js_const hX (z := 1) (by unfold inI; omega) dX3_isWord_55 (Or.inl ⟨1, rfl, rfl, rfl⟩) (js_zreturn hX hr hlk dX3_isWord_56))
    (js_aload_n hX dX3_isWord_28 rfl (js_getfR hX (ci := 3) (k := 0) (RX3, TX3, 8) rfl (by decide) rfl (Or.inl q454) (fun _ h => h) dX3_isWord_29 (js_aload_n hX dX3_isWord_32 rfl (js_getfI hX (ci := 3) (k := 3) (RX3, TX3, 8) rfl (by decide) rfl (Or.inl q457) (fun _ h => h) dX3_isWord_33 (js_iload_n hX dX3_isWord_36 rfl (js_iadd hX dX3_isWord_37 (js_bald hX dX3_isWord_38 (js_aload_n hX dX3_isWord_39 rfl (js_iload_n hX dX3_isWord_40 rfl (js_callV hX MJ7_charAt (ci := 16) (n := 1) ("java/lang/String", jT16, 2) rfl rfl (lw_V q566 q567 q568 q165 q569) npJ7_charAt dX3_isWord_41 (js_icmp_eq hX (tgt := 49) dX3_isWord_44 rfl (js_iinc hX dX3_isWord_49 (by decide) (js_goto hX (tgt := 20) dX3_isWord_52 rfl (hK 1)))
    (js_const hX (z := 0) (by unfold inI; omega) dX3_isWord_47 (Or.inl ⟨0, rfl, rfl, rfl⟩) (js_zreturn hX hr hlk dX3_isWord_48)))))))))))))))))
  | k + 2 => intro ls st h nc ns hf; exact hf.elim
def bX3_isDigit : jjB := fun e K k => match k with
  | 0 => (ji_iload 0 (ji_const 48 (ji_icmp_lt (K 1)
    (ji_iload 0 (ji_const 57 (ji_icmp_gt (K 1)
    (ji_const 1 (ji_goto (K 2)))))))))
  | 1 => (ji_const 0 (K 2))
  | 2 => (ji_zreturn e)
  | _ => fun _ _ _ _ _ => False
def pX3_isDigit : Nat → Nat := fun k => match k with
  | 0 => 0
  | 1 => 16
  | 2 => 17
  | _ => 0
theorem sX3_isDigit : jSound bX3_isDigit pX3_isDigit MX3_isDigit := by
  intro e p ev R s m args below meth c hX hr hn hlk K hK k
  match k with
  | 0 => exact (js_iload_n hX dX3_isDigit_0 rfl (js_const hX (z := 48) (by unfold inI; omega) dX3_isDigit_1 (Or.inr (Or.inl ⟨48, rfl, rfl, rfl⟩)) (js_icmp_lt hX (tgt := 16) dX3_isDigit_3 rfl (hK 1)
    (js_iload_n hX dX3_isDigit_6 rfl (js_const hX (z := 57) (by unfold inI; omega) dX3_isDigit_7 (Or.inr (Or.inl ⟨57, rfl, rfl, rfl⟩)) (js_icmp_gt hX (tgt := 16) dX3_isDigit_9 rfl (hK 1)
    (js_const hX (z := 1) (by unfold inI; omega) dX3_isDigit_12 (Or.inl ⟨1, rfl, rfl, rfl⟩) (js_goto hX (tgt := 17) dX3_isDigit_13 rfl (hK 2)))))))))
  | 1 => exact (js_const hX (z := 0) (by unfold inI; omega) dX3_isDigit_16 (Or.inl ⟨0, rfl, rfl, rfl⟩) (hK 2))
  | 2 => exact (js_zreturn hX hr hlk dX3_isDigit_17)
  | k + 3 => intro ls st h nc ns hf; exact hf.elim
def bX3_wrong : jjB := fun e K k => match k with
  | 0 => (ji_new e 5 8 (ji_dup (ji_iload 1 (ji_aload 0 (ji_getfI 3 3 (ji_callI e MX5_init 3 (ji_areturn e)))))))
  | _ => fun _ _ _ _ _ => False
def pX3_wrong : Nat → Nat := fun k => match k with
  | 0 => 0
  | _ => 0
theorem sX3_wrong : jSound bX3_wrong pX3_wrong MX3_wrong := by
  intro e p ev R s m args below meth c hX hr hn hlk K hK k
  match k with
  | 0 => exact (js_new hX (ci := 5) (RX5, jT5, 2) rfl (by decide) q614 q615 q170 dX3_wrong_0 (js_dup hX dX3_wrong_3 (js_iload_n hX dX3_wrong_4 rfl (js_aload_n hX dX3_wrong_5 rfl (js_getfI hX (ci := 3) (k := 3) (RX3, TX3, 8) rfl (by decide) rfl (Or.inl q457) (fun _ h => h) dX3_wrong_6 (js_callI hX MX5_init (n := 2) q651 q652 q170 (lw_meth q653) rfl rfl npX5_init dX3_wrong_9 (js_areturn hX hr (by first | exact Or.inl ⟨_, rfl⟩ | exact Or.inr ⟨_, rfl⟩) hlk dX3_wrong_12)))))))
  | k + 1 => intro ls st h nc ns hf; exact hf.elim
def bX3_clause : jjB := fun e K k => match k with
  | 0 => (ji_aload 0 (ji_getfI 3 7 (ji_tsw 200 (ji_aload 1 (ji_getfR 4 5 (ji_aload 0 (ji_aload 1 (ji_getfI 4 4 (ji_callV e MX3_doing 3 2 (ji_callV e MJ6_add 14 2 (ji_pop (K 1))))))))) [(ji_aload 0 (ji_aload 1 (ji_callV e MX3_law 3 2 (ji_goto (K 1))))), (ji_aload 1 (ji_aload 0 (ji_callV e MX3_either 3 1 (ji_putfR 4 1 (ji_goto (K 1)))))), (ji_aload 1 (ji_aload 0 (ji_callV e MX3_sum 3 1 (ji_putfR 4 2 (ji_goto (K 1)))))), (ji_aload 1 (ji_aload 0 (ji_const 1 (ji_const 2 (ji_callV e MX3_number 3 3 (ji_putfI 4 3 (ji_goto (K 1))))))))])))
  | 1 => (ji_return e)
  | _ => fun _ _ _ _ _ => False
def pX3_clause : Nat → Nat := fun k => match k with
  | 0 => 0
  | 1 => 95
  | _ => 0
theorem sX3_clause : jSound bX3_clause pX3_clause MX3_clause := by
  intro e p ev R s m args below meth c hX hr hn hlk K hK k
  match k with
  | 0 => exact (js_aload_n hX dX3_clause_0 rfl (js_getfI hX (ci := 3) (k := 7) (RX3, TX3, 8) rfl (by decide) rfl (Or.inl q461) (fun _ h => h) dX3_clause_1 (js_tsw hX (dflt := 75) (lo := 200) (hi := 203) (tgt := 79) (tgts := [36, 44, 55, 66]) (offs := #[32, 40, 51, 62]) dX3_clause_4 rfl (by decide) (js_aload_n hX dX3_clause_79 rfl (js_getfR hX (ci := 4) (k := 5) (RX4, TX4, 6) rfl (by decide) rfl (Or.inr ⟨_, q528⟩) (fun _ h => h) dX3_clause_80 (js_aload_n hX dX3_clause_83 rfl (js_aload_n hX dX3_clause_84 rfl (js_getfI hX (ci := 4) (k := 4) (RX4, TX4, 6) rfl (by decide) rfl (Or.inr ⟨_, q526⟩) (fun _ h => h) dX3_clause_85 (js_callV hX MX3_doing (ci := 3) (n := 1) (RX3, TX3, 8) rfl rfl (lw_V q917 q919 qs25 q160 q920) npX3_doing dX3_clause_88 (js_callV hX MJ6_add (ci := 14) (n := 1) (RJ6, TJ6, 3) rfl rfl (lw_V q900 q818 q819 q164 q820) npJ6_add dX3_clause_91 (js_pop hX dX3_clause_94 (hK 1))))))))) (jswl_cons (js_aload_n hX dX3_clause_36 rfl (js_aload_n hX dX3_clause_37 rfl (js_callV hX MX3_law (ci := 3) (n := 1) (RX3, TX3, 8) rfl rfl (lw_V q682 q684 qs10 q160 q685) npX3_law dX3_clause_38 (js_goto hX (tgt := 95) dX3_clause_41 rfl (hK 1))))) (jswl_cons (js_aload_n hX dX3_clause_44 rfl (js_aload_n hX dX3_clause_45 rfl (js_callV hX MX3_either (ci := 3) (n := 0) (RX3, TX3, 8) rfl rfl (lw_V q690 q692 qs12 q160 q693) npX3_either dX3_clause_46 (js_putfR hX (ci := 4) (k := 1) (RX4, TX4, 6) rfl (by decide) rfl rfl (Or.inr ⟨_, q520⟩) (fun _ h => h) (Or.inl rfl) dX3_clause_49 (js_goto hX (tgt := 95) dX3_clause_52 rfl (hK 1)))))) (jswl_cons (js_aload_n hX dX3_clause_55 rfl (js_aload_n hX dX3_clause_56 rfl (js_callV hX MX3_sum (ci := 3) (n := 0) (RX3, TX3, 8) rfl rfl (lw_V q721 q723 qs16 q160 q724) npX3_sum dX3_clause_57 (js_putfR hX (ci := 4) (k := 2) (RX4, TX4, 6) rfl (by decide) rfl rfl (Or.inr ⟨_, q522⟩) (fun _ h => h) (Or.inl rfl) dX3_clause_60 (js_goto hX (tgt := 95) dX3_clause_63 rfl (hK 1)))))) (jswl_cons (js_aload_n hX dX3_clause_66 rfl (js_aload_n hX dX3_clause_67 rfl (js_const hX (z := 1) (by unfold inI; omega) dX3_clause_68 (Or.inl ⟨1, rfl, rfl, rfl⟩) (js_const hX (z := 2) (by unfold inI; omega) dX3_clause_69 (Or.inl ⟨2, rfl, rfl, rfl⟩) (js_callV hX MX3_number (ci := 3) (n := 2) (RX3, TX3, 8) rfl rfl (lw_V q686 q688 qs11 q160 q689) npX3_number dX3_clause_70 (js_putfI hX (ci := 4) (k := 3) (RX4, TX4, 6) rfl (by decide) rfl (Or.inr ⟨_, q524⟩) (fun _ h => h) (Or.inl rfl) dX3_clause_73 (js_goto hX (tgt := 95) dX3_clause_76 rfl (hK 1)))))))) jswl_nil)))))))
  | 1 => exact (js_return hX hr hlk dX3_clause_95)
  | k + 2 => intro ls st h nc ns hf; exact hf.elim
def bX3_law : jjB := fun e K k => match k with
  | 0 => (ji_aload 0 (ji_getfI 3 4 (ji_const 300 (ji_icmp_ne (K 1)
    (ji_aload 0 (ji_getfI 3 5 (ji_const 6 (ji_icmp_ge (K 1)
    (ji_aload 1 (ji_getfR 4 0 (ji_aload 0 (ji_getfI 3 5 (ji_aald (-7) (ji_ifnull (K 1)
    (ji_aload 0 (ji_const 4 (ji_callV e MX3_wrong 3 2 (ji_athrow e))))))))))))))))))
  | 1 => (ji_aload 0 (ji_const 0 (ji_const 5 (ji_callV e MX3_number 3 3 (ji_istore 2 (ji_aload 1 (ji_getfR 4 0 (ji_iload 2 (ji_aload 0 (ji_callV e MX3_either 3 1 (ji_aast (-7) [6, 11, 12] (ji_return e))))))))))))
  | _ => fun _ _ _ _ _ => False
def pX3_law : Nat → Nat := fun k => match k with
  | 0 => 0
  | 1 => 37
  | _ => 0
theorem sX3_law : jSound bX3_law pX3_law MX3_law := by
  intro e p ev R s m args below meth c hX hr hn hlk K hK k
  match k with
  | 0 => exact (js_aload_n hX dX3_law_0 rfl (js_getfI hX (ci := 3) (k := 4) (RX3, TX3, 8) rfl (by decide) rfl (Or.inl q458) (fun _ h => h) dX3_law_1 (js_const hX (z := 300) (by unfold inI; omega) dX3_law_4 (Or.inr (Or.inr (Or.inl ⟨300, rfl, rfl, rfl⟩))) (js_icmp_ne hX (tgt := 37) dX3_law_7 rfl (hK 1)
    (js_aload_n hX dX3_law_10 rfl (js_getfI hX (ci := 3) (k := 5) (RX3, TX3, 8) rfl (by decide) rfl (Or.inl q459) (fun _ h => h) dX3_law_11 (js_const hX (z := 6) (by unfold inI; omega) dX3_law_14 (Or.inr (Or.inl ⟨6, rfl, rfl, rfl⟩)) (js_icmp_ge hX (tgt := 37) dX3_law_16 rfl (hK 1)
    (js_aload_n hX dX3_law_19 rfl (js_getfR hX (ci := 4) (k := 0) (RX4, TX4, 6) rfl (by decide) rfl (Or.inr ⟨_, q518⟩) (fun _ h => h) dX3_law_20 (js_aload_n hX dX3_law_23 rfl (js_getfI hX (ci := 3) (k := 5) (RX3, TX3, 8) rfl (by decide) rfl (Or.inl q459) (fun _ h => h) dX3_law_24 (js_aald hX (cd := (-7)) (by decide) rfl rfl dX3_law_27 (js_ifnull hX (tgt := 37) dX3_law_28 rfl (hK 1)
    (js_aload_n hX dX3_law_31 rfl (js_const hX (z := 4) (by unfold inI; omega) dX3_law_32 (Or.inl ⟨4, rfl, rfl, rfl⟩) (js_callV hX MX3_wrong (ci := 3) (n := 1) (RX3, TX3, 8) rfl rfl (lw_V q610 q612 qs7 q160 q613) npX3_wrong dX3_law_33 (js_athrow hX dX3_law_36))))))))))))))))))
  | 1 => exact (js_aload_n hX dX3_law_37 rfl (js_const hX (z := 0) (by unfold inI; omega) dX3_law_38 (Or.inl ⟨0, rfl, rfl, rfl⟩) (js_const hX (z := 5) (by unfold inI; omega) dX3_law_39 (Or.inl ⟨5, rfl, rfl, rfl⟩) (js_callV hX MX3_number (ci := 3) (n := 2) (RX3, TX3, 8) rfl rfl (lw_V q686 q688 qs11 q160 q689) npX3_number dX3_law_40 (js_istore_n hX dX3_law_43 rfl (by decide) (js_aload_n hX dX3_law_44 rfl (js_getfR hX (ci := 4) (k := 0) (RX4, TX4, 6) rfl (by decide) rfl (Or.inr ⟨_, q518⟩) (fun _ h => h) dX3_law_45 (js_iload_n hX dX3_law_48 rfl (js_aload_n hX dX3_law_49 rfl (js_callV hX MX3_either (ci := 3) (n := 0) (RX3, TX3, 8) rfl rfl (lw_V q690 q692 qs12 q160 q693) npX3_either dX3_law_50 (js_aast hX (cd := (-7)) (cs := [6, 11, 12]) (jAS7) dX3_law_53 (js_return hX hr hlk dX3_law_54))))))))))))
  | k + 2 => intro ls st h nc ns hf; exact hf.elim
def bX3_number : jjB := fun e K k => match k with
  | 0 => (ji_aload 0 (ji_getfI 3 4 (ji_const 300 (ji_icmp_eq (ji_aload 0 (ji_getfI 3 5 (ji_iload 1 (ji_icmp_lt (K 1)
    (ji_aload 0 (ji_getfI 3 5 (ji_iload 2 (ji_icmp_le (ji_aload 0 (ji_getfI 3 5 (ji_istore 3 (ji_aload 0 (ji_callV e MX3_next 3 1 (ji_iload 3 (ji_ireturn e)))))))
    (K 1)))))))))
    (ji_aload 0 (ji_const 1 (ji_callV e MX3_wrong 3 2 (ji_athrow e))))))))
  | 1 => (ji_aload 0 (ji_const 2 (ji_callV e MX3_wrong 3 2 (ji_athrow e))))
  | _ => fun _ _ _ _ _ => False
def pX3_number : Nat → Nat := fun k => match k with
  | 0 => 0
  | 1 => 32
  | _ => 0
theorem sX3_number : jSound bX3_number pX3_number MX3_number := by
  intro e p ev R s m args below meth c hX hr hn hlk K hK k
  match k with
  | 0 => exact (js_aload_n hX dX3_number_0 rfl (js_getfI hX (ci := 3) (k := 4) (RX3, TX3, 8) rfl (by decide) rfl (Or.inl q458) (fun _ h => h) dX3_number_1 (js_const hX (z := 300) (by unfold inI; omega) dX3_number_4 (Or.inr (Or.inr (Or.inl ⟨300, rfl, rfl, rfl⟩))) (js_icmp_eq hX (tgt := 16) dX3_number_7 rfl (js_aload_n hX dX3_number_16 rfl (js_getfI hX (ci := 3) (k := 5) (RX3, TX3, 8) rfl (by decide) rfl (Or.inl q459) (fun _ h => h) dX3_number_17 (js_iload_n hX dX3_number_20 rfl (js_icmp_lt hX (tgt := 32) dX3_number_21 rfl (hK 1)
    (js_aload_n hX dX3_number_24 rfl (js_getfI hX (ci := 3) (k := 5) (RX3, TX3, 8) rfl (by decide) rfl (Or.inl q459) (fun _ h => h) dX3_number_25 (js_iload_n hX dX3_number_28 rfl (js_icmp_le hX (tgt := 38) dX3_number_29 rfl (js_aload_n hX dX3_number_38 rfl (js_getfI hX (ci := 3) (k := 5) (RX3, TX3, 8) rfl (by decide) rfl (Or.inl q459) (fun _ h => h) dX3_number_39 (js_istore_n hX dX3_number_42 rfl (by decide) (js_aload_n hX dX3_number_43 rfl (js_callV hX MX3_next (ci := 3) (n := 0) (RX3, TX3, 8) rfl rfl (lw_V q543 q545 qs5 q160 q546) npX3_next dX3_number_44 (js_iload_n hX dX3_number_47 rfl (js_ireturn hX hr hlk dX3_number_48)))))))
    (hK 1)))))))))
    (js_aload_n hX dX3_number_10 rfl (js_const hX (z := 1) (by unfold inI; omega) dX3_number_11 (Or.inl ⟨1, rfl, rfl, rfl⟩) (js_callV hX MX3_wrong (ci := 3) (n := 1) (RX3, TX3, 8) rfl rfl (lw_V q610 q612 qs7 q160 q613) npX3_wrong dX3_number_12 (js_athrow hX dX3_number_15))))))))
  | 1 => exact (js_aload_n hX dX3_number_32 rfl (js_const hX (z := 2) (by unfold inI; omega) dX3_number_33 (Or.inl ⟨2, rfl, rfl, rfl⟩) (js_callV hX MX3_wrong (ci := 3) (n := 1) (RX3, TX3, 8) rfl rfl (lw_V q610 q612 qs7 q160 q613) npX3_wrong dX3_number_34 (js_athrow hX dX3_number_37))))
  | k + 2 => intro ls st h nc ns hf; exact hf.elim
def bX3_either : jjB := fun e K k => match k with
  | 0 => (ji_new e 14 3 (ji_dup (ji_callI e MJ6_init 1 (ji_astore 1 (ji_aload 1 (ji_aload 0 (ji_callV e MX3_both 3 1 (ji_callV e MJ6_add 14 2 (ji_pop (K 1))))))))))
  | 1 => (ji_aload 0 (ji_getfI 3 4 (ji_const 212 (ji_icmp_ne (ji_aload 1 (ji_callV e MJ6_size 14 1 (ji_const 1 (ji_icmp_ne (ji_new e 12 2 (ji_dup (ji_const 0 (ji_aload 1 (ji_callI e MX12_init 3 (K 2))))))
    (ji_aload 1 (ji_const 0 (ji_callV e MJ6_get 14 2 (ji_cast [6, 11, 12] (ji_goto (K 2))))))))))
    (ji_aload 0 (ji_callV e MX3_next 3 1 (ji_aload 1 (ji_aload 0 (ji_callV e MX3_both 3 1 (ji_callV e MJ6_add 14 2 (ji_pop (ji_goto (K 1)))))))))))))
  | 2 => (ji_areturn e)
  | _ => fun _ _ _ _ _ => False
def pX3_either : Nat → Nat := fun k => match k with
  | 0 => 0
  | 1 => 17
  | 2 => 71
  | _ => 0
theorem sX3_either : jSound bX3_either pX3_either MX3_either := by
  intro e p ev R s m args below meth c hX hr hn hlk K hK k
  match k with
  | 0 => exact (js_new hX (ci := 14) (RJ6, TJ6, 3) rfl (by decide) q694 q492 q164 dX3_either_0 (js_dup hX dX3_either_3 (js_callI hX MJ6_init (n := 0) q695 q494 q164 (lw_meth q495) rfl rfl npJ6_init dX3_either_4 (js_astore_n hX dX3_either_7 rfl (by decide) (js_aload_n hX dX3_either_8 rfl (js_aload_n hX dX3_either_9 rfl (js_callV hX MX3_both (ci := 3) (n := 0) (RX3, TX3, 8) rfl rfl (lw_V q696 q698 qs13 q160 q699) npX3_both dX3_either_10 (js_callV hX MJ6_add (ci := 14) (n := 1) (RJ6, TJ6, 3) rfl rfl (lw_V q900 q818 q819 q164 q820) npJ6_add dX3_either_13 (js_pop hX dX3_either_16 (hK 1))))))))))
  | 1 => exact (js_aload_n hX dX3_either_17 rfl (js_getfI hX (ci := 3) (k := 4) (RX3, TX3, 8) rfl (by decide) rfl (Or.inl q458) (fun _ h => h) dX3_either_18 (js_const hX (z := 212) (by unfold inI; omega) dX3_either_21 (Or.inr (Or.inr (Or.inl ⟨212, rfl, rfl, rfl⟩))) (js_icmp_ne hX (tgt := 43) dX3_either_24 rfl (js_aload_n hX dX3_either_43 rfl (js_callV hX MJ6_size (ci := 14) (n := 0) (RJ6, TJ6, 3) rfl rfl (lw_V q901 q389 q390 q164 q391) npJ6_size dX3_either_44 (js_const hX (z := 1) (by unfold inI; omega) dX3_either_47 (Or.inl ⟨1, rfl, rfl, rfl⟩) (js_icmp_ne hX (tgt := 62) dX3_either_48 rfl (js_new hX (ci := 12) (RX12, TX12, 2) rfl (by decide) q904 q905 q182 dX3_either_62 (js_dup hX dX3_either_65 (js_const hX (z := 0) (by unfold inI; omega) dX3_either_66 (Or.inl ⟨0, rfl, rfl, rfl⟩) (js_aload_n hX dX3_either_67 rfl (js_callIN hX MX12_init (n := 2) q906 q907 q182 (lw_meth q908) rfl rfl npX12_init dX3_either_68 (hK 2))))))
    (js_aload_n hX dX3_either_51 rfl (js_const hX (z := 0) (by unfold inI; omega) dX3_either_52 (Or.inl ⟨0, rfl, rfl, rfl⟩) (js_callV hX MJ6_get (ci := 14) (n := 1) (RJ6, TJ6, 3) rfl rfl (lw_V q902 q393 q394 q164 q395) npJ6_get dX3_either_53 (js_cast hX (cs := [6, 11, 12]) q903 (jCA_Asked) dX3_either_56 (js_goto hX (tgt := 71) dX3_either_59 rfl (hK 2))))))))))
    (js_aload_n hX dX3_either_27 rfl (js_callV hX MX3_next (ci := 3) (n := 0) (RX3, TX3, 8) rfl rfl (lw_V q543 q545 qs5 q160 q546) npX3_next dX3_either_28 (js_aload_n hX dX3_either_31 rfl (js_aload_n hX dX3_either_32 rfl (js_callV hX MX3_both (ci := 3) (n := 0) (RX3, TX3, 8) rfl rfl (lw_V q696 q698 qs13 q160 q699) npX3_both dX3_either_33 (js_callV hX MJ6_add (ci := 14) (n := 1) (RJ6, TJ6, 3) rfl rfl (lw_V q900 q818 q819 q164 q820) npJ6_add dX3_either_36 (js_pop hX dX3_either_39 (js_goto hX (tgt := 17) dX3_either_40 rfl (hK 1)))))))))))))
  | 2 => exact (js_areturn hX hr (by first | exact Or.inl ⟨_, rfl⟩ | exact Or.inr ⟨_, rfl⟩) hlk dX3_either_71)
  | k + 3 => intro ls st h nc ns hf; exact hf.elim
def bX3_both : jjB := fun e K k => match k with
  | 0 => (ji_new e 14 3 (ji_dup (ji_callI e MJ6_init 1 (ji_astore 1 (ji_aload 1 (ji_aload 0 (ji_callV e MX3_ask 3 1 (ji_callV e MJ6_add 14 2 (ji_pop (K 1))))))))))
  | 1 => (ji_aload 0 (ji_getfI 3 4 (ji_const 213 (ji_icmp_ne (ji_aload 1 (ji_callV e MJ6_size 14 1 (ji_const 1 (ji_icmp_ne (ji_new e 12 2 (ji_dup (ji_const 1 (ji_aload 1 (ji_callI e MX12_init 3 (K 2))))))
    (ji_aload 1 (ji_const 0 (ji_callV e MJ6_get 14 2 (ji_cast [6, 11, 12] (ji_goto (K 2))))))))))
    (ji_aload 0 (ji_callV e MX3_next 3 1 (ji_aload 1 (ji_aload 0 (ji_callV e MX3_ask 3 1 (ji_callV e MJ6_add 14 2 (ji_pop (ji_goto (K 1)))))))))))))
  | 2 => (ji_areturn e)
  | _ => fun _ _ _ _ _ => False
def pX3_both : Nat → Nat := fun k => match k with
  | 0 => 0
  | 1 => 17
  | 2 => 71
  | _ => 0
theorem sX3_both : jSound bX3_both pX3_both MX3_both := by
  intro e p ev R s m args below meth c hX hr hn hlk K hK k
  match k with
  | 0 => exact (js_new hX (ci := 14) (RJ6, TJ6, 3) rfl (by decide) q694 q492 q164 dX3_both_0 (js_dup hX dX3_both_3 (js_callI hX MJ6_init (n := 0) q695 q494 q164 (lw_meth q495) rfl rfl npJ6_init dX3_both_4 (js_astore_n hX dX3_both_7 rfl (by decide) (js_aload_n hX dX3_both_8 rfl (js_aload_n hX dX3_both_9 rfl (js_callV hX MX3_ask (ci := 3) (n := 0) (RX3, TX3, 8) rfl rfl (lw_V q700 q702 qs14 q160 q703) npX3_ask dX3_both_10 (js_callV hX MJ6_add (ci := 14) (n := 1) (RJ6, TJ6, 3) rfl rfl (lw_V q900 q818 q819 q164 q820) npJ6_add dX3_both_13 (js_pop hX dX3_both_16 (hK 1))))))))))
  | 1 => exact (js_aload_n hX dX3_both_17 rfl (js_getfI hX (ci := 3) (k := 4) (RX3, TX3, 8) rfl (by decide) rfl (Or.inl q458) (fun _ h => h) dX3_both_18 (js_const hX (z := 213) (by unfold inI; omega) dX3_both_21 (Or.inr (Or.inr (Or.inl ⟨213, rfl, rfl, rfl⟩))) (js_icmp_ne hX (tgt := 43) dX3_both_24 rfl (js_aload_n hX dX3_both_43 rfl (js_callV hX MJ6_size (ci := 14) (n := 0) (RJ6, TJ6, 3) rfl rfl (lw_V q901 q389 q390 q164 q391) npJ6_size dX3_both_44 (js_const hX (z := 1) (by unfold inI; omega) dX3_both_47 (Or.inl ⟨1, rfl, rfl, rfl⟩) (js_icmp_ne hX (tgt := 62) dX3_both_48 rfl (js_new hX (ci := 12) (RX12, TX12, 2) rfl (by decide) q904 q905 q182 dX3_both_62 (js_dup hX dX3_both_65 (js_const hX (z := 1) (by unfold inI; omega) dX3_both_66 (Or.inl ⟨1, rfl, rfl, rfl⟩) (js_aload_n hX dX3_both_67 rfl (js_callIN hX MX12_init (n := 2) q906 q907 q182 (lw_meth q908) rfl rfl npX12_init dX3_both_68 (hK 2))))))
    (js_aload_n hX dX3_both_51 rfl (js_const hX (z := 0) (by unfold inI; omega) dX3_both_52 (Or.inl ⟨0, rfl, rfl, rfl⟩) (js_callV hX MJ6_get (ci := 14) (n := 1) (RJ6, TJ6, 3) rfl rfl (lw_V q902 q393 q394 q164 q395) npJ6_get dX3_both_53 (js_cast hX (cs := [6, 11, 12]) q903 (jCA_Asked) dX3_both_56 (js_goto hX (tgt := 71) dX3_both_59 rfl (hK 2))))))))))
    (js_aload_n hX dX3_both_27 rfl (js_callV hX MX3_next (ci := 3) (n := 0) (RX3, TX3, 8) rfl rfl (lw_V q543 q545 qs5 q160 q546) npX3_next dX3_both_28 (js_aload_n hX dX3_both_31 rfl (js_aload_n hX dX3_both_32 rfl (js_callV hX MX3_ask (ci := 3) (n := 0) (RX3, TX3, 8) rfl rfl (lw_V q700 q702 qs14 q160 q703) npX3_ask dX3_both_33 (js_callV hX MJ6_add (ci := 14) (n := 1) (RJ6, TJ6, 3) rfl rfl (lw_V q900 q818 q819 q164 q820) npJ6_add dX3_both_36 (js_pop hX dX3_both_39 (js_goto hX (tgt := 17) dX3_both_40 rfl (hK 1)))))))))))))
  | 2 => exact (js_areturn hX hr (by first | exact Or.inl ⟨_, rfl⟩ | exact Or.inr ⟨_, rfl⟩) hlk dX3_both_71)
  | k + 3 => intro ls st h nc ns hf; exact hf.elim
def bX3_ask : jjB := fun e K k => match k with
  | 0 => (ji_aload 0 (ji_getfI 3 4 (ji_const 214 (ji_icmp_ne (ji_aload 0 (ji_callV e MX3_sum 3 1 (ji_astore 1 (ji_aload 0 (ji_getfI 3 4 (ji_istore 2 (ji_iload 2 (ji_const 60 (ji_icmp_eq (K 1)
    (ji_iload 2 (ji_const 62 (ji_icmp_eq (K 1)
    (ji_iload 2 (ji_const 61 (ji_icmp_eq (K 1)
    (ji_iload 2 (ji_const 35 (ji_icmp_eq (K 1)
    (ji_iload 2 (ji_const 303 (ji_icmp_eq (K 1)
    (ji_iload 2 (ji_const 304 (ji_icmp_eq (K 1)
    (ji_aload 0 (ji_const 1 (ji_callV e MX3_wrong 3 2 (ji_athrow e))))))))))))))))))))))))))))
    (ji_aload 0 (ji_callV e MX3_opens 3 1 (ji_new e 6 1 (ji_dup (ji_aload 0 (ji_callV e MX3_ask 3 1 (ji_callI e MX6_init 2 (ji_astore 1 (ji_aload 0 (ji_dup (ji_getfI 3 6 (ji_const 1 (ji_isub (ji_putfI 3 6 (ji_aload 1 (ji_areturn e))))))))))))))))))))
  | 1 => (ji_aload 0 (ji_callV e MX3_next 3 1 (ji_new e 11 3 (ji_dup (ji_iload 2 (ji_aload 1 (ji_aload 0 (ji_callV e MX3_sum 3 1 (ji_callI e MX11_init 4 (ji_areturn e))))))))))
  | _ => fun _ _ _ _ _ => False
def pX3_ask : Nat → Nat := fun k => match k with
  | 0 => 0
  | 1 => 92
  | _ => 0
theorem sX3_ask : jSound bX3_ask pX3_ask MX3_ask := by
  intro e p ev R s m args below meth c hX hr hn hlk K hK k
  match k with
  | 0 => exact (js_aload_n hX dX3_ask_0 rfl (js_getfI hX (ci := 3) (k := 4) (RX3, TX3, 8) rfl (by decide) rfl (Or.inl q458) (fun _ h => h) dX3_ask_1 (js_const hX (z := 214) (by unfold inI; omega) dX3_ask_4 (Or.inr (Or.inr (Or.inl ⟨214, rfl, rfl, rfl⟩))) (js_icmp_ne hX (tgt := 38) dX3_ask_7 rfl (js_aload_n hX dX3_ask_38 rfl (js_callV hX MX3_sum (ci := 3) (n := 0) (RX3, TX3, 8) rfl rfl (lw_V q721 q723 qs16 q160 q724) npX3_sum dX3_ask_39 (js_astore_n hX dX3_ask_42 rfl (by decide) (js_aload_n hX dX3_ask_43 rfl (js_getfI hX (ci := 3) (k := 4) (RX3, TX3, 8) rfl (by decide) rfl (Or.inl q458) (fun _ h => h) dX3_ask_44 (js_istore_n hX dX3_ask_47 rfl (by decide) (js_iload_n hX dX3_ask_48 rfl (js_const hX (z := 60) (by unfold inI; omega) dX3_ask_49 (Or.inr (Or.inl ⟨60, rfl, rfl, rfl⟩)) (js_icmp_eq hX (tgt := 92) dX3_ask_51 rfl (hK 1)
    (js_iload_n hX dX3_ask_54 rfl (js_const hX (z := 62) (by unfold inI; omega) dX3_ask_55 (Or.inr (Or.inl ⟨62, rfl, rfl, rfl⟩)) (js_icmp_eq hX (tgt := 92) dX3_ask_57 rfl (hK 1)
    (js_iload_n hX dX3_ask_60 rfl (js_const hX (z := 61) (by unfold inI; omega) dX3_ask_61 (Or.inr (Or.inl ⟨61, rfl, rfl, rfl⟩)) (js_icmp_eq hX (tgt := 92) dX3_ask_63 rfl (hK 1)
    (js_iload_n hX dX3_ask_66 rfl (js_const hX (z := 35) (by unfold inI; omega) dX3_ask_67 (Or.inr (Or.inl ⟨35, rfl, rfl, rfl⟩)) (js_icmp_eq hX (tgt := 92) dX3_ask_69 rfl (hK 1)
    (js_iload_n hX dX3_ask_72 rfl (js_const hX (z := 303) (by unfold inI; omega) dX3_ask_73 (Or.inr (Or.inr (Or.inl ⟨303, rfl, rfl, rfl⟩))) (js_icmp_eq hX (tgt := 92) dX3_ask_76 rfl (hK 1)
    (js_iload_n hX dX3_ask_79 rfl (js_const hX (z := 304) (by unfold inI; omega) dX3_ask_80 (Or.inr (Or.inr (Or.inl ⟨304, rfl, rfl, rfl⟩))) (js_icmp_eq hX (tgt := 92) dX3_ask_83 rfl (hK 1)
    (js_aload_n hX dX3_ask_86 rfl (js_const hX (z := 1) (by unfold inI; omega) dX3_ask_87 (Or.inl ⟨1, rfl, rfl, rfl⟩) (js_callV hX MX3_wrong (ci := 3) (n := 1) (RX3, TX3, 8) rfl rfl (lw_V q610 q612 qs7 q160 q613) npX3_wrong dX3_ask_88 (js_athrow hX dX3_ask_91))))))))))))))))))))))))))))
    (js_aload_n hX dX3_ask_10 rfl (js_callV hX MX3_opens (ci := 3) (n := 0) (RX3, TX3, 8) rfl rfl (lw_V q704 q706 qs15 q160 q707) npX3_opens dX3_ask_11 (js_new hX (ci := 6) (RX6, TX6, 1) rfl (by decide) q708 q709 q172 dX3_ask_14 (js_dup hX dX3_ask_17 (js_aload_n hX dX3_ask_18 rfl (js_callV hX MX3_ask (ci := 3) (n := 0) (RX3, TX3, 8) rfl rfl (lw_V q700 q702 qs14 q160 q703) npX3_ask dX3_ask_19 (js_callIN hX MX6_init (n := 1) q710 q711 q172 (lw_meth q712) rfl rfl npX6_init dX3_ask_22 (js_astore_n hX dX3_ask_25 rfl (by decide) (js_aload_n hX dX3_ask_26 rfl (js_dup hX dX3_ask_27 (js_getfI hX (ci := 3) (k := 6) (RX3, TX3, 8) rfl (by decide) rfl (Or.inl q460) (fun _ h => h) dX3_ask_28 (js_const hX (z := 1) (by unfold inI; omega) dX3_ask_31 (Or.inl ⟨1, rfl, rfl, rfl⟩) (js_isub hX dX3_ask_32 (js_putfI hX (ci := 3) (k := 6) (RX3, TX3, 8) rfl (by decide) rfl (Or.inl q460) (fun _ h => h) (Or.inl rfl) dX3_ask_33 (js_aload_n hX dX3_ask_36 rfl (js_areturn hX hr (by first | exact Or.inl ⟨_, rfl⟩ | exact Or.inr ⟨_, rfl⟩) hlk dX3_ask_37))))))))))))))))))))
  | 1 => exact (js_aload_n hX dX3_ask_92 rfl (js_callV hX MX3_next (ci := 3) (n := 0) (RX3, TX3, 8) rfl rfl (lw_V q543 q545 qs5 q160 q546) npX3_next dX3_ask_93 (js_new hX (ci := 11) (RX11, TX11, 3) rfl (by decide) q884 q885 q181 dX3_ask_96 (js_dup hX dX3_ask_99 (js_iload_n hX dX3_ask_100 rfl (js_aload_n hX dX3_ask_101 rfl (js_aload_n hX dX3_ask_102 rfl (js_callV hX MX3_sum (ci := 3) (n := 0) (RX3, TX3, 8) rfl rfl (lw_V q721 q723 qs16 q160 q724) npX3_sum dX3_ask_103 (js_callIN hX MX11_init (n := 3) q886 q887 q181 (lw_meth q888) rfl rfl npX11_init dX3_ask_106 (js_areturn hX hr (by first | exact Or.inl ⟨_, rfl⟩ | exact Or.inr ⟨_, rfl⟩) hlk dX3_ask_109))))))))))
  | k + 2 => intro ls st h nc ns hf; exact hf.elim
def bX3_opens : jjB := fun e K k => match k with
  | 0 => (ji_aload 0 (ji_getfI 3 6 (ji_const 8 (ji_icmp_ne (ji_aload 0 (ji_dup (ji_getfI 3 6 (ji_const 1 (ji_iadd (ji_putfI 3 6 (ji_aload 0 (ji_callV e MX3_next 3 1 (ji_return e)))))))))
    (ji_aload 0 (ji_const 3 (ji_callV e MX3_wrong 3 2 (ji_athrow e))))))))
  | _ => fun _ _ _ _ _ => False
def pX3_opens : Nat → Nat := fun k => match k with
  | 0 => 0
  | _ => 0
theorem sX3_opens : jSound bX3_opens pX3_opens MX3_opens := by
  intro e p ev R s m args below meth c hX hr hn hlk K hK k
  match k with
  | 0 => exact (js_aload_n hX dX3_opens_0 rfl (js_getfI hX (ci := 3) (k := 6) (RX3, TX3, 8) rfl (by decide) rfl (Or.inl q460) (fun _ h => h) dX3_opens_1 (js_const hX (z := 8) (by unfold inI; omega) dX3_opens_4 (Or.inr (Or.inl ⟨8, rfl, rfl, rfl⟩)) (js_icmp_ne hX (tgt := 15) dX3_opens_6 rfl (js_aload_n hX dX3_opens_15 rfl (js_dup hX dX3_opens_16 (js_getfI hX (ci := 3) (k := 6) (RX3, TX3, 8) rfl (by decide) rfl (Or.inl q460) (fun _ h => h) dX3_opens_17 (js_const hX (z := 1) (by unfold inI; omega) dX3_opens_20 (Or.inl ⟨1, rfl, rfl, rfl⟩) (js_iadd hX dX3_opens_21 (js_putfI hX (ci := 3) (k := 6) (RX3, TX3, 8) rfl (by decide) rfl (Or.inl q460) (fun _ h => h) (Or.inl rfl) dX3_opens_22 (js_aload_n hX dX3_opens_25 rfl (js_callV hX MX3_next (ci := 3) (n := 0) (RX3, TX3, 8) rfl rfl (lw_V q543 q545 qs5 q160 q546) npX3_next dX3_opens_26 (js_return hX hr hlk dX3_opens_29)))))))))
    (js_aload_n hX dX3_opens_9 rfl (js_const hX (z := 3) (by unfold inI; omega) dX3_opens_10 (Or.inl ⟨3, rfl, rfl, rfl⟩) (js_callV hX MX3_wrong (ci := 3) (n := 1) (RX3, TX3, 8) rfl rfl (lw_V q610 q612 qs7 q160 q613) npX3_wrong dX3_opens_11 (js_athrow hX dX3_opens_14))))))))
  | k + 1 => intro ls st h nc ns hf; exact hf.elim
def bX3_sum : jjB := fun e K k => match k with
  | 0 => (ji_new e 7 3 (ji_dup (ji_aload 0 (ji_callV e MX3_product 3 1 (ji_callI e MX7_init 2 (ji_astore 1 (K 1)))))))
  | 1 => (ji_aload 0 (ji_getfI 3 4 (ji_const 43 (ji_icmp_eq (K 2)
    (ji_aload 0 (ji_getfI 3 4 (ji_const 45 (ji_icmp_ne (ji_aload 1 (ji_callV e MX7_itself 7 1 (ji_areturn e)))
    (K 2)))))))))
  | 2 => (ji_aload 0 (ji_getfI 3 4 (ji_istore 2 (ji_aload 0 (ji_callV e MX3_next 3 1 (ji_aload 1 (ji_iload 2 (ji_aload 0 (ji_callV e MX3_product 3 1 (ji_callV e MX7_add 7 3 (ji_goto (K 1))))))))))))
  | _ => fun _ _ _ _ _ => False
def pX3_sum : Nat → Nat := fun k => match k with
  | 0 => 0
  | 1 => 12
  | 2 => 30
  | _ => 0
theorem sX3_sum : jSound bX3_sum pX3_sum MX3_sum := by
  intro e p ev R s m args below meth c hX hr hn hlk K hK k
  match k with
  | 0 => exact (js_new hX (ci := 7) (RX7, TX7, 3) rfl (by decide) q725 q726 q173 dX3_sum_0 (js_dup hX dX3_sum_3 (js_aload_n hX dX3_sum_4 rfl (js_callV hX MX3_product (ci := 3) (n := 0) (RX3, TX3, 8) rfl rfl (lw_V q727 q729 qs17 q160 q730) npX3_product dX3_sum_5 (js_callI hX MX7_init (n := 1) q777 q778 q173 (lw_meth q779) rfl rfl npX7_init dX3_sum_8 (js_astore_n hX dX3_sum_11 rfl (by decide) (hK 1)))))))
  | 1 => exact (js_aload_n hX dX3_sum_12 rfl (js_getfI hX (ci := 3) (k := 4) (RX3, TX3, 8) rfl (by decide) rfl (Or.inl q458) (fun _ h => h) dX3_sum_13 (js_const hX (z := 43) (by unfold inI; omega) dX3_sum_16 (Or.inr (Or.inl ⟨43, rfl, rfl, rfl⟩)) (js_icmp_eq hX (tgt := 30) dX3_sum_18 rfl (hK 2)
    (js_aload_n hX dX3_sum_21 rfl (js_getfI hX (ci := 3) (k := 4) (RX3, TX3, 8) rfl (by decide) rfl (Or.inl q458) (fun _ h => h) dX3_sum_22 (js_const hX (z := 45) (by unfold inI; omega) dX3_sum_25 (Or.inr (Or.inl ⟨45, rfl, rfl, rfl⟩)) (js_icmp_ne hX (tgt := 51) dX3_sum_27 rfl (js_aload_n hX dX3_sum_51 rfl (js_callV hX MX7_itself (ci := 7) (n := 0) (RX7, TX7, 3) rfl rfl (lw_V q876 q877 q878 q173 q879) npX7_itself dX3_sum_52 (js_areturn hX hr (by first | exact Or.inl ⟨_, rfl⟩ | exact Or.inr ⟨_, rfl⟩) hlk dX3_sum_55)))
    (hK 2)))))))))
  | 2 => exact (js_aload_n hX dX3_sum_30 rfl (js_getfI hX (ci := 3) (k := 4) (RX3, TX3, 8) rfl (by decide) rfl (Or.inl q458) (fun _ h => h) dX3_sum_31 (js_istore_n hX dX3_sum_34 rfl (by decide) (js_aload_n hX dX3_sum_35 rfl (js_callV hX MX3_next (ci := 3) (n := 0) (RX3, TX3, 8) rfl rfl (lw_V q543 q545 qs5 q160 q546) npX3_next dX3_sum_36 (js_aload_n hX dX3_sum_39 rfl (js_iload_n hX dX3_sum_40 rfl (js_aload_n hX dX3_sum_41 rfl (js_callV hX MX3_product (ci := 3) (n := 0) (RX3, TX3, 8) rfl rfl (lw_V q727 q729 qs17 q160 q730) npX3_product dX3_sum_42 (js_callV hX MX7_add (ci := 7) (n := 2) (RX7, TX7, 3) rfl rfl (lw_V q793 q794 q795 q173 q796) npX7_add dX3_sum_45 (js_goto hX (tgt := 12) dX3_sum_48 rfl (hK 1))))))))))))
  | k + 3 => intro ls st h nc ns hf; exact hf.elim
def bX3_product : jjB := fun e K k => match k with
  | 0 => (ji_new e 7 3 (ji_dup (ji_aload 0 (ji_callV e MX3_one 3 1 (ji_callI e MX7_init 2 (ji_astore 1 (K 1)))))))
  | 1 => (ji_aload 0 (ji_getfI 3 4 (ji_const 42 (ji_icmp_eq (K 2)
    (ji_aload 0 (ji_getfI 3 4 (ji_const 47 (ji_icmp_ne (ji_aload 1 (ji_callV e MX7_itself 7 1 (ji_areturn e)))
    (K 2)))))))))
  | 2 => (ji_aload 0 (ji_getfI 3 4 (ji_istore 2 (ji_aload 0 (ji_callV e MX3_next 3 1 (ji_aload 1 (ji_iload 2 (ji_aload 0 (ji_callV e MX3_one 3 1 (ji_callV e MX7_add 7 3 (ji_goto (K 1))))))))))))
  | _ => fun _ _ _ _ _ => False
def pX3_product : Nat → Nat := fun k => match k with
  | 0 => 0
  | 1 => 12
  | 2 => 30
  | _ => 0
theorem sX3_product : jSound bX3_product pX3_product MX3_product := by
  intro e p ev R s m args below meth c hX hr hn hlk K hK k
  match k with
  | 0 => exact (js_new hX (ci := 7) (RX7, TX7, 3) rfl (by decide) q725 q726 q173 dX3_product_0 (js_dup hX dX3_product_3 (js_aload_n hX dX3_product_4 rfl (js_callV hX MX3_one (ci := 3) (n := 0) (RX3, TX3, 8) rfl rfl (lw_V q731 q733 qs18 q160 q734) npX3_one dX3_product_5 (js_callI hX MX7_init (n := 1) q777 q778 q173 (lw_meth q779) rfl rfl npX7_init dX3_product_8 (js_astore_n hX dX3_product_11 rfl (by decide) (hK 1)))))))
  | 1 => exact (js_aload_n hX dX3_product_12 rfl (js_getfI hX (ci := 3) (k := 4) (RX3, TX3, 8) rfl (by decide) rfl (Or.inl q458) (fun _ h => h) dX3_product_13 (js_const hX (z := 42) (by unfold inI; omega) dX3_product_16 (Or.inr (Or.inl ⟨42, rfl, rfl, rfl⟩)) (js_icmp_eq hX (tgt := 30) dX3_product_18 rfl (hK 2)
    (js_aload_n hX dX3_product_21 rfl (js_getfI hX (ci := 3) (k := 4) (RX3, TX3, 8) rfl (by decide) rfl (Or.inl q458) (fun _ h => h) dX3_product_22 (js_const hX (z := 47) (by unfold inI; omega) dX3_product_25 (Or.inr (Or.inl ⟨47, rfl, rfl, rfl⟩)) (js_icmp_ne hX (tgt := 51) dX3_product_27 rfl (js_aload_n hX dX3_product_51 rfl (js_callV hX MX7_itself (ci := 7) (n := 0) (RX7, TX7, 3) rfl rfl (lw_V q876 q877 q878 q173 q879) npX7_itself dX3_product_52 (js_areturn hX hr (by first | exact Or.inl ⟨_, rfl⟩ | exact Or.inr ⟨_, rfl⟩) hlk dX3_product_55)))
    (hK 2)))))))))
  | 2 => exact (js_aload_n hX dX3_product_30 rfl (js_getfI hX (ci := 3) (k := 4) (RX3, TX3, 8) rfl (by decide) rfl (Or.inl q458) (fun _ h => h) dX3_product_31 (js_istore_n hX dX3_product_34 rfl (by decide) (js_aload_n hX dX3_product_35 rfl (js_callV hX MX3_next (ci := 3) (n := 0) (RX3, TX3, 8) rfl rfl (lw_V q543 q545 qs5 q160 q546) npX3_next dX3_product_36 (js_aload_n hX dX3_product_39 rfl (js_iload_n hX dX3_product_40 rfl (js_aload_n hX dX3_product_41 rfl (js_callV hX MX3_one (ci := 3) (n := 0) (RX3, TX3, 8) rfl rfl (lw_V q731 q733 qs18 q160 q734) npX3_one dX3_product_42 (js_callV hX MX7_add (ci := 7) (n := 2) (RX7, TX7, 3) rfl rfl (lw_V q793 q794 q795 q173 q796) npX7_add dX3_product_45 (js_goto hX (tgt := 12) dX3_product_48 rfl (hK 1))))))))))))
  | k + 3 => intro ls st h nc ns hf; exact hf.elim
def bX3_one : jjB := fun e K k => match k with
  | 0 => (ji_aload 0 (ji_getfI 3 4 (ji_const 300 (ji_icmp_ne (ji_aload 0 (ji_callV e MX3_nameNow 3 1 (ji_istore 1 (ji_iload 1 (ji_const (-1) (ji_icmp_eq (ji_aload 0 (ji_getfI 3 4 (ji_const 40 (ji_icmp_ne (ji_aload 0 (ji_getfI 3 4 (ji_const 45 (ji_icmp_ne (ji_aload 0 (ji_const 1 (ji_callV e MX3_wrong 3 2 (ji_athrow e))))
    (ji_aload 0 (ji_callV e MX3_opens 3 1 (ji_new e 10 1 (ji_dup (ji_aload 0 (ji_callV e MX3_one 3 1 (ji_callI e MX10_init 2 (ji_astore 2 (ji_goto (K 1))))))))))))))
    (ji_aload 0 (ji_callV e MX3_opens 3 1 (ji_aload 0 (ji_callV e MX3_sum 3 1 (ji_astore 2 (ji_aload 0 (ji_const 41 (ji_callV e MX3_want 3 2 (ji_goto (K 1))))))))))))))
    (ji_aload 0 (ji_iload 1 (ji_callV e MX3_mayName 3 2 (ji_if_ne (ji_aload 0 (ji_callV e MX3_next 3 1 (ji_new e 9 1 (ji_dup (ji_iload 1 (ji_callI e MX9_init 2 (ji_areturn e)))))))
    (ji_aload 0 (ji_const 5 (ji_callV e MX3_wrong 3 2 (ji_athrow e))))))))))))))
    (ji_new e 8 1 (ji_dup (ji_aload 0 (ji_const 0 (ji_const 9999 (ji_callV e MX3_number 3 3 (ji_callI e MX8_init 2 (ji_areturn e))))))))))))
  | 1 => (ji_aload 0 (ji_dup (ji_getfI 3 6 (ji_const 1 (ji_isub (ji_putfI 3 6 (ji_aload 2 (ji_areturn e))))))))
  | _ => fun _ _ _ _ _ => False
def pX3_one : Nat → Nat := fun k => match k with
  | 0 => 0
  | 1 => 124
  | _ => 0
theorem sX3_one : jSound bX3_one pX3_one MX3_one := by
  intro e p ev R s m args below meth c hX hr hn hlk K hK k
  match k with
  | 0 => exact (js_aload_n hX dX3_one_0 rfl (js_getfI hX (ci := 3) (k := 4) (RX3, TX3, 8) rfl (by decide) rfl (Or.inl q458) (fun _ h => h) dX3_one_1 (js_const hX (z := 300) (by unfold inI; omega) dX3_one_4 (Or.inr (Or.inr (Or.inl ⟨300, rfl, rfl, rfl⟩))) (js_icmp_ne hX (tgt := 26) dX3_one_7 rfl (js_aload_n hX dX3_one_26 rfl (js_callV hX MX3_nameNow (ci := 3) (n := 0) (RX3, TX3, 8) rfl rfl (lw_V q745 q747 qs19 q160 q748) npX3_nameNow dX3_one_27 (js_istore_n hX dX3_one_30 rfl (by decide) (js_iload_n hX dX3_one_31 rfl (js_const hX (z := (-1)) (by unfold inI; omega) dX3_one_32 (Or.inl ⟨(-1), rfl, rfl, rfl⟩) (js_icmp_eq hX (tgt := 63) dX3_one_33 rfl (js_aload_n hX dX3_one_63 rfl (js_getfI hX (ci := 3) (k := 4) (RX3, TX3, 8) rfl (by decide) rfl (Or.inl q458) (fun _ h => h) dX3_one_64 (js_const hX (z := 40) (by unfold inI; omega) dX3_one_67 (Or.inr (Or.inl ⟨40, rfl, rfl, rfl⟩)) (js_icmp_ne hX (tgt := 90) dX3_one_69 rfl (js_aload_n hX dX3_one_90 rfl (js_getfI hX (ci := 3) (k := 4) (RX3, TX3, 8) rfl (by decide) rfl (Or.inl q458) (fun _ h => h) dX3_one_91 (js_const hX (z := 45) (by unfold inI; omega) dX3_one_94 (Or.inr (Or.inl ⟨45, rfl, rfl, rfl⟩)) (js_icmp_ne hX (tgt := 118) dX3_one_96 rfl (js_aload_n hX dX3_one_118 rfl (js_const hX (z := 1) (by unfold inI; omega) dX3_one_119 (Or.inl ⟨1, rfl, rfl, rfl⟩) (js_callV hX MX3_wrong (ci := 3) (n := 1) (RX3, TX3, 8) rfl rfl (lw_V q610 q612 qs7 q160 q613) npX3_wrong dX3_one_120 (js_athrow hX dX3_one_123))))
    (js_aload_n hX dX3_one_99 rfl (js_callV hX MX3_opens (ci := 3) (n := 0) (RX3, TX3, 8) rfl rfl (lw_V q704 q706 qs15 q160 q707) npX3_opens dX3_one_100 (js_new hX (ci := 10) (RX10, TX10, 1) rfl (by decide) q767 q768 q176 dX3_one_103 (js_dup hX dX3_one_106 (js_aload_n hX dX3_one_107 rfl (js_callV hX MX3_one (ci := 3) (n := 0) (RX3, TX3, 8) rfl rfl (lw_V q731 q733 qs18 q160 q734) npX3_one dX3_one_108 (js_callIN hX MX10_init (n := 1) q769 q770 q176 (lw_meth q771) rfl rfl npX10_init dX3_one_111 (js_astore_n hX dX3_one_114 rfl (by decide) (js_goto hX (tgt := 124) dX3_one_115 rfl (hK 1))))))))))))))
    (js_aload_n hX dX3_one_72 rfl (js_callV hX MX3_opens (ci := 3) (n := 0) (RX3, TX3, 8) rfl rfl (lw_V q704 q706 qs15 q160 q707) npX3_opens dX3_one_73 (js_aload_n hX dX3_one_76 rfl (js_callV hX MX3_sum (ci := 3) (n := 0) (RX3, TX3, 8) rfl rfl (lw_V q721 q723 qs16 q160 q724) npX3_sum dX3_one_77 (js_astore_n hX dX3_one_80 rfl (by decide) (js_aload_n hX dX3_one_81 rfl (js_const hX (z := 41) (by unfold inI; omega) dX3_one_82 (Or.inr (Or.inl ⟨41, rfl, rfl, rfl⟩)) (js_callV hX MX3_want (ci := 3) (n := 1) (RX3, TX3, 8) rfl rfl (lw_V q763 q765 qs21 q160 q766) npX3_want dX3_one_84 (js_goto hX (tgt := 124) dX3_one_87 rfl (hK 1))))))))))))))
    (js_aload_n hX dX3_one_36 rfl (js_iload_n hX dX3_one_37 rfl (js_callV hX MX3_mayName (ci := 3) (n := 1) (RX3, TX3, 8) rfl rfl (lw_V q749 q751 qs20 q160 q752) npX3_mayName dX3_one_38 (js_if_ne hX (tgt := 50) dX3_one_41 rfl (js_aload_n hX dX3_one_50 rfl (js_callV hX MX3_next (ci := 3) (n := 0) (RX3, TX3, 8) rfl rfl (lw_V q543 q545 qs5 q160 q546) npX3_next dX3_one_51 (js_new hX (ci := 9) (RX9, TX9, 1) rfl (by decide) q753 q754 q175 dX3_one_54 (js_dup hX dX3_one_57 (js_iload_n hX dX3_one_58 rfl (js_callIN hX MX9_init (n := 1) q755 q756 q175 (lw_meth q757) rfl rfl npX9_init dX3_one_59 (js_areturn hX hr (by first | exact Or.inl ⟨_, rfl⟩ | exact Or.inr ⟨_, rfl⟩) hlk dX3_one_62)))))))
    (js_aload_n hX dX3_one_44 rfl (js_const hX (z := 5) (by unfold inI; omega) dX3_one_45 (Or.inl ⟨5, rfl, rfl, rfl⟩) (js_callV hX MX3_wrong (ci := 3) (n := 1) (RX3, TX3, 8) rfl rfl (lw_V q610 q612 qs7 q160 q613) npX3_wrong dX3_one_46 (js_athrow hX dX3_one_49))))))))))))))
    (js_new hX (ci := 8) (RX8, TX8, 1) rfl (by decide) q735 q736 q174 dX3_one_10 (js_dup hX dX3_one_13 (js_aload_n hX dX3_one_14 rfl (js_const hX (z := 0) (by unfold inI; omega) dX3_one_15 (Or.inl ⟨0, rfl, rfl, rfl⟩) (js_const hX (z := 9999) (by unfold inI; omega) dX3_one_16 (Or.inr (Or.inr (Or.inl ⟨9999, rfl, rfl, rfl⟩))) (js_callV hX MX3_number (ci := 3) (n := 2) (RX3, TX3, 8) rfl rfl (lw_V q686 q688 qs11 q160 q689) npX3_number dX3_one_19 (js_callIN hX MX8_init (n := 1) q737 q738 q174 (lw_meth q739) rfl rfl npX8_init dX3_one_22 (js_areturn hX hr (by first | exact Or.inl ⟨_, rfl⟩ | exact Or.inr ⟨_, rfl⟩) hlk dX3_one_25))))))))))))
  | 1 => exact (js_aload_n hX dX3_one_124 rfl (js_dup hX dX3_one_125 (js_getfI hX (ci := 3) (k := 6) (RX3, TX3, 8) rfl (by decide) rfl (Or.inl q460) (fun _ h => h) dX3_one_126 (js_const hX (z := 1) (by unfold inI; omega) dX3_one_129 (Or.inl ⟨1, rfl, rfl, rfl⟩) (js_isub hX dX3_one_130 (js_putfI hX (ci := 3) (k := 6) (RX3, TX3, 8) rfl (by decide) rfl (Or.inl q460) (fun _ h => h) (Or.inl rfl) dX3_one_131 (js_aload_n hX dX3_one_134 rfl (js_areturn hX hr (by first | exact Or.inl ⟨_, rfl⟩ | exact Or.inr ⟨_, rfl⟩) hlk dX3_one_135))))))))
  | k + 2 => intro ls st h nc ns hf; exact hf.elim
def bX3_nameNow : jjB := fun e K k => match k with
  | 0 => (ji_aload 0 (ji_getfI 3 4 (ji_const 208 (ji_icmp_ne (ji_aload 0 (ji_getfI 3 4 (ji_const 215 (ji_icmp_lt (K 1)
    (ji_aload 0 (ji_getfI 3 4 (ji_const 219 (ji_icmp_gt (K 1)
    (ji_aload 0 (ji_getfI 3 4 (ji_const 215 (ji_isub (ji_goto (K 3))))))))))))))
    (ji_const 5 (ji_goto (K 3)))))))
  | 1 => (ji_aload 0 (ji_getfI 3 4 (ji_const 220 (ji_icmp_lt (K 2)
    (ji_aload 0 (ji_getfI 3 4 (ji_const 228 (ji_icmp_gt (K 2)
    (ji_aload 0 (ji_getfI 3 4 (ji_const 220 (ji_isub (ji_const 6 (ji_iadd (ji_goto (K 3))))))))))))))))
  | 2 => (ji_const (-1) (K 3))
  | 3 => (ji_ireturn e)
  | _ => fun _ _ _ _ _ => False
def pX3_nameNow : Nat → Nat := fun k => match k with
  | 0 => 0
  | 1 => 45
  | 2 => 79
  | 3 => 80
  | _ => 0
theorem sX3_nameNow : jSound bX3_nameNow pX3_nameNow MX3_nameNow := by
  intro e p ev R s m args below meth c hX hr hn hlk K hK k
  match k with
  | 0 => exact (js_aload_n hX dX3_nameNow_0 rfl (js_getfI hX (ci := 3) (k := 4) (RX3, TX3, 8) rfl (by decide) rfl (Or.inl q458) (fun _ h => h) dX3_nameNow_1 (js_const hX (z := 208) (by unfold inI; omega) dX3_nameNow_4 (Or.inr (Or.inr (Or.inl ⟨208, rfl, rfl, rfl⟩))) (js_icmp_ne hX (tgt := 14) dX3_nameNow_7 rfl (js_aload_n hX dX3_nameNow_14 rfl (js_getfI hX (ci := 3) (k := 4) (RX3, TX3, 8) rfl (by decide) rfl (Or.inl q458) (fun _ h => h) dX3_nameNow_15 (js_const hX (z := 215) (by unfold inI; omega) dX3_nameNow_18 (Or.inr (Or.inr (Or.inl ⟨215, rfl, rfl, rfl⟩))) (js_icmp_lt hX (tgt := 45) dX3_nameNow_21 rfl (hK 1)
    (js_aload_n hX dX3_nameNow_24 rfl (js_getfI hX (ci := 3) (k := 4) (RX3, TX3, 8) rfl (by decide) rfl (Or.inl q458) (fun _ h => h) dX3_nameNow_25 (js_const hX (z := 219) (by unfold inI; omega) dX3_nameNow_28 (Or.inr (Or.inr (Or.inl ⟨219, rfl, rfl, rfl⟩))) (js_icmp_gt hX (tgt := 45) dX3_nameNow_31 rfl (hK 1)
    (js_aload_n hX dX3_nameNow_34 rfl (js_getfI hX (ci := 3) (k := 4) (RX3, TX3, 8) rfl (by decide) rfl (Or.inl q458) (fun _ h => h) dX3_nameNow_35 (js_const hX (z := 215) (by unfold inI; omega) dX3_nameNow_38 (Or.inr (Or.inr (Or.inl ⟨215, rfl, rfl, rfl⟩))) (js_isub hX dX3_nameNow_41 (js_goto hX (tgt := 80) dX3_nameNow_42 rfl (hK 3))))))))))))))
    (js_const hX (z := 5) (by unfold inI; omega) dX3_nameNow_10 (Or.inl ⟨5, rfl, rfl, rfl⟩) (js_goto hX (tgt := 80) dX3_nameNow_11 rfl (hK 3)))))))
  | 1 => exact (js_aload_n hX dX3_nameNow_45 rfl (js_getfI hX (ci := 3) (k := 4) (RX3, TX3, 8) rfl (by decide) rfl (Or.inl q458) (fun _ h => h) dX3_nameNow_46 (js_const hX (z := 220) (by unfold inI; omega) dX3_nameNow_49 (Or.inr (Or.inr (Or.inl ⟨220, rfl, rfl, rfl⟩))) (js_icmp_lt hX (tgt := 79) dX3_nameNow_52 rfl (hK 2)
    (js_aload_n hX dX3_nameNow_55 rfl (js_getfI hX (ci := 3) (k := 4) (RX3, TX3, 8) rfl (by decide) rfl (Or.inl q458) (fun _ h => h) dX3_nameNow_56 (js_const hX (z := 228) (by unfold inI; omega) dX3_nameNow_59 (Or.inr (Or.inr (Or.inl ⟨228, rfl, rfl, rfl⟩))) (js_icmp_gt hX (tgt := 79) dX3_nameNow_62 rfl (hK 2)
    (js_aload_n hX dX3_nameNow_65 rfl (js_getfI hX (ci := 3) (k := 4) (RX3, TX3, 8) rfl (by decide) rfl (Or.inl q458) (fun _ h => h) dX3_nameNow_66 (js_const hX (z := 220) (by unfold inI; omega) dX3_nameNow_69 (Or.inr (Or.inr (Or.inl ⟨220, rfl, rfl, rfl⟩))) (js_isub hX dX3_nameNow_72 (js_const hX (z := 6) (by unfold inI; omega) dX3_nameNow_73 (Or.inr (Or.inl ⟨6, rfl, rfl, rfl⟩)) (js_iadd hX dX3_nameNow_75 (js_goto hX (tgt := 80) dX3_nameNow_76 rfl (hK 3))))))))))))))))
  | 2 => exact (js_const hX (z := (-1)) (by unfold inI; omega) dX3_nameNow_79 (Or.inl ⟨(-1), rfl, rfl, rfl⟩) (hK 3))
  | 3 => exact (js_ireturn hX hr hlk dX3_nameNow_80)
  | k + 4 => intro ls st h nc ns hf; exact hf.elim
