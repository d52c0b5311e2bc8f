/-! blocks of the methods and their soundness -/
set_option maxRecDepth 100000
def bX2_goToRest : jjB := fun e K k => match k with
  | 0 => (ji_const 0 (ji_istore 1 (K 1)))
  | 1 => (ji_iload 1 (ji_const 500 (ji_icmp_gt (ji_const (-1) (ji_ireturn e))
    (ji_aload 0 (ji_callV e MX2_isCalm 2 1 (ji_if_eq (ji_aload 0 (ji_aload 0 (ji_getfR 2 0 (ji_const 1 (ji_iald (ji_iload 1 (ji_iadd (ji_const 2 (ji_irem (ji_callV e MX2_nightOn 2 2 (ji_iinc 1 1 (ji_goto (K 1)))))))))))))
    (ji_iload 1 (ji_ireturn e))))))))
  | _ => fun _ _ _ _ _ => False
def pX2_goToRest : Nat → Nat := fun k => match k with
  | 0 => 0
  | 1 => 2
  | _ => 0
theorem sX2_goToRest : jSound bX2_goToRest pX2_goToRest MX2_goToRest := by
  intro e p ev R s m args below meth c hX hr hn hlk K hK k
  match k with
  | 0 => exact (js_const hX (z := 0) (by unfold inI; omega) dX2_goToRest_0 (Or.inl ⟨0, rfl, rfl, rfl⟩) (js_istore_n hX dX2_goToRest_1 rfl (by decide) (hK 1)))
  | 1 => exact (js_iload_n hX dX2_goToRest_2 rfl (js_const hX (z := 500) (by unfold inI; omega) dX2_goToRest_3 (Or.inr (Or.inr (Or.inl ⟨500, rfl, rfl, rfl⟩))) (js_icmp_gt hX (tgt := 38) dX2_goToRest_6 rfl (js_const hX (z := (-1)) (by unfold inI; omega) dX2_goToRest_38 (Or.inl ⟨(-1), rfl, rfl, rfl⟩) (js_ireturn hX hr hlk dX2_goToRest_39))
    (js_aload_n hX dX2_goToRest_9 rfl (js_callV hX MX2_isCalm (ci := 2) (n := 0) (RX2, TX2, 43) rfl rfl (lw_V q1845 q1847 qs125 q156 q1848) npX2_isCalm dX2_goToRest_10 (js_if_eq hX (tgt := 18) dX2_goToRest_13 rfl (js_aload_n hX dX2_goToRest_18 rfl (js_aload_n hX dX2_goToRest_19 rfl (js_getfR hX (ci := 2) (k := 0) (RX2, TX2, 43) rfl (by decide) rfl (Or.inl q1346) (fun _ h => h) dX2_goToRest_20 (js_const hX (z := 1) (by unfold inI; omega) dX2_goToRest_23 (Or.inl ⟨1, rfl, rfl, rfl⟩) (js_iald hX dX2_goToRest_24 (js_iload_n hX dX2_goToRest_25 rfl (js_iadd hX dX2_goToRest_26 (js_const hX (z := 2) (by unfold inI; omega) dX2_goToRest_27 (Or.inl ⟨2, rfl, rfl, rfl⟩) (js_irem hX dX2_goToRest_28 (js_callV hX MX2_nightOn (ci := 2) (n := 1) (RX2, TX2, 43) rfl rfl (lw_V q1849 q1851 qs126 q156 q1852) npX2_nightOn dX2_goToRest_29 (js_iinc hX dX2_goToRest_32 (by decide) (js_goto hX (tgt := 2) dX2_goToRest_35 rfl (hK 1)))))))))))))
    (js_iload_n hX dX2_goToRest_16 rfl (js_ireturn hX hr hlk dX2_goToRest_17))))))))
  | k + 2 => intro ls st h nc ns hf; exact hf.elim
def bX2_isCalm : jjB := fun e K k => match k with
  | 0 => (ji_const 0 (ji_istore 1 (K 1)))
  | 1 => (ji_iload 1 (ji_const 1 (ji_iadd (ji_aload 0 (ji_getfI 2 28 (ji_icmp_ge (ji_const 1 (ji_zreturn e))
    (ji_aload 0 (ji_getfR 2 26 (ji_const 10 (ji_aload 0 (ji_getfR 2 27 (ji_iload 1 (ji_iald (ji_imul (ji_aload 0 (ji_getfR 2 27 (ji_iload 1 (ji_const 1 (ji_iadd (ji_iald (ji_iadd (ji_zald (ji_if_eq (ji_iinc 1 1 (ji_goto (K 1)))
    (ji_const 0 (ji_zreturn e)))))))))))))))))))))))))
  | _ => fun _ _ _ _ _ => False
def pX2_isCalm : Nat → Nat := fun k => match k with
  | 0 => 0
  | 1 => 2
  | _ => 0
theorem sX2_isCalm : jSound bX2_isCalm pX2_isCalm MX2_isCalm := by
  intro e p ev R s m args below meth c hX hr hn hlk K hK k
  match k with
  | 0 => exact (js_const hX (z := 0) (by unfold inI; omega) dX2_isCalm_0 (Or.inl ⟨0, rfl, rfl, rfl⟩) (js_istore_n hX dX2_isCalm_1 rfl (by decide) (hK 1)))
  | 1 => exact (js_iload_n hX dX2_isCalm_2 rfl (js_const hX (z := 1) (by unfold inI; omega) dX2_isCalm_3 (Or.inl ⟨1, rfl, rfl, rfl⟩) (js_iadd hX dX2_isCalm_4 (js_aload_n hX dX2_isCalm_5 rfl (js_getfI hX (ci := 2) (k := 28) (RX2, TX2, 43) rfl (by decide) rfl (Or.inl q1372) (fun _ h => h) dX2_isCalm_6 (js_icmp_ge hX (tgt := 46) dX2_isCalm_9 rfl (js_const hX (z := 1) (by unfold inI; omega) dX2_isCalm_46 (Or.inl ⟨1, rfl, rfl, rfl⟩) (js_zreturn hX hr hlk dX2_isCalm_47))
    (js_aload_n hX dX2_isCalm_12 rfl (js_getfR hX (ci := 2) (k := 26) (RX2, TX2, 43) rfl (by decide) rfl (Or.inl q1370) (fun _ h => h) dX2_isCalm_13 (js_const hX (z := 10) (by unfold inI; omega) dX2_isCalm_16 (Or.inr (Or.inl ⟨10, rfl, rfl, rfl⟩)) (js_aload_n hX dX2_isCalm_18 rfl (js_getfR hX (ci := 2) (k := 27) (RX2, TX2, 43) rfl (by decide) rfl (Or.inl q1371) (fun _ h => h) dX2_isCalm_19 (js_iload_n hX dX2_isCalm_22 rfl (js_iald hX dX2_isCalm_23 (js_imul hX dX2_isCalm_24 (js_aload_n hX dX2_isCalm_25 rfl (js_getfR hX (ci := 2) (k := 27) (RX2, TX2, 43) rfl (by decide) rfl (Or.inl q1371) (fun _ h => h) dX2_isCalm_26 (js_iload_n hX dX2_isCalm_29 rfl (js_const hX (z := 1) (by unfold inI; omega) dX2_isCalm_30 (Or.inl ⟨1, rfl, rfl, rfl⟩) (js_iadd hX dX2_isCalm_31 (js_iald hX dX2_isCalm_32 (js_iadd hX dX2_isCalm_33 (js_zald hX dX2_isCalm_34 (js_if_eq hX (tgt := 40) dX2_isCalm_35 rfl (js_iinc hX dX2_isCalm_40 (by decide) (js_goto hX (tgt := 2) dX2_isCalm_43 rfl (hK 1)))
    (js_const hX (z := 0) (by unfold inI; omega) dX2_isCalm_38 (Or.inl ⟨0, rfl, rfl, rfl⟩) (js_zreturn hX hr hlk dX2_isCalm_39)))))))))))))))))))))))))
  | k + 2 => intro ls st h nc ns hf; exact hf.elim
def bX2_nightOn : jjB := fun e K k => match k with
  | 0 => (ji_iload 1 (ji_istore 2 (K 1)))
  | 1 => (ji_iload 2 (ji_const 1 (ji_iadd (ji_aload 0 (ji_getfI 2 28 (ji_icmp_ge (ji_return e)
    (ji_aload 0 (ji_getfR 2 26 (ji_const 10 (ji_aload 0 (ji_getfR 2 27 (ji_iload 2 (ji_iald (ji_imul (ji_aload 0 (ji_getfR 2 27 (ji_iload 2 (ji_const 1 (ji_iadd (ji_iald (ji_iadd (ji_zald (ji_if_eq (K 2)
    (ji_aload 0 (ji_iload 2 (ji_callV e MX2_swapRow 2 2 (K 2)))))))))))))))))))))))))))
  | 2 => (ji_iinc 2 2 (ji_goto (K 1)))
  | _ => fun _ _ _ _ _ => False
def pX2_nightOn : Nat → Nat := fun k => match k with
  | 0 => 0
  | 1 => 2
  | 2 => 43
  | _ => 0
theorem sX2_nightOn : jSound bX2_nightOn pX2_nightOn MX2_nightOn := by
  intro e p ev R s m args below meth c hX hr hn hlk K hK k
  match k with
  | 0 => exact (js_iload_n hX dX2_nightOn_0 rfl (js_istore_n hX dX2_nightOn_1 rfl (by decide) (hK 1)))
  | 1 => exact (js_iload_n hX dX2_nightOn_2 rfl (js_const hX (z := 1) (by unfold inI; omega) dX2_nightOn_3 (Or.inl ⟨1, rfl, rfl, rfl⟩) (js_iadd hX dX2_nightOn_4 (js_aload_n hX dX2_nightOn_5 rfl (js_getfI hX (ci := 2) (k := 28) (RX2, TX2, 43) rfl (by decide) rfl (Or.inl q1372) (fun _ h => h) dX2_nightOn_6 (js_icmp_ge hX (tgt := 49) dX2_nightOn_9 rfl (js_return hX hr hlk dX2_nightOn_49)
    (js_aload_n hX dX2_nightOn_12 rfl (js_getfR hX (ci := 2) (k := 26) (RX2, TX2, 43) rfl (by decide) rfl (Or.inl q1370) (fun _ h => h) dX2_nightOn_13 (js_const hX (z := 10) (by unfold inI; omega) dX2_nightOn_16 (Or.inr (Or.inl ⟨10, rfl, rfl, rfl⟩)) (js_aload_n hX dX2_nightOn_18 rfl (js_getfR hX (ci := 2) (k := 27) (RX2, TX2, 43) rfl (by decide) rfl (Or.inl q1371) (fun _ h => h) dX2_nightOn_19 (js_iload_n hX dX2_nightOn_22 rfl (js_iald hX dX2_nightOn_23 (js_imul hX dX2_nightOn_24 (js_aload_n hX dX2_nightOn_25 rfl (js_getfR hX (ci := 2) (k := 27) (RX2, TX2, 43) rfl (by decide) rfl (Or.inl q1371) (fun _ h => h) dX2_nightOn_26 (js_iload_n hX dX2_nightOn_29 rfl (js_const hX (z := 1) (by unfold inI; omega) dX2_nightOn_30 (Or.inl ⟨1, rfl, rfl, rfl⟩) (js_iadd hX dX2_nightOn_31 (js_iald hX dX2_nightOn_32 (js_iadd hX dX2_nightOn_33 (js_zald hX dX2_nightOn_34 (js_if_eq hX (tgt := 43) dX2_nightOn_35 rfl (hK 2)
    (js_aload_n hX dX2_nightOn_38 rfl (js_iload_n hX dX2_nightOn_39 rfl (js_callV hX MX2_swapRow (ci := 2) (n := 1) (RX2, TX2, 43) rfl rfl (lw_V q1853 q1855 qs127 q156 q1856) npX2_swapRow dX2_nightOn_40 (hK 2)))))))))))))))))))))))))))
  | 2 => exact (js_iinc hX dX2_nightOn_43 (by decide) (js_goto hX (tgt := 2) dX2_nightOn_46 rfl (hK 1)))
  | k + 3 => intro ls st h nc ns hf; exact hf.elim
def bX2_swapRow : jjB := fun e K k => match k with
  | 0 => (ji_aload 0 (ji_getfR 2 27 (ji_iload 1 (ji_iald (ji_istore 2 (ji_aload 0 (ji_getfR 2 27 (ji_iload 1 (ji_aload 0 (ji_getfR 2 27 (ji_iload 1 (ji_const 1 (ji_iadd (ji_iald (ji_iast (ji_aload 0 (ji_getfR 2 27 (ji_iload 1 (ji_const 1 (ji_iadd (ji_iload 2 (ji_iast (ji_return e)))))))))))))))))))))))
  | _ => fun _ _ _ _ _ => False
def pX2_swapRow : Nat → Nat := fun k => match k with
  | 0 => 0
  | _ => 0
theorem sX2_swapRow : jSound bX2_swapRow pX2_swapRow MX2_swapRow := by
  intro e p ev R s m args below meth c hX hr hn hlk K hK k
  match k with
  | 0 => exact (js_aload_n hX dX2_swapRow_0 rfl (js_getfR hX (ci := 2) (k := 27) (RX2, TX2, 43) rfl (by decide) rfl (Or.inl q1371) (fun _ h => h) dX2_swapRow_1 (js_iload_n hX dX2_swapRow_4 rfl (js_iald hX dX2_swapRow_5 (js_istore_n hX dX2_swapRow_6 rfl (by decide) (js_aload_n hX dX2_swapRow_7 rfl (js_getfR hX (ci := 2) (k := 27) (RX2, TX2, 43) rfl (by decide) rfl (Or.inl q1371) (fun _ h => h) dX2_swapRow_8 (js_iload_n hX dX2_swapRow_11 rfl (js_aload_n hX dX2_swapRow_12 rfl (js_getfR hX (ci := 2) (k := 27) (RX2, TX2, 43) rfl (by decide) rfl (Or.inl q1371) (fun _ h => h) dX2_swapRow_13 (js_iload_n hX dX2_swapRow_16 rfl (js_const hX (z := 1) (by unfold inI; omega) dX2_swapRow_17 (Or.inl ⟨1, rfl, rfl, rfl⟩) (js_iadd hX dX2_swapRow_18 (js_iald hX dX2_swapRow_19 (js_iast hX dX2_swapRow_20 (js_aload_n hX dX2_swapRow_21 rfl (js_getfR hX (ci := 2) (k := 27) (RX2, TX2, 43) rfl (by decide) rfl (Or.inl q1371) (fun _ h => h) dX2_swapRow_22 (js_iload_n hX dX2_swapRow_25 rfl (js_const hX (z := 1) (by unfold inI; omega) dX2_swapRow_26 (Or.inl ⟨1, rfl, rfl, rfl⟩) (js_iadd hX dX2_swapRow_27 (js_iload_n hX dX2_swapRow_28 rfl (js_iast hX dX2_swapRow_29 (js_return hX hr hlk dX2_swapRow_30)))))))))))))))))))))))
  | k + 1 => intro ls st h nc ns hf; exact hf.elim
def bX2_round : jjB := fun e K k => match k with
  | 0 => (ji_iload 1 (ji_callS e MX2_isShelf 1 (ji_if_ne (ji_aload 0 (ji_iload 1 (ji_const (-1) (ji_callV e MX2_layRow 2 3 (ji_const 0 (ji_istore 3 (K 1)))))))
    (ji_const (-1) (ji_ireturn e)))))
  | 1 => (ji_iload 3 (ji_const 500 (ji_icmp_gt (ji_const 0 (ji_istore 3 (K 2)))
    (ji_aload 0 (ji_callV e MX2_isCalm 2 1 (ji_if_eq (ji_aload 0 (ji_getfR 2 29 (ji_iload 3 (ji_aload 0 (ji_callV e MX2_rowNumber 2 1 (ji_last (ji_aload 0 (ji_aload 0 (ji_getfR 2 0 (ji_const 1 (ji_iald (ji_iload 3 (ji_iadd (ji_const 2 (ji_irem (ji_callV e MX2_nightOn 2 2 (ji_iinc 3 1 (ji_goto (K 1)))))))))))))))))))
    (ji_const (-1) (ji_ireturn e))))))))
  | 2 => (ji_iload 3 (ji_const 500 (ji_icmp_gt (ji_const (-1) (ji_ireturn e))
    (ji_const 2 (ji_istore 4 (K 3))))))
  | 3 => (ji_iload 3 (ji_iload 4 (ji_iadd (ji_const 500 (ji_icmp_gt (ji_iinc 3 1 (ji_goto (K 2)))
    (ji_aload 0 (ji_getfR 2 29 (ji_iload 3 (ji_lald (ji_aload 0 (ji_getfR 2 29 (ji_iload 3 (ji_iload 4 (ji_iadd (ji_lald (ji_lcmp (ji_if_ne (ji_iinc 4 2 (ji_goto (K 3)))
    (ji_iload 2 (ji_if_eq (ji_iload 3 (K 4))
    (ji_iload 4 (ji_goto (K 4))))))))))))))))))))))
  | 4 => (ji_ireturn e)
  | _ => fun _ _ _ _ _ => False
def pX2_round : Nat → Nat := fun k => match k with
  | 0 => 0
  | 1 => 17
  | 2 => 65
  | 3 => 75
  | 4 => 114
  | _ => 0
theorem sX2_round : jSound bX2_round pX2_round MX2_round := by
  intro e p ev R s m args below meth c hX hr hn hlk K hK k
  match k with
  | 0 => exact (js_iload_n hX dX2_round_0 rfl (js_callS hX MX2_isShelf (n := 1) (lw_S q1693 q1694 q156 q1695) npX2_isShelf dX2_round_1 (js_if_ne hX (tgt := 9) dX2_round_4 rfl (js_aload_n hX dX2_round_9 rfl (js_iload_n hX dX2_round_10 rfl (js_const hX (z := (-1)) (by unfold inI; omega) dX2_round_11 (Or.inl ⟨(-1), rfl, rfl, rfl⟩) (js_callV hX MX2_layRow (ci := 2) (n := 2) (RX2, TX2, 43) rfl rfl (lw_V q1833 q1835 qs122 q156 q1836) npX2_layRow dX2_round_12 (js_const hX (z := 0) (by unfold inI; omega) dX2_round_15 (Or.inl ⟨0, rfl, rfl, rfl⟩) (js_istore_n hX dX2_round_16 rfl (by decide) (hK 1)))))))
    (js_const hX (z := (-1)) (by unfold inI; omega) dX2_round_7 (Or.inl ⟨(-1), rfl, rfl, rfl⟩) (js_ireturn hX hr hlk dX2_round_8)))))
  | 1 => exact (js_iload_n hX dX2_round_17 rfl (js_const hX (z := 500) (by unfold inI; omega) dX2_round_18 (Or.inr (Or.inr (Or.inl ⟨500, rfl, rfl, rfl⟩))) (js_icmp_gt hX (tgt := 63) dX2_round_21 rfl (js_const hX (z := 0) (by unfold inI; omega) dX2_round_63 (Or.inl ⟨0, rfl, rfl, rfl⟩) (js_istore_n hX dX2_round_64 rfl (by decide) (hK 2)))
    (js_aload_n hX dX2_round_24 rfl (js_callV hX MX2_isCalm (ci := 2) (n := 0) (RX2, TX2, 43) rfl rfl (lw_V q1845 q1847 qs125 q156 q1848) npX2_isCalm dX2_round_25 (js_if_eq hX (tgt := 33) dX2_round_28 rfl (js_aload_n hX dX2_round_33 rfl (js_getfR hX (ci := 2) (k := 29) (RX2, TX2, 43) rfl (by decide) rfl (Or.inl q1373) (fun _ h => h) dX2_round_34 (js_iload_n hX dX2_round_37 rfl (js_aload_n hX dX2_round_38 rfl (js_callV hX MX2_rowNumber (ci := 2) (n := 0) (RX2, TX2, 43) rfl rfl (lw_V q1861 q1863 qs128 q156 q1864) npX2_rowNumber dX2_round_39 (js_last hX dX2_round_42 (js_aload_n hX dX2_round_43 rfl (js_aload_n hX dX2_round_44 rfl (js_getfR hX (ci := 2) (k := 0) (RX2, TX2, 43) rfl (by decide) rfl (Or.inl q1346) (fun _ h => h) dX2_round_45 (js_const hX (z := 1) (by unfold inI; omega) dX2_round_48 (Or.inl ⟨1, rfl, rfl, rfl⟩) (js_iald hX dX2_round_49 (js_iload_n hX dX2_round_50 rfl (js_iadd hX dX2_round_51 (js_const hX (z := 2) (by unfold inI; omega) dX2_round_52 (Or.inl ⟨2, rfl, rfl, rfl⟩) (js_irem hX dX2_round_53 (js_callV hX MX2_nightOn (ci := 2) (n := 1) (RX2, TX2, 43) rfl rfl (lw_V q1849 q1851 qs126 q156 q1852) npX2_nightOn dX2_round_54 (js_iinc hX dX2_round_57 (by decide) (js_goto hX (tgt := 17) dX2_round_60 rfl (hK 1)))))))))))))))))))
    (js_const hX (z := (-1)) (by unfold inI; omega) dX2_round_31 (Or.inl ⟨(-1), rfl, rfl, rfl⟩) (js_ireturn hX hr hlk dX2_round_32))))))))
  | 2 => exact (js_iload_n hX dX2_round_65 rfl (js_const hX (z := 500) (by unfold inI; omega) dX2_round_66 (Or.inr (Or.inr (Or.inl ⟨500, rfl, rfl, rfl⟩))) (js_icmp_gt hX (tgt := 127) dX2_round_69 rfl (js_const hX (z := (-1)) (by unfold inI; omega) dX2_round_127 (Or.inl ⟨(-1), rfl, rfl, rfl⟩) (js_ireturn hX hr hlk dX2_round_128))
    (js_const hX (z := 2) (by unfold inI; omega) dX2_round_72 (Or.inl ⟨2, rfl, rfl, rfl⟩) (js_istore hX dX2_round_73 (by decide) (hK 3))))))
  | 3 => exact (js_iload_n hX dX2_round_75 rfl (js_iload hX dX2_round_76 (js_iadd hX dX2_round_78 (js_const hX (z := 500) (by unfold inI; omega) dX2_round_79 (Or.inr (Or.inr (Or.inl ⟨500, rfl, rfl, rfl⟩))) (js_icmp_gt hX (tgt := 121) dX2_round_82 rfl (js_iinc hX dX2_round_121 (by decide) (js_goto hX (tgt := 65) dX2_round_124 rfl (hK 2)))
    (js_aload_n hX dX2_round_85 rfl (js_getfR hX (ci := 2) (k := 29) (RX2, TX2, 43) rfl (by decide) rfl (Or.inl q1373) (fun _ h => h) dX2_round_86 (js_iload_n hX dX2_round_89 rfl (js_lald hX dX2_round_90 (js_aload_n hX dX2_round_91 rfl (js_getfR hX (ci := 2) (k := 29) (RX2, TX2, 43) rfl (by decide) rfl (Or.inl q1373) (fun _ h => h) dX2_round_92 (js_iload_n hX dX2_round_95 rfl (js_iload hX dX2_round_96 (js_iadd hX dX2_round_98 (js_lald hX dX2_round_99 (js_lcmp hX dX2_round_100 (js_if_ne hX (tgt := 115) dX2_round_101 rfl (js_iinc hX dX2_round_115 (by decide) (js_goto hX (tgt := 75) dX2_round_118 rfl (hK 3)))
    (js_iload_n hX dX2_round_104 rfl (js_if_eq hX (tgt := 113) dX2_round_105 rfl (js_iload_n hX dX2_round_113 rfl (hK 4))
    (js_iload hX dX2_round_108 (js_goto hX (tgt := 114) dX2_round_110 rfl (hK 4))))))))))))))))))))))
  | 4 => exact (js_ireturn hX hr hlk dX2_round_114)
  | k + 5 => intro ls st h nc ns hf; exact hf.elim
def bX2_rowNumber : jjB := fun e K k => match k with
  | 0 => (ji_lconst 0 (ji_lstore 1 (ji_const 0 (ji_istore 3 (K 1)))))
  | 1 => (ji_iload 3 (ji_aload 0 (ji_getfI 2 28 (ji_icmp_ge (ji_lload 1 (ji_lreturn e))
    (ji_lconst 10 (ji_lload 1 (ji_lmul (ji_aload 0 (ji_getfR 2 27 (ji_iload 3 (ji_iald (ji_i2l (ji_ladd (ji_lstore 1 (ji_iinc 3 1 (ji_goto (K 1)))))))))))))))))
  | _ => fun _ _ _ _ _ => False
def pX2_rowNumber : Nat → Nat := fun k => match k with
  | 0 => 0
  | 1 => 4
  | _ => 0
theorem sX2_rowNumber : jSound bX2_rowNumber pX2_rowNumber MX2_rowNumber := by
  intro e p ev R s m args below meth c hX hr hn hlk K hK k
  match k with
  | 0 => exact (js_lconst hX (z := 0) (by unfold inL; omega) dX2_rowNumber_0 rfl (js_lstore_n hX dX2_rowNumber_1 rfl (by decide) (js_const hX (z := 0) (by unfold inI; omega) dX2_rowNumber_2 (Or.inl ⟨0, rfl, rfl, rfl⟩) (js_istore_n hX dX2_rowNumber_3 rfl (by decide) (hK 1)))))
  | 1 => exact (js_iload_n hX dX2_rowNumber_4 rfl (js_aload_n hX dX2_rowNumber_5 rfl (js_getfI hX (ci := 2) (k := 28) (RX2, TX2, 43) rfl (by decide) rfl (Or.inl q1372) (fun _ h => h) dX2_rowNumber_6 (js_icmp_ge hX (tgt := 32) dX2_rowNumber_9 rfl (js_lload_n hX dX2_rowNumber_32 rfl (js_lreturn hX hr hlk dX2_rowNumber_33))
    (js_ldc2 hX (z := 10) (by unfold inL; omega) dX2_rowNumber_12 q1865 (js_lload_n hX dX2_rowNumber_15 rfl (js_lmul hX dX2_rowNumber_16 (js_aload_n hX dX2_rowNumber_17 rfl (js_getfR hX (ci := 2) (k := 27) (RX2, TX2, 43) rfl (by decide) rfl (Or.inl q1371) (fun _ h => h) dX2_rowNumber_18 (js_iload_n hX dX2_rowNumber_21 rfl (js_iald hX dX2_rowNumber_22 (js_i2l hX dX2_rowNumber_23 (js_ladd hX dX2_rowNumber_24 (js_lstore_n hX dX2_rowNumber_25 rfl (by decide) (js_iinc hX dX2_rowNumber_26 (by decide) (js_goto hX (tgt := 4) dX2_rowNumber_29 rfl (hK 1)))))))))))))))))
  | k + 2 => intro ls st h nc ns hf; exact hf.elim
def bX2_calm : jjB := fun e K k => match k with
  | 0 => (ji_aload 0 (ji_iload 1 (ji_callV e MX2_isSet 2 2 (ji_if_eq (K 1)
    (ji_iload 2 (ji_const (-1) (ji_icmp_ge (ji_aload 0 (ji_iload 1 (ji_callV e MX2_laySet 2 2 (ji_iload 2 (ji_const (-1) (ji_icmp_ne (ji_aload 0 (ji_iload 2 (ji_callV e MX2_calmOrder 2 2 (ji_istore 4 (ji_iload 4 (ji_if_lt (K 4)
    (ji_iload 3 (ji_const 0 (ji_aload 0 (ji_getfI 2 34 (ji_const 1 (ji_isub (ji_callS e MX2_isIn 3 (ji_if_eq (K 4)
    (ji_aload 0 (ji_getfR 2 33 (ji_aload 0 (ji_getfR 2 30 (ji_const 6 (ji_iload 4 (ji_imul (ji_iload 3 (ji_iadd (ji_iald (ji_iald (ji_goto (K 5)))))))))))))))))))))))))))
    (ji_const 0 (ji_istore 4 (ji_const 0 (ji_istore 5 (K 2)))))))))))
    (K 1))))))))
  | 1 => (ji_const (-1) (ji_ireturn e))
  | 2 => (ji_iload 5 (ji_aload 0 (ji_getfI 2 35 (ji_icmp_ge (ji_iload 4 (ji_ireturn e))
    (ji_iload 4 (ji_aload 0 (ji_getfR 2 32 (ji_iload 5 (ji_zald (ji_if_eq (ji_const 0 (K 3))
    (ji_const 1 (ji_goto (K 3)))))))))))))
  | 3 => (ji_iadd (ji_istore 4 (ji_iinc 5 1 (ji_goto (K 2)))))
  | 4 => (ji_const (-1) (K 5))
  | 5 => (ji_ireturn e)
  | _ => fun _ _ _ _ _ => False
def pX2_calm : Nat → Nat := fun k => match k with
  | 0 => 0
  | 1 => 13
  | 2 => 31
  | 3 => 57
  | 4 => 115
  | 5 => 116
  | _ => 0
theorem sX2_calm : jSound bX2_calm pX2_calm MX2_calm := by
  intro e p ev R s m args below meth c hX hr hn hlk K hK k
  match k with
  | 0 => exact (js_aload_n hX dX2_calm_0 rfl (js_iload_n hX dX2_calm_1 rfl (js_callV hX MX2_isSet (ci := 2) (n := 1) (RX2, TX2, 43) rfl rfl (lw_V q1870 q1872 qs129 q156 q1873) npX2_isSet dX2_calm_2 (js_if_eq hX (tgt := 13) dX2_calm_5 rfl (hK 1)
    (js_iload_n hX dX2_calm_8 rfl (js_const hX (z := (-1)) (by unfold inI; omega) dX2_calm_9 (Or.inl ⟨(-1), rfl, rfl, rfl⟩) (js_icmp_ge hX (tgt := 15) dX2_calm_10 rfl (js_aload_n hX dX2_calm_15 rfl (js_iload_n hX dX2_calm_16 rfl (js_callV hX MX2_laySet (ci := 2) (n := 1) (RX2, TX2, 43) rfl rfl (lw_V q1877 q1879 qs130 q156 q1880) npX2_laySet dX2_calm_17 (js_iload_n hX dX2_calm_20 rfl (js_const hX (z := (-1)) (by unfold inI; omega) dX2_calm_21 (Or.inl ⟨(-1), rfl, rfl, rfl⟩) (js_icmp_ne hX (tgt := 69) dX2_calm_22 rfl (js_aload_n hX dX2_calm_69 rfl (js_iload_n hX dX2_calm_70 rfl (js_callV hX MX2_calmOrder (ci := 2) (n := 1) (RX2, TX2, 43) rfl rfl (lw_V q1915 q1917 qs138 q156 q1918) npX2_calmOrder dX2_calm_71 (js_istore hX dX2_calm_74 (by decide) (js_iload hX dX2_calm_76 (js_if_lt hX (tgt := 115) dX2_calm_78 rfl (hK 4)
    (js_iload_n hX dX2_calm_81 rfl (js_const hX (z := 0) (by unfold inI; omega) dX2_calm_82 (Or.inl ⟨0, rfl, rfl, rfl⟩) (js_aload_n hX dX2_calm_83 rfl (js_getfI hX (ci := 2) (k := 34) (RX2, TX2, 43) rfl (by decide) rfl (Or.inl q1378) (fun _ h => h) dX2_calm_84 (js_const hX (z := 1) (by unfold inI; omega) dX2_calm_87 (Or.inl ⟨1, rfl, rfl, rfl⟩) (js_isub hX dX2_calm_88 (js_callS hX MX2_isIn (n := 3) (lw_S q1479 q1480 q156 q1481) npX2_isIn dX2_calm_89 (js_if_eq hX (tgt := 115) dX2_calm_92 rfl (hK 4)
    (js_aload_n hX dX2_calm_95 rfl (js_getfR hX (ci := 2) (k := 33) (RX2, TX2, 43) rfl (by decide) rfl (Or.inl q1377) (fun _ h => h) dX2_calm_96 (js_aload_n hX dX2_calm_99 rfl (js_getfR hX (ci := 2) (k := 30) (RX2, TX2, 43) rfl (by decide) rfl (Or.inl q1374) (fun _ h => h) dX2_calm_100 (js_const hX (z := 6) (by unfold inI; omega) dX2_calm_103 (Or.inr (Or.inl ⟨6, rfl, rfl, rfl⟩)) (js_iload hX dX2_calm_105 (js_imul hX dX2_calm_107 (js_iload_n hX dX2_calm_108 rfl (js_iadd hX dX2_calm_109 (js_iald hX dX2_calm_110 (js_iald hX dX2_calm_111 (js_goto hX (tgt := 116) dX2_calm_112 rfl (hK 5)))))))))))))))))))))))))))
    (js_const hX (z := 0) (by unfold inI; omega) dX2_calm_25 (Or.inl ⟨0, rfl, rfl, rfl⟩) (js_istore hX dX2_calm_26 (by decide) (js_const hX (z := 0) (by unfold inI; omega) dX2_calm_28 (Or.inl ⟨0, rfl, rfl, rfl⟩) (js_istore hX dX2_calm_29 (by decide) (hK 2)))))))))))
    (hK 1))))))))
  | 1 => exact (js_const hX (z := (-1)) (by unfold inI; omega) dX2_calm_13 (Or.inl ⟨(-1), rfl, rfl, rfl⟩) (js_ireturn hX hr hlk dX2_calm_14))
  | 2 => exact (js_iload hX dX2_calm_31 (js_aload_n hX dX2_calm_33 rfl (js_getfI hX (ci := 2) (k := 35) (RX2, TX2, 43) rfl (by decide) rfl (Or.inl q1379) (fun _ h => h) dX2_calm_34 (js_icmp_ge hX (tgt := 66) dX2_calm_37 rfl (js_iload hX dX2_calm_66 (js_ireturn hX hr hlk dX2_calm_68))
    (js_iload hX dX2_calm_40 (js_aload_n hX dX2_calm_42 rfl (js_getfR hX (ci := 2) (k := 32) (RX2, TX2, 43) rfl (by decide) rfl (Or.inl q1376) (fun _ h => h) dX2_calm_43 (js_iload hX dX2_calm_46 (js_zald hX dX2_calm_48 (js_if_eq hX (tgt := 56) dX2_calm_49 rfl (js_const hX (z := 0) (by unfold inI; omega) dX2_calm_56 (Or.inl ⟨0, rfl, rfl, rfl⟩) (hK 3))
    (js_const hX (z := 1) (by unfold inI; omega) dX2_calm_52 (Or.inl ⟨1, rfl, rfl, rfl⟩) (js_goto hX (tgt := 57) dX2_calm_53 rfl (hK 3)))))))))))))
  | 3 => exact (js_iadd hX dX2_calm_57 (js_istore hX dX2_calm_58 (by decide) (js_iinc hX dX2_calm_60 (by decide) (js_goto hX (tgt := 31) dX2_calm_63 rfl (hK 2)))))
  | 4 => exact (js_const hX (z := (-1)) (by unfold inI; omega) dX2_calm_115 (Or.inl ⟨(-1), rfl, rfl, rfl⟩) (hK 5))
  | 5 => exact (js_ireturn hX hr hlk dX2_calm_116)
  | k + 6 => intro ls st h nc ns hf; exact hf.elim
def bX2_isSet : jjB := fun e K k => match k with
  | 0 => (ji_iload 1 (ji_const 1 (ji_const 1 (ji_aload 0 (ji_getfR 2 0 (ji_const 0 (ji_iald (ji_ishl (ji_const 1 (ji_isub (ji_callS e MX2_isIn 3 (ji_if_eq (K 1)
    (ji_iload 1 (ji_callS e MX2_bits 1 (ji_const 6 (ji_icmp_gt (K 1)
    (ji_const 1 (ji_goto (K 2)))))))))))))))))))
  | 1 => (ji_const 0 (K 2))
  | 2 => (ji_zreturn e)
  | _ => fun _ _ _ _ _ => False
def pX2_isSet : Nat → Nat := fun k => match k with
  | 0 => 0
  | 1 => 31
  | 2 => 32
  | _ => 0
theorem sX2_isSet : jSound bX2_isSet pX2_isSet MX2_isSet := by
  intro e p ev R s m args below meth c hX hr hn hlk K hK k
  match k with
  | 0 => exact (js_iload_n hX dX2_isSet_0 rfl (js_const hX (z := 1) (by unfold inI; omega) dX2_isSet_1 (Or.inl ⟨1, rfl, rfl, rfl⟩) (js_const hX (z := 1) (by unfold inI; omega) dX2_isSet_2 (Or.inl ⟨1, rfl, rfl, rfl⟩) (js_aload_n hX dX2_isSet_3 rfl (js_getfR hX (ci := 2) (k := 0) (RX2, TX2, 43) rfl (by decide) rfl (Or.inl q1346) (fun _ h => h) dX2_isSet_4 (js_const hX (z := 0) (by unfold inI; omega) dX2_isSet_7 (Or.inl ⟨0, rfl, rfl, rfl⟩) (js_iald hX dX2_isSet_8 (js_ishl hX dX2_isSet_9 (js_const hX (z := 1) (by unfold inI; omega) dX2_isSet_10 (Or.inl ⟨1, rfl, rfl, rfl⟩) (js_isub hX dX2_isSet_11 (js_callS hX MX2_isIn (n := 3) (lw_S q1479 q1480 q156 q1481) npX2_isIn dX2_isSet_12 (js_if_eq hX (tgt := 31) dX2_isSet_15 rfl (hK 1)
    (js_iload_n hX dX2_isSet_18 rfl (js_callS hX MX2_bits (n := 1) (lw_S q1874 q1875 q156 q1876) npX2_bits dX2_isSet_19 (js_const hX (z := 6) (by unfold inI; omega) dX2_isSet_22 (Or.inr (Or.inl ⟨6, rfl, rfl, rfl⟩)) (js_icmp_gt hX (tgt := 31) dX2_isSet_24 rfl (hK 1)
    (js_const hX (z := 1) (by unfold inI; omega) dX2_isSet_27 (Or.inl ⟨1, rfl, rfl, rfl⟩) (js_goto hX (tgt := 32) dX2_isSet_28 rfl (hK 2)))))))))))))))))))
  | 1 => exact (js_const hX (z := 0) (by unfold inI; omega) dX2_isSet_31 (Or.inl ⟨0, rfl, rfl, rfl⟩) (hK 2))
  | 2 => exact (js_zreturn hX hr hlk dX2_isSet_32)
  | k + 3 => intro ls st h nc ns hf; exact hf.elim
def bX2_bits : jjB := fun e K k => match k with
  | 0 => (ji_const 0 (ji_istore 1 (ji_const 0 (ji_istore 2 (K 1)))))
  | 1 => (ji_iload 2 (ji_const 10 (ji_icmp_ge (ji_iload 1 (ji_ireturn e))
    (ji_iload 1 (ji_iload 0 (ji_iload 2 (ji_ishr (ji_const 1 (ji_iand (ji_iadd (ji_istore 1 (ji_iinc 2 1 (ji_goto (K 1))))))))))))))
  | _ => fun _ _ _ _ _ => False
def pX2_bits : Nat → Nat := fun k => match k with
  | 0 => 0
  | 1 => 4
  | _ => 0
theorem sX2_bits : jSound bX2_bits pX2_bits MX2_bits := by
  intro e p ev R s m args below meth c hX hr hn hlk K hK k
  match k with
  | 0 => exact (js_const hX (z := 0) (by unfold inI; omega) dX2_bits_0 (Or.inl ⟨0, rfl, rfl, rfl⟩) (js_istore_n hX dX2_bits_1 rfl (by decide) (js_const hX (z := 0) (by unfold inI; omega) dX2_bits_2 (Or.inl ⟨0, rfl, rfl, rfl⟩) (js_istore_n hX dX2_bits_3 rfl (by decide) (hK 1)))))
  | 1 => exact (js_iload_n hX dX2_bits_4 rfl (js_const hX (z := 10) (by unfold inI; omega) dX2_bits_5 (Or.inr (Or.inl ⟨10, rfl, rfl, rfl⟩)) (js_icmp_ge hX (tgt := 24) dX2_bits_7 rfl (js_iload_n hX dX2_bits_24 rfl (js_ireturn hX hr hlk dX2_bits_25))
    (js_iload_n hX dX2_bits_10 rfl (js_iload_n hX dX2_bits_11 rfl (js_iload_n hX dX2_bits_12 rfl (js_ishr hX dX2_bits_13 (js_const hX (z := 1) (by unfold inI; omega) dX2_bits_14 (Or.inl ⟨1, rfl, rfl, rfl⟩) (js_iand hX dX2_bits_15 (js_iadd hX dX2_bits_16 (js_istore_n hX dX2_bits_17 rfl (by decide) (js_iinc hX dX2_bits_18 (by decide) (js_goto hX (tgt := 4) dX2_bits_21 rfl (hK 1))))))))))))))
  | k + 2 => intro ls st h nc ns hf; exact hf.elim
def bX2_laySet : jjB := fun e K k => match k with
  | 0 => (ji_aload 0 (ji_callV e MX2_findChanges 2 1 (ji_aload 0 (ji_iload 1 (ji_callV e MX2_layElements 2 2 (ji_return e))))))
  | _ => fun _ _ _ _ _ => False
def pX2_laySet : Nat → Nat := fun k => match k with
  | 0 => 0
  | _ => 0
theorem sX2_laySet : jSound bX2_laySet pX2_laySet MX2_laySet := by
  intro e p ev R s m args below meth c hX hr hn hlk K hK k
  match k with
  | 0 => exact (js_aload_n hX dX2_laySet_0 rfl (js_callV hX MX2_findChanges (ci := 2) (n := 0) (RX2, TX2, 43) rfl rfl (lw_V q1837 q1839 qs123 q156 q1840) npX2_findChanges dX2_laySet_1 (js_aload_n hX dX2_laySet_4 rfl (js_iload_n hX dX2_laySet_5 rfl (js_callV hX MX2_layElements (ci := 2) (n := 1) (RX2, TX2, 43) rfl rfl (lw_V q1881 q1883 qs131 q156 q1884) npX2_layElements dX2_laySet_6 (js_return hX hr hlk dX2_laySet_9))))))
  | k + 1 => intro ls st h nc ns hf; exact hf.elim
def bX2_layElements : jjB := fun e K k => match k with
  | 0 => (ji_aload 0 (ji_const 0 (ji_putfI 2 34 (ji_const 0 (ji_istore 2 (K 1))))))
  | 1 => (ji_iload 2 (ji_aload 0 (ji_getfR 2 0 (ji_const 0 (ji_iald (ji_icmp_ge (ji_aload 0 (ji_callV e MX2_findOrders 2 1 (ji_aload 0 (ji_callV e MX2_findLeads 2 1 (ji_return e)))))
    (ji_iload 1 (ji_iload 2 (ji_callS e MX2_has 2 (ji_if_ne (ji_aload 0 (ji_getfR 2 33 (ji_aload 0 (ji_getfI 2 34 (ji_iload 2 (ji_iast (ji_aload 0 (ji_dup (ji_getfI 2 34 (ji_const 1 (ji_iadd (ji_putfI 2 34 (K 2)))))))))))))
    (ji_goto (K 2))))))))))))
  | 2 => (ji_iinc 2 1 (ji_goto (K 1)))
  | _ => fun _ _ _ _ _ => False
def pX2_layElements : Nat → Nat := fun k => match k with
  | 0 => 0
  | 1 => 7
  | 2 => 48
  | _ => 0
theorem sX2_layElements : jSound bX2_layElements pX2_layElements MX2_layElements := by
  intro e p ev R s m args below meth c hX hr hn hlk K hK k
  match k with
  | 0 => exact (js_aload_n hX dX2_layElements_0 rfl (js_const hX (z := 0) (by unfold inI; omega) dX2_layElements_1 (Or.inl ⟨0, rfl, rfl, rfl⟩) (js_putfI hX (ci := 2) (k := 34) (RX2, TX2, 43) rfl (by decide) rfl (Or.inl q1378) (fun _ h => h) (Or.inl rfl) dX2_layElements_2 (js_const hX (z := 0) (by unfold inI; omega) dX2_layElements_5 (Or.inl ⟨0, rfl, rfl, rfl⟩) (js_istore_n hX dX2_layElements_6 rfl (by decide) (hK 1))))))
  | 1 => exact (js_iload_n hX dX2_layElements_7 rfl (js_aload_n hX dX2_layElements_8 rfl (js_getfR hX (ci := 2) (k := 0) (RX2, TX2, 43) rfl (by decide) rfl (Or.inl q1346) (fun _ h => h) dX2_layElements_9 (js_const hX (z := 0) (by unfold inI; omega) dX2_layElements_12 (Or.inl ⟨0, rfl, rfl, rfl⟩) (js_iald hX dX2_layElements_13 (js_icmp_ge hX (tgt := 54) dX2_layElements_14 rfl (js_aload_n hX dX2_layElements_54 rfl (js_callV hX MX2_findOrders (ci := 2) (n := 0) (RX2, TX2, 43) rfl rfl (lw_V q1888 q1890 qs132 q156 q1891) npX2_findOrders dX2_layElements_55 (js_aload_n hX dX2_layElements_58 rfl (js_callV hX MX2_findLeads (ci := 2) (n := 0) (RX2, TX2, 43) rfl rfl (lw_V q1895 q1897 qs133 q156 q1898) npX2_findLeads dX2_layElements_59 (js_return hX hr hlk dX2_layElements_62)))))
    (js_iload_n hX dX2_layElements_17 rfl (js_iload_n hX dX2_layElements_18 rfl (js_callS hX MX2_has (n := 2) (lw_S q1885 q1886 q156 q1887) npX2_has dX2_layElements_19 (js_if_ne hX (tgt := 28) dX2_layElements_22 rfl (js_aload_n hX dX2_layElements_28 rfl (js_getfR hX (ci := 2) (k := 33) (RX2, TX2, 43) rfl (by decide) rfl (Or.inl q1377) (fun _ h => h) dX2_layElements_29 (js_aload_n hX dX2_layElements_32 rfl (js_getfI hX (ci := 2) (k := 34) (RX2, TX2, 43) rfl (by decide) rfl (Or.inl q1378) (fun _ h => h) dX2_layElements_33 (js_iload_n hX dX2_layElements_36 rfl (js_iast hX dX2_layElements_37 (js_aload_n hX dX2_layElements_38 rfl (js_dup hX dX2_layElements_39 (js_getfI hX (ci := 2) (k := 34) (RX2, TX2, 43) rfl (by decide) rfl (Or.inl q1378) (fun _ h => h) dX2_layElements_40 (js_const hX (z := 1) (by unfold inI; omega) dX2_layElements_43 (Or.inl ⟨1, rfl, rfl, rfl⟩) (js_iadd hX dX2_layElements_44 (js_putfI hX (ci := 2) (k := 34) (RX2, TX2, 43) rfl (by decide) rfl (Or.inl q1378) (fun _ h => h) (Or.inl rfl) dX2_layElements_45 (hK 2)))))))))))))
    (js_goto hX (tgt := 48) dX2_layElements_25 rfl (hK 2))))))))))))
  | 2 => exact (js_iinc hX dX2_layElements_48 (by decide) (js_goto hX (tgt := 7) dX2_layElements_51 rfl (hK 1)))
  | k + 3 => intro ls st h nc ns hf; exact hf.elim
def bX2_has : jjB := fun e K k => match k with
  | 0 => (ji_iload 0 (ji_iload 1 (ji_ishr (ji_const 1 (ji_iand (ji_const 1 (ji_icmp_ne (ji_const 0 (K 1))
    (ji_const 1 (ji_goto (K 1))))))))))
  | 1 => (ji_zreturn e)
  | _ => fun _ _ _ _ _ => False
def pX2_has : Nat → Nat := fun k => match k with
  | 0 => 0
  | 1 => 14
  | _ => 0
theorem sX2_has : jSound bX2_has pX2_has MX2_has := by
  intro e p ev R s m args below meth c hX hr hn hlk K hK k
  match k with
  | 0 => exact (js_iload_n hX dX2_has_0 rfl (js_iload_n hX dX2_has_1 rfl (js_ishr hX dX2_has_2 (js_const hX (z := 1) (by unfold inI; omega) dX2_has_3 (Or.inl ⟨1, rfl, rfl, rfl⟩) (js_iand hX dX2_has_4 (js_const hX (z := 1) (by unfold inI; omega) dX2_has_5 (Or.inl ⟨1, rfl, rfl, rfl⟩) (js_icmp_ne hX (tgt := 13) dX2_has_6 rfl (js_const hX (z := 0) (by unfold inI; omega) dX2_has_13 (Or.inl ⟨0, rfl, rfl, rfl⟩) (hK 1))
    (js_const hX (z := 1) (by unfold inI; omega) dX2_has_9 (Or.inl ⟨1, rfl, rfl, rfl⟩) (js_goto hX (tgt := 14) dX2_has_10 rfl (hK 1))))))))))
  | 1 => exact (js_zreturn hX hr hlk dX2_has_14)
  | k + 2 => intro ls st h nc ns hf; exact hf.elim
def bX2_findOrders : jjB := fun e K k => match k with
  | 0 => (ji_aload 0 (ji_aload 0 (ji_getfI 2 34 (ji_callS e MX2_factorial 1 (ji_putfI 2 35 (ji_const 0 (ji_istore 1 (K 1))))))))
  | 1 => (ji_iload 1 (ji_aload 0 (ji_getfI 2 35 (ji_icmp_ge (ji_return e)
    (ji_iload 1 (ji_istore 2 (ji_const 0 (ji_istore 3 (ji_const 0 (ji_istore 4 (K 2)))))))))))
  | 2 => (ji_iload 4 (ji_aload 0 (ji_getfI 2 34 (ji_icmp_ge (ji_iinc 1 1 (ji_goto (K 1)))
    (ji_aload 0 (ji_getfI 2 34 (ji_const 1 (ji_isub (ji_iload 4 (ji_isub (ji_callS e MX2_factorial 1 (ji_istore 5 (ji_iload 2 (ji_iload 5 (ji_idiv (ji_istore 6 (ji_iload 2 (ji_iload 5 (ji_irem (ji_istore 2 (ji_const 0 (ji_istore 7 (K 3)))))))))))))))))))))))
  | 3 => (ji_iload 3 (ji_iload 7 (ji_callS e MX2_has 2 (ji_if_ne (K 4)
    (ji_iload 6 (ji_if_le (ji_aload 0 (ji_getfR 2 30 (ji_const 6 (ji_iload 1 (ji_imul (ji_iload 4 (ji_iadd (ji_iload 7 (ji_iast (ji_iload 3 (ji_const 1 (ji_iload 7 (ji_ishl (ji_ior (ji_istore 3 (ji_iinc 4 1 (ji_goto (K 2))))))))))))))))))
    (K 4)))))))
  | 4 => (ji_iload 6 (ji_iload 3 (ji_iload 7 (ji_callS e MX2_has 2 (ji_if_eq (ji_const 1 (K 5))
    (ji_const 0 (ji_goto (K 5))))))))
  | 5 => (ji_isub (ji_istore 6 (ji_iinc 7 1 (ji_goto (K 3)))))
  | _ => fun _ _ _ _ _ => False
def pX2_findOrders : Nat → Nat := fun k => match k with
  | 0 => 0
  | 1 => 13
  | 2 => 28
  | 3 => 65
  | 4 => 79
  | 5 => 95
  | _ => 0
theorem sX2_findOrders : jSound bX2_findOrders pX2_findOrders MX2_findOrders := by
  intro e p ev R s m args below meth c hX hr hn hlk K hK k
  match k with
  | 0 => exact (js_aload_n hX dX2_findOrders_0 rfl (js_aload_n hX dX2_findOrders_1 rfl (js_getfI hX (ci := 2) (k := 34) (RX2, TX2, 43) rfl (by decide) rfl (Or.inl q1378) (fun _ h => h) dX2_findOrders_2 (js_callS hX MX2_factorial (n := 1) (lw_S q1892 q1893 q156 q1894) npX2_factorial dX2_findOrders_5 (js_putfI hX (ci := 2) (k := 35) (RX2, TX2, 43) rfl (by decide) rfl (Or.inl q1379) (fun _ h => h) (Or.inl rfl) dX2_findOrders_8 (js_const hX (z := 0) (by unfold inI; omega) dX2_findOrders_11 (Or.inl ⟨0, rfl, rfl, rfl⟩) (js_istore_n hX dX2_findOrders_12 rfl (by decide) (hK 1))))))))
  | 1 => exact (js_iload_n hX dX2_findOrders_13 rfl (js_aload_n hX dX2_findOrders_14 rfl (js_getfI hX (ci := 2) (k := 35) (RX2, TX2, 43) rfl (by decide) rfl (Or.inl q1379) (fun _ h => h) dX2_findOrders_15 (js_icmp_ge hX (tgt := 137) dX2_findOrders_18 rfl (js_return hX hr hlk dX2_findOrders_137)
    (js_iload_n hX dX2_findOrders_21 rfl (js_istore_n hX dX2_findOrders_22 rfl (by decide) (js_const hX (z := 0) (by unfold inI; omega) dX2_findOrders_23 (Or.inl ⟨0, rfl, rfl, rfl⟩) (js_istore_n hX dX2_findOrders_24 rfl (by decide) (js_const hX (z := 0) (by unfold inI; omega) dX2_findOrders_25 (Or.inl ⟨0, rfl, rfl, rfl⟩) (js_istore hX dX2_findOrders_26 (by decide) (hK 2)))))))))))
  | 2 => exact (js_iload hX dX2_findOrders_28 (js_aload_n hX dX2_findOrders_30 rfl (js_getfI hX (ci := 2) (k := 34) (RX2, TX2, 43) rfl (by decide) rfl (Or.inl q1378) (fun _ h => h) dX2_findOrders_31 (js_icmp_ge hX (tgt := 131) dX2_findOrders_34 rfl (js_iinc hX dX2_findOrders_131 (by decide) (js_goto hX (tgt := 13) dX2_findOrders_134 rfl (hK 1)))
    (js_aload_n hX dX2_findOrders_37 rfl (js_getfI hX (ci := 2) (k := 34) (RX2, TX2, 43) rfl (by decide) rfl (Or.inl q1378) (fun _ h => h) dX2_findOrders_38 (js_const hX (z := 1) (by unfold inI; omega) dX2_findOrders_41 (Or.inl ⟨1, rfl, rfl, rfl⟩) (js_isub hX dX2_findOrders_42 (js_iload hX dX2_findOrders_43 (js_isub hX dX2_findOrders_45 (js_callS hX MX2_factorial (n := 1) (lw_S q1892 q1893 q156 q1894) npX2_factorial dX2_findOrders_46 (js_istore hX dX2_findOrders_49 (by decide) (js_iload_n hX dX2_findOrders_51 rfl (js_iload hX dX2_findOrders_52 (js_idiv hX dX2_findOrders_54 (js_istore hX dX2_findOrders_55 (by decide) (js_iload_n hX dX2_findOrders_57 rfl (js_iload hX dX2_findOrders_58 (js_irem hX dX2_findOrders_60 (js_istore_n hX dX2_findOrders_61 rfl (by decide) (js_const hX (z := 0) (by unfold inI; omega) dX2_findOrders_62 (Or.inl ⟨0, rfl, rfl, rfl⟩) (js_istore hX dX2_findOrders_63 (by decide) (hK 3)))))))))))))))))))))))
  | 3 => exact (js_iload_n hX dX2_findOrders_65 rfl (js_iload hX dX2_findOrders_66 (js_callS hX MX2_has (n := 2) (lw_S q1885 q1886 q156 q1887) npX2_has dX2_findOrders_68 (js_if_ne hX (tgt := 79) dX2_findOrders_71 rfl (hK 4)
    (js_iload hX dX2_findOrders_74 (js_if_le hX (tgt := 104) dX2_findOrders_76 rfl (js_aload_n hX dX2_findOrders_104 rfl (js_getfR hX (ci := 2) (k := 30) (RX2, TX2, 43) rfl (by decide) rfl (Or.inl q1374) (fun _ h => h) dX2_findOrders_105 (js_const hX (z := 6) (by unfold inI; omega) dX2_findOrders_108 (Or.inr (Or.inl ⟨6, rfl, rfl, rfl⟩)) (js_iload_n hX dX2_findOrders_110 rfl (js_imul hX dX2_findOrders_111 (js_iload hX dX2_findOrders_112 (js_iadd hX dX2_findOrders_114 (js_iload hX dX2_findOrders_115 (js_iast hX dX2_findOrders_117 (js_iload_n hX dX2_findOrders_118 rfl (js_const hX (z := 1) (by unfold inI; omega) dX2_findOrders_119 (Or.inl ⟨1, rfl, rfl, rfl⟩) (js_iload hX dX2_findOrders_120 (js_ishl hX dX2_findOrders_122 (js_ior hX dX2_findOrders_123 (js_istore_n hX dX2_findOrders_124 rfl (by decide) (js_iinc hX dX2_findOrders_125 (by decide) (js_goto hX (tgt := 28) dX2_findOrders_128 rfl (hK 2))))))))))))))))))
    (hK 4)))))))
  | 4 => exact (js_iload hX dX2_findOrders_79 (js_iload_n hX dX2_findOrders_81 rfl (js_iload hX dX2_findOrders_82 (js_callS hX MX2_has (n := 2) (lw_S q1885 q1886 q156 q1887) npX2_has dX2_findOrders_84 (js_if_eq hX (tgt := 94) dX2_findOrders_87 rfl (js_const hX (z := 1) (by unfold inI; omega) dX2_findOrders_94 (Or.inl ⟨1, rfl, rfl, rfl⟩) (hK 5))
    (js_const hX (z := 0) (by unfold inI; omega) dX2_findOrders_90 (Or.inl ⟨0, rfl, rfl, rfl⟩) (js_goto hX (tgt := 95) dX2_findOrders_91 rfl (hK 5))))))))
  | 5 => exact (js_isub hX dX2_findOrders_95 (js_istore hX dX2_findOrders_96 (by decide) (js_iinc hX dX2_findOrders_98 (by decide) (js_goto hX (tgt := 65) dX2_findOrders_101 rfl (hK 3)))))
  | k + 6 => intro ls st h nc ns hf; exact hf.elim
def bX2_factorial : jjB := fun e K k => match k with
  | 0 => (ji_const 1 (ji_istore 1 (ji_const 2 (ji_istore 2 (K 1)))))
  | 1 => (ji_iload 2 (ji_iload 0 (ji_icmp_gt (ji_iload 1 (ji_ireturn e))
    (ji_iload 1 (ji_iload 2 (ji_imul (ji_istore 1 (ji_iinc 2 1 (ji_goto (K 1))))))))))
  | _ => fun _ _ _ _ _ => False
def pX2_factorial : Nat → Nat := fun k => match k with
  | 0 => 0
  | 1 => 4
  | _ => 0
theorem sX2_factorial : jSound bX2_factorial pX2_factorial MX2_factorial := by
  intro e p ev R s m args below meth c hX hr hn hlk K hK k
  match k with
  | 0 => exact (js_const hX (z := 1) (by unfold inI; omega) dX2_factorial_0 (Or.inl ⟨1, rfl, rfl, rfl⟩) (js_istore_n hX dX2_factorial_1 rfl (by decide) (js_const hX (z := 2) (by unfold inI; omega) dX2_factorial_2 (Or.inl ⟨2, rfl, rfl, rfl⟩) (js_istore_n hX dX2_factorial_3 rfl (by decide) (hK 1)))))
  | 1 => exact (js_iload_n hX dX2_factorial_4 rfl (js_iload_n hX dX2_factorial_5 rfl (js_icmp_gt hX (tgt := 19) dX2_factorial_6 rfl (js_iload_n hX dX2_factorial_19 rfl (js_ireturn hX hr hlk dX2_factorial_20))
    (js_iload_n hX dX2_factorial_9 rfl (js_iload_n hX dX2_factorial_10 rfl (js_imul hX dX2_factorial_11 (js_istore_n hX dX2_factorial_12 rfl (by decide) (js_iinc hX dX2_factorial_13 (by decide) (js_goto hX (tgt := 4) dX2_factorial_16 rfl (hK 1))))))))))
  | k + 2 => intro ls st h nc ns hf; exact hf.elim
def bX2_findLeads : jjB := fun e K k => match k with
  | 0 => (ji_const 0 (ji_istore 1 (K 1)))
  | 1 => (ji_iload 1 (ji_aload 0 (ji_getfI 2 35 (ji_icmp_ge (ji_return e)
    (ji_const 0 (ji_istore 2 (K 2)))))))
  | 2 => (ji_iload 2 (ji_const 2 (ji_icmp_ge (ji_aload 0 (ji_iload 1 (ji_callV e MX2_takeOrder 2 2 (ji_aload 0 (ji_getfR 2 32 (ji_iload 1 (ji_const 1 (ji_zast (ji_const 0 (ji_istore 2 (K 5)))))))))))
    (ji_aload 0 (ji_iload 1 (ji_callV e MX2_takeOrder 2 2 (ji_iload 2 (ji_istore 3 (K 3)))))))))
  | 3 => (ji_iload 3 (ji_const 1 (ji_iadd (ji_aload 0 (ji_getfI 2 34 (ji_icmp_ge (ji_aload 0 (ji_getfR 2 31 (ji_const 2 (ji_iload 1 (ji_imul (ji_iload 2 (ji_iadd (ji_aload 0 (ji_callV e MX2_orderOf 2 1 (ji_iast (ji_iinc 2 1 (ji_goto (K 2)))))))))))))
    (ji_aload 0 (ji_iload 3 (ji_callV e MX2_doOrder 2 2 (ji_if_eq (K 4)
    (ji_aload 0 (ji_iload 3 (ji_callV e MX2_changeOrder 2 2 (K 4))))))))))))))
  | 4 => (ji_iinc 3 2 (ji_goto (K 3)))
  | 5 => (ji_iload 2 (ji_const 1 (ji_iadd (ji_aload 0 (ji_getfI 2 34 (ji_icmp_ge (ji_iinc 1 1 (ji_goto (K 1)))
    (ji_aload 0 (ji_getfR 2 32 (ji_iload 1 (ji_aload 0 (ji_getfR 2 32 (ji_iload 1 (ji_zald (ji_if_eq (K 6)
    (ji_aload 0 (ji_iload 2 (ji_callV e MX2_doOrder 2 2 (ji_if_ne (K 6)
    (ji_const 1 (ji_goto (K 7)))))))))))))))))))))
  | 6 => (ji_const 0 (K 7))
  | 7 => (ji_zast (ji_iinc 2 1 (ji_goto (K 5))))
  | _ => fun _ _ _ _ _ => False
def pX2_findLeads : Nat → Nat := fun k => match k with
  | 0 => 0
  | 1 => 2
  | 2 => 12
  | 3 => 24
  | 4 => 47
  | 5 => 87
  | 6 => 123
  | 7 => 124
  | _ => 0
theorem sX2_findLeads : jSound bX2_findLeads pX2_findLeads MX2_findLeads := by
  intro e p ev R s m args below meth c hX hr hn hlk K hK k
  match k with
  | 0 => exact (js_const hX (z := 0) (by unfold inI; omega) dX2_findLeads_0 (Or.inl ⟨0, rfl, rfl, rfl⟩) (js_istore_n hX dX2_findLeads_1 rfl (by decide) (hK 1)))
  | 1 => exact (js_iload_n hX dX2_findLeads_2 rfl (js_aload_n hX dX2_findLeads_3 rfl (js_getfI hX (ci := 2) (k := 35) (RX2, TX2, 43) rfl (by decide) rfl (Or.inl q1379) (fun _ h => h) dX2_findLeads_4 (js_icmp_ge hX (tgt := 137) dX2_findLeads_7 rfl (js_return hX hr hlk dX2_findLeads_137)
    (js_const hX (z := 0) (by unfold inI; omega) dX2_findLeads_10 (Or.inl ⟨0, rfl, rfl, rfl⟩) (js_istore_n hX dX2_findLeads_11 rfl (by decide) (hK 2)))))))
  | 2 => exact (js_iload_n hX dX2_findLeads_12 rfl (js_const hX (z := 2) (by unfold inI; omega) dX2_findLeads_13 (Or.inl ⟨2, rfl, rfl, rfl⟩) (js_icmp_ge hX (tgt := 73) dX2_findLeads_14 rfl (js_aload_n hX dX2_findLeads_73 rfl (js_iload_n hX dX2_findLeads_74 rfl (js_callV hX MX2_takeOrder (ci := 2) (n := 1) (RX2, TX2, 43) rfl rfl (lw_V q1899 q1901 qs134 q156 q1902) npX2_takeOrder dX2_findLeads_75 (js_aload_n hX dX2_findLeads_78 rfl (js_getfR hX (ci := 2) (k := 32) (RX2, TX2, 43) rfl (by decide) rfl (Or.inl q1376) (fun _ h => h) dX2_findLeads_79 (js_iload_n hX dX2_findLeads_82 rfl (js_const hX (z := 1) (by unfold inI; omega) dX2_findLeads_83 (Or.inl ⟨1, rfl, rfl, rfl⟩) (js_zast hX dX2_findLeads_84 (js_const hX (z := 0) (by unfold inI; omega) dX2_findLeads_85 (Or.inl ⟨0, rfl, rfl, rfl⟩) (js_istore_n hX dX2_findLeads_86 rfl (by decide) (hK 5)))))))))))
    (js_aload_n hX dX2_findLeads_17 rfl (js_iload_n hX dX2_findLeads_18 rfl (js_callV hX MX2_takeOrder (ci := 2) (n := 1) (RX2, TX2, 43) rfl rfl (lw_V q1899 q1901 qs134 q156 q1902) npX2_takeOrder dX2_findLeads_19 (js_iload_n hX dX2_findLeads_22 rfl (js_istore_n hX dX2_findLeads_23 rfl (by decide) (hK 3)))))))))
  | 3 => exact (js_iload_n hX dX2_findLeads_24 rfl (js_const hX (z := 1) (by unfold inI; omega) dX2_findLeads_25 (Or.inl ⟨1, rfl, rfl, rfl⟩) (js_iadd hX dX2_findLeads_26 (js_aload_n hX dX2_findLeads_27 rfl (js_getfI hX (ci := 2) (k := 34) (RX2, TX2, 43) rfl (by decide) rfl (Or.inl q1378) (fun _ h => h) dX2_findLeads_28 (js_icmp_ge hX (tgt := 53) dX2_findLeads_31 rfl (js_aload_n hX dX2_findLeads_53 rfl (js_getfR hX (ci := 2) (k := 31) (RX2, TX2, 43) rfl (by decide) rfl (Or.inl q1375) (fun _ h => h) dX2_findLeads_54 (js_const hX (z := 2) (by unfold inI; omega) dX2_findLeads_57 (Or.inl ⟨2, rfl, rfl, rfl⟩) (js_iload_n hX dX2_findLeads_58 rfl (js_imul hX dX2_findLeads_59 (js_iload_n hX dX2_findLeads_60 rfl (js_iadd hX dX2_findLeads_61 (js_aload_n hX dX2_findLeads_62 rfl (js_callV hX MX2_orderOf (ci := 2) (n := 0) (RX2, TX2, 43) rfl rfl (lw_V q1911 q1913 qs137 q156 q1914) npX2_orderOf dX2_findLeads_63 (js_iast hX dX2_findLeads_66 (js_iinc hX dX2_findLeads_67 (by decide) (js_goto hX (tgt := 12) dX2_findLeads_70 rfl (hK 2)))))))))))))
    (js_aload_n hX dX2_findLeads_34 rfl (js_iload_n hX dX2_findLeads_35 rfl (js_callV hX MX2_doOrder (ci := 2) (n := 1) (RX2, TX2, 43) rfl rfl (lw_V q1903 q1905 qs135 q156 q1906) npX2_doOrder dX2_findLeads_36 (js_if_eq hX (tgt := 47) dX2_findLeads_39 rfl (hK 4)
    (js_aload_n hX dX2_findLeads_42 rfl (js_iload_n hX dX2_findLeads_43 rfl (js_callV hX MX2_changeOrder (ci := 2) (n := 1) (RX2, TX2, 43) rfl rfl (lw_V q1907 q1909 qs136 q156 q1910) npX2_changeOrder dX2_findLeads_44 (hK 4))))))))))))))
  | 4 => exact (js_iinc hX dX2_findLeads_47 (by decide) (js_goto hX (tgt := 24) dX2_findLeads_50 rfl (hK 3)))
  | 5 => exact (js_iload_n hX dX2_findLeads_87 rfl (js_const hX (z := 1) (by unfold inI; omega) dX2_findLeads_88 (Or.inl ⟨1, rfl, rfl, rfl⟩) (js_iadd hX dX2_findLeads_89 (js_aload_n hX dX2_findLeads_90 rfl (js_getfI hX (ci := 2) (k := 34) (RX2, TX2, 43) rfl (by decide) rfl (Or.inl q1378) (fun _ h => h) dX2_findLeads_91 (js_icmp_ge hX (tgt := 131) dX2_findLeads_94 rfl (js_iinc hX dX2_findLeads_131 (by decide) (js_goto hX (tgt := 2) dX2_findLeads_134 rfl (hK 1)))
    (js_aload_n hX dX2_findLeads_97 rfl (js_getfR hX (ci := 2) (k := 32) (RX2, TX2, 43) rfl (by decide) rfl (Or.inl q1376) (fun _ h => h) dX2_findLeads_98 (js_iload_n hX dX2_findLeads_101 rfl (js_aload_n hX dX2_findLeads_102 rfl (js_getfR hX (ci := 2) (k := 32) (RX2, TX2, 43) rfl (by decide) rfl (Or.inl q1376) (fun _ h => h) dX2_findLeads_103 (js_iload_n hX dX2_findLeads_106 rfl (js_zald hX dX2_findLeads_107 (js_if_eq hX (tgt := 123) dX2_findLeads_108 rfl (hK 6)
    (js_aload_n hX dX2_findLeads_111 rfl (js_iload_n hX dX2_findLeads_112 rfl (js_callV hX MX2_doOrder (ci := 2) (n := 1) (RX2, TX2, 43) rfl rfl (lw_V q1903 q1905 qs135 q156 q1906) npX2_doOrder dX2_findLeads_113 (js_if_ne hX (tgt := 123) dX2_findLeads_116 rfl (hK 6)
    (js_const hX (z := 1) (by unfold inI; omega) dX2_findLeads_119 (Or.inl ⟨1, rfl, rfl, rfl⟩) (js_goto hX (tgt := 124) dX2_findLeads_120 rfl (hK 7)))))))))))))))))))))
  | 6 => exact (js_const hX (z := 0) (by unfold inI; omega) dX2_findLeads_123 (Or.inl ⟨0, rfl, rfl, rfl⟩) (hK 7))
  | 7 => exact (js_zast hX dX2_findLeads_124 (js_iinc hX dX2_findLeads_125 (by decide) (js_goto hX (tgt := 87) dX2_findLeads_128 rfl (hK 5))))
  | k + 8 => intro ls st h nc ns hf; exact hf.elim
def bX2_takeOrder : jjB := fun e K k => match k with
  | 0 => (ji_const 0 (ji_istore 2 (K 1)))
  | 1 => (ji_iload 2 (ji_aload 0 (ji_getfI 2 34 (ji_icmp_ge (ji_return e)
    (ji_aload 0 (ji_getfR 2 36 (ji_iload 2 (ji_aload 0 (ji_getfR 2 30 (ji_const 6 (ji_iload 1 (ji_imul (ji_iload 2 (ji_iadd (ji_iald (ji_iast (ji_iinc 2 1 (ji_goto (K 1)))))))))))))))))))
  | _ => fun _ _ _ _ _ => False
def pX2_takeOrder : Nat → Nat := fun k => match k with
  | 0 => 0
  | 1 => 2
  | _ => 0
theorem sX2_takeOrder : jSound bX2_takeOrder pX2_takeOrder MX2_takeOrder := by
  intro e p ev R s m args below meth c hX hr hn hlk K hK k
  match k with
  | 0 => exact (js_const hX (z := 0) (by unfold inI; omega) dX2_takeOrder_0 (Or.inl ⟨0, rfl, rfl, rfl⟩) (js_istore_n hX dX2_takeOrder_1 rfl (by decide) (hK 1)))
  | 1 => exact (js_iload_n hX dX2_takeOrder_2 rfl (js_aload_n hX dX2_takeOrder_3 rfl (js_getfI hX (ci := 2) (k := 34) (RX2, TX2, 43) rfl (by decide) rfl (Or.inl q1378) (fun _ h => h) dX2_takeOrder_4 (js_icmp_ge hX (tgt := 33) dX2_takeOrder_7 rfl (js_return hX hr hlk dX2_takeOrder_33)
    (js_aload_n hX dX2_takeOrder_10 rfl (js_getfR hX (ci := 2) (k := 36) (RX2, TX2, 43) rfl (by decide) rfl (Or.inl q1380) (fun _ h => h) dX2_takeOrder_11 (js_iload_n hX dX2_takeOrder_14 rfl (js_aload_n hX dX2_takeOrder_15 rfl (js_getfR hX (ci := 2) (k := 30) (RX2, TX2, 43) rfl (by decide) rfl (Or.inl q1374) (fun _ h => h) dX2_takeOrder_16 (js_const hX (z := 6) (by unfold inI; omega) dX2_takeOrder_19 (Or.inr (Or.inl ⟨6, rfl, rfl, rfl⟩)) (js_iload_n hX dX2_takeOrder_21 rfl (js_imul hX dX2_takeOrder_22 (js_iload_n hX dX2_takeOrder_23 rfl (js_iadd hX dX2_takeOrder_24 (js_iald hX dX2_takeOrder_25 (js_iast hX dX2_takeOrder_26 (js_iinc hX dX2_takeOrder_27 (by decide) (js_goto hX (tgt := 2) dX2_takeOrder_30 rfl (hK 1)))))))))))))))))))
  | k + 2 => intro ls st h nc ns hf; exact hf.elim
def bX2_doOrder : jjB := fun e K k => match k with
  | 0 => (ji_aload 0 (ji_getfR 2 26 (ji_const 10 (ji_aload 0 (ji_getfR 2 33 (ji_aload 0 (ji_getfR 2 36 (ji_iload 1 (ji_iald (ji_iald (ji_imul (ji_aload 0 (ji_getfR 2 33 (ji_aload 0 (ji_getfR 2 36 (ji_iload 1 (ji_const 1 (ji_iadd (ji_iald (ji_iald (ji_iadd (ji_zald (ji_zreturn e)))))))))))))))))))))))
  | _ => fun _ _ _ _ _ => False
def pX2_doOrder : Nat → Nat := fun k => match k with
  | 0 => 0
  | _ => 0
theorem sX2_doOrder : jSound bX2_doOrder pX2_doOrder MX2_doOrder := by
  intro e p ev R s m args below meth c hX hr hn hlk K hK k
  match k with
  | 0 => exact (js_aload_n hX dX2_doOrder_0 rfl (js_getfR hX (ci := 2) (k := 26) (RX2, TX2, 43) rfl (by decide) rfl (Or.inl q1370) (fun _ h => h) dX2_doOrder_1 (js_const hX (z := 10) (by unfold inI; omega) dX2_doOrder_4 (Or.inr (Or.inl ⟨10, rfl, rfl, rfl⟩)) (js_aload_n hX dX2_doOrder_6 rfl (js_getfR hX (ci := 2) (k := 33) (RX2, TX2, 43) rfl (by decide) rfl (Or.inl q1377) (fun _ h => h) dX2_doOrder_7 (js_aload_n hX dX2_doOrder_10 rfl (js_getfR hX (ci := 2) (k := 36) (RX2, TX2, 43) rfl (by decide) rfl (Or.inl q1380) (fun _ h => h) dX2_doOrder_11 (js_iload_n hX dX2_doOrder_14 rfl (js_iald hX dX2_doOrder_15 (js_iald hX dX2_doOrder_16 (js_imul hX dX2_doOrder_17 (js_aload_n hX dX2_doOrder_18 rfl (js_getfR hX (ci := 2) (k := 33) (RX2, TX2, 43) rfl (by decide) rfl (Or.inl q1377) (fun _ h => h) dX2_doOrder_19 (js_aload_n hX dX2_doOrder_22 rfl (js_getfR hX (ci := 2) (k := 36) (RX2, TX2, 43) rfl (by decide) rfl (Or.inl q1380) (fun _ h => h) dX2_doOrder_23 (js_iload_n hX dX2_doOrder_26 rfl (js_const hX (z := 1) (by unfold inI; omega) dX2_doOrder_27 (Or.inl ⟨1, rfl, rfl, rfl⟩) (js_iadd hX dX2_doOrder_28 (js_iald hX dX2_doOrder_29 (js_iald hX dX2_doOrder_30 (js_iadd hX dX2_doOrder_31 (js_zald hX dX2_doOrder_32 (js_zreturn hX hr hlk dX2_doOrder_33)))))))))))))))))))))))
  | k + 1 => intro ls st h nc ns hf; exact hf.elim
def bX2_changeOrder : jjB := fun e K k => match k with
  | 0 => (ji_aload 0 (ji_getfR 2 36 (ji_iload 1 (ji_iald (ji_istore 2 (ji_aload 0 (ji_getfR 2 36 (ji_iload 1 (ji_aload 0 (ji_getfR 2 36 (ji_iload 1 (ji_const 1 (ji_iadd (ji_iald (ji_iast (ji_aload 0 (ji_getfR 2 36 (ji_iload 1 (ji_const 1 (ji_iadd (ji_iload 2 (ji_iast (ji_return e)))))))))))))))))))))))
  | _ => fun _ _ _ _ _ => False
def pX2_changeOrder : Nat → Nat := fun k => match k with
  | 0 => 0
  | _ => 0
theorem sX2_changeOrder : jSound bX2_changeOrder pX2_changeOrder MX2_changeOrder := by
  intro e p ev R s m args below meth c hX hr hn hlk K hK k
  match k with
  | 0 => exact (js_aload_n hX dX2_changeOrder_0 rfl (js_getfR hX (ci := 2) (k := 36) (RX2, TX2, 43) rfl (by decide) rfl (Or.inl q1380) (fun _ h => h) dX2_changeOrder_1 (js_iload_n hX dX2_changeOrder_4 rfl (js_iald hX dX2_changeOrder_5 (js_istore_n hX dX2_changeOrder_6 rfl (by decide) (js_aload_n hX dX2_changeOrder_7 rfl (js_getfR hX (ci := 2) (k := 36) (RX2, TX2, 43) rfl (by decide) rfl (Or.inl q1380) (fun _ h => h) dX2_changeOrder_8 (js_iload_n hX dX2_changeOrder_11 rfl (js_aload_n hX dX2_changeOrder_12 rfl (js_getfR hX (ci := 2) (k := 36) (RX2, TX2, 43) rfl (by decide) rfl (Or.inl q1380) (fun _ h => h) dX2_changeOrder_13 (js_iload_n hX dX2_changeOrder_16 rfl (js_const hX (z := 1) (by unfold inI; omega) dX2_changeOrder_17 (Or.inl ⟨1, rfl, rfl, rfl⟩) (js_iadd hX dX2_changeOrder_18 (js_iald hX dX2_changeOrder_19 (js_iast hX dX2_changeOrder_20 (js_aload_n hX dX2_changeOrder_21 rfl (js_getfR hX (ci := 2) (k := 36) (RX2, TX2, 43) rfl (by decide) rfl (Or.inl q1380) (fun _ h => h) dX2_changeOrder_22 (js_iload_n hX dX2_changeOrder_25 rfl (js_const hX (z := 1) (by unfold inI; omega) dX2_changeOrder_26 (Or.inl ⟨1, rfl, rfl, rfl⟩) (js_iadd hX dX2_changeOrder_27 (js_iload_n hX dX2_changeOrder_28 rfl (js_iast hX dX2_changeOrder_29 (js_return hX hr hlk dX2_changeOrder_30)))))))))))))))))))))))
  | k + 1 => intro ls st h nc ns hf; exact hf.elim
def bX2_orderOf : jjB := fun e K k => match k with
  | 0 => (ji_const 0 (ji_istore 1 (ji_const 0 (ji_istore 2 (K 1)))))
  | 1 => (ji_iload 2 (ji_aload 0 (ji_getfI 2 34 (ji_icmp_ge (ji_iload 1 (ji_ireturn e))
    (ji_const 0 (ji_istore 3 (ji_iload 2 (ji_const 1 (ji_iadd (ji_istore 4 (K 2)))))))))))
  | 2 => (ji_iload 4 (ji_aload 0 (ji_getfI 2 34 (ji_icmp_ge (ji_iload 1 (ji_aload 0 (ji_getfI 2 34 (ji_iload 2 (ji_isub (ji_imul (ji_iload 3 (ji_iadd (ji_istore 1 (ji_iinc 2 1 (ji_goto (K 1))))))))))))
    (ji_iload 3 (ji_aload 0 (ji_getfR 2 36 (ji_iload 4 (ji_iald (ji_aload 0 (ji_getfR 2 36 (ji_iload 2 (ji_iald (ji_icmp_ge (ji_const 0 (K 3))
    (ji_const 1 (ji_goto (K 3)))))))))))))))))
  | 3 => (ji_iadd (ji_istore 3 (ji_iinc 4 1 (ji_goto (K 2)))))
  | _ => fun _ _ _ _ _ => False
def pX2_orderOf : Nat → Nat := fun k => match k with
  | 0 => 0
  | 1 => 4
  | 2 => 19
  | 3 => 50
  | _ => 0
theorem sX2_orderOf : jSound bX2_orderOf pX2_orderOf MX2_orderOf := by
  intro e p ev R s m args below meth c hX hr hn hlk K hK k
  match k with
  | 0 => exact (js_const hX (z := 0) (by unfold inI; omega) dX2_orderOf_0 (Or.inl ⟨0, rfl, rfl, rfl⟩) (js_istore_n hX dX2_orderOf_1 rfl (by decide) (js_const hX (z := 0) (by unfold inI; omega) dX2_orderOf_2 (Or.inl ⟨0, rfl, rfl, rfl⟩) (js_istore_n hX dX2_orderOf_3 rfl (by decide) (hK 1)))))
  | 1 => exact (js_iload_n hX dX2_orderOf_4 rfl (js_aload_n hX dX2_orderOf_5 rfl (js_getfI hX (ci := 2) (k := 34) (RX2, TX2, 43) rfl (by decide) rfl (Or.inl q1378) (fun _ h => h) dX2_orderOf_6 (js_icmp_ge hX (tgt := 75) dX2_orderOf_9 rfl (js_iload_n hX dX2_orderOf_75 rfl (js_ireturn hX hr hlk dX2_orderOf_76))
    (js_const hX (z := 0) (by unfold inI; omega) dX2_orderOf_12 (Or.inl ⟨0, rfl, rfl, rfl⟩) (js_istore_n hX dX2_orderOf_13 rfl (by decide) (js_iload_n hX dX2_orderOf_14 rfl (js_const hX (z := 1) (by unfold inI; omega) dX2_orderOf_15 (Or.inl ⟨1, rfl, rfl, rfl⟩) (js_iadd hX dX2_orderOf_16 (js_istore hX dX2_orderOf_17 (by decide) (hK 2)))))))))))
  | 2 => exact (js_iload hX dX2_orderOf_19 (js_aload_n hX dX2_orderOf_21 rfl (js_getfI hX (ci := 2) (k := 34) (RX2, TX2, 43) rfl (by decide) rfl (Or.inl q1378) (fun _ h => h) dX2_orderOf_22 (js_icmp_ge hX (tgt := 58) dX2_orderOf_25 rfl (js_iload_n hX dX2_orderOf_58 rfl (js_aload_n hX dX2_orderOf_59 rfl (js_getfI hX (ci := 2) (k := 34) (RX2, TX2, 43) rfl (by decide) rfl (Or.inl q1378) (fun _ h => h) dX2_orderOf_60 (js_iload_n hX dX2_orderOf_63 rfl (js_isub hX dX2_orderOf_64 (js_imul hX dX2_orderOf_65 (js_iload_n hX dX2_orderOf_66 rfl (js_iadd hX dX2_orderOf_67 (js_istore_n hX dX2_orderOf_68 rfl (by decide) (js_iinc hX dX2_orderOf_69 (by decide) (js_goto hX (tgt := 4) dX2_orderOf_72 rfl (hK 1))))))))))))
    (js_iload_n hX dX2_orderOf_28 rfl (js_aload_n hX dX2_orderOf_29 rfl (js_getfR hX (ci := 2) (k := 36) (RX2, TX2, 43) rfl (by decide) rfl (Or.inl q1380) (fun _ h => h) dX2_orderOf_30 (js_iload hX dX2_orderOf_33 (js_iald hX dX2_orderOf_35 (js_aload_n hX dX2_orderOf_36 rfl (js_getfR hX (ci := 2) (k := 36) (RX2, TX2, 43) rfl (by decide) rfl (Or.inl q1380) (fun _ h => h) dX2_orderOf_37 (js_iload_n hX dX2_orderOf_40 rfl (js_iald hX dX2_orderOf_41 (js_icmp_ge hX (tgt := 49) dX2_orderOf_42 rfl (js_const hX (z := 0) (by unfold inI; omega) dX2_orderOf_49 (Or.inl ⟨0, rfl, rfl, rfl⟩) (hK 3))
    (js_const hX (z := 1) (by unfold inI; omega) dX2_orderOf_45 (Or.inl ⟨1, rfl, rfl, rfl⟩) (js_goto hX (tgt := 50) dX2_orderOf_46 rfl (hK 3)))))))))))))))))
  | 3 => exact (js_iadd hX dX2_orderOf_50 (js_istore_n hX dX2_orderOf_51 rfl (by decide) (js_iinc hX dX2_orderOf_52 (by decide) (js_goto hX (tgt := 19) dX2_orderOf_55 rfl (hK 2)))))
  | k + 4 => intro ls st h nc ns hf; exact hf.elim
def bX2_calmOrder : jjB := fun e K k => match k with
  | 0 => (ji_const 0 (ji_istore 2 (ji_const 0 (ji_istore 3 (K 1)))))
  | 1 => (ji_iload 3 (ji_aload 0 (ji_getfI 2 35 (ji_icmp_ge (ji_const (-1) (ji_ireturn e))
    (ji_aload 0 (ji_getfR 2 32 (ji_iload 3 (ji_zald (ji_if_ne (ji_iload 2 (ji_iload 1 (ji_icmp_ne (ji_iinc 2 1 (K 2))
    (ji_iload 3 (ji_ireturn e)))))
    (ji_goto (K 2)))))))))))
  | 2 => (ji_iinc 3 1 (ji_goto (K 1)))
  | _ => fun _ _ _ _ _ => False
def pX2_calmOrder : Nat → Nat := fun k => match k with
  | 0 => 0
  | 1 => 4
  | 2 => 34
  | _ => 0
theorem sX2_calmOrder : jSound bX2_calmOrder pX2_calmOrder MX2_calmOrder := by
  intro e p ev R s m args below meth c hX hr hn hlk K hK k
  match k with
  | 0 => exact (js_const hX (z := 0) (by unfold inI; omega) dX2_calmOrder_0 (Or.inl ⟨0, rfl, rfl, rfl⟩) (js_istore_n hX dX2_calmOrder_1 rfl (by decide) (js_const hX (z := 0) (by unfold inI; omega) dX2_calmOrder_2 (Or.inl ⟨0, rfl, rfl, rfl⟩) (js_istore_n hX dX2_calmOrder_3 rfl (by decide) (hK 1)))))
  | 1 => exact (js_iload_n hX dX2_calmOrder_4 rfl (js_aload_n hX dX2_calmOrder_5 rfl (js_getfI hX (ci := 2) (k := 35) (RX2, TX2, 43) rfl (by decide) rfl (Or.inl q1379) (fun _ h => h) dX2_calmOrder_6 (js_icmp_ge hX (tgt := 40) dX2_calmOrder_9 rfl (js_const hX (z := (-1)) (by unfold inI; omega) dX2_calmOrder_40 (Or.inl ⟨(-1), rfl, rfl, rfl⟩) (js_ireturn hX hr hlk dX2_calmOrder_41))
    (js_aload_n hX dX2_calmOrder_12 rfl (js_getfR hX (ci := 2) (k := 32) (RX2, TX2, 43) rfl (by decide) rfl (Or.inl q1376) (fun _ h => h) dX2_calmOrder_13 (js_iload_n hX dX2_calmOrder_16 rfl (js_zald hX dX2_calmOrder_17 (js_if_ne hX (tgt := 24) dX2_calmOrder_18 rfl (js_iload_n hX dX2_calmOrder_24 rfl (js_iload_n hX dX2_calmOrder_25 rfl (js_icmp_ne hX (tgt := 31) dX2_calmOrder_26 rfl (js_iinc hX dX2_calmOrder_31 (by decide) (hK 2))
    (js_iload_n hX dX2_calmOrder_29 rfl (js_ireturn hX hr hlk dX2_calmOrder_30)))))
    (js_goto hX (tgt := 34) dX2_calmOrder_21 rfl (hK 2)))))))))))
  | 2 => exact (js_iinc hX dX2_calmOrder_34 (by decide) (js_goto hX (tgt := 4) dX2_calmOrder_37 rfl (hK 1)))
  | k + 3 => intro ls st h nc ns hf; exact hf.elim
def bX2_basin : jjB := fun e K k => match k with
  | 0 => (ji_aload 0 (ji_iload 1 (ji_callV e MX2_isSet 2 2 (ji_if_eq (K 1)
    (ji_iload 2 (ji_if_ge (ji_aload 0 (ji_iload 1 (ji_callV e MX2_laySet 2 2 (ji_aload 0 (ji_iload 2 (ji_callV e MX2_calmOrder 2 2 (ji_istore 3 (ji_iload 3 (ji_if_ge (ji_const 0 (ji_istore 4 (ji_const 0 (ji_istore 5 (K 2)))))
    (ji_const (-1) (ji_ireturn e)))))))))))
    (K 1)))))))
  | 1 => (ji_const (-1) (ji_ireturn e))
  | 2 => (ji_iload 5 (ji_aload 0 (ji_getfI 2 35 (ji_icmp_ge (ji_iload 4 (ji_ireturn e))
    (ji_iload 4 (ji_aload 0 (ji_iload 5 (ji_callV e MX2_endOf 2 2 (ji_iload 3 (ji_icmp_ne (ji_const 0 (K 3))
    (ji_const 1 (ji_goto (K 3)))))))))))))
  | 3 => (ji_iadd (ji_istore 4 (ji_iinc 5 1 (ji_goto (K 2)))))
  | _ => fun _ _ _ _ _ => False
def pX2_basin : Nat → Nat := fun k => match k with
  | 0 => 0
  | 1 => 12
  | 2 => 37
  | 3 => 63
  | _ => 0
theorem sX2_basin : jSound bX2_basin pX2_basin MX2_basin := by
  intro e p ev R s m args below meth c hX hr hn hlk K hK k
  match k with
  | 0 => exact (js_aload_n hX dX2_basin_0 rfl (js_iload_n hX dX2_basin_1 rfl (js_callV hX MX2_isSet (ci := 2) (n := 1) (RX2, TX2, 43) rfl rfl (lw_V q1870 q1872 qs129 q156 q1873) npX2_isSet dX2_basin_2 (js_if_eq hX (tgt := 12) dX2_basin_5 rfl (hK 1)
    (js_iload_n hX dX2_basin_8 rfl (js_if_ge hX (tgt := 14) dX2_basin_9 rfl (js_aload_n hX dX2_basin_14 rfl (js_iload_n hX dX2_basin_15 rfl (js_callV hX MX2_laySet (ci := 2) (n := 1) (RX2, TX2, 43) rfl rfl (lw_V q1877 q1879 qs130 q156 q1880) npX2_laySet dX2_basin_16 (js_aload_n hX dX2_basin_19 rfl (js_iload_n hX dX2_basin_20 rfl (js_callV hX MX2_calmOrder (ci := 2) (n := 1) (RX2, TX2, 43) rfl rfl (lw_V q1915 q1917 qs138 q156 q1918) npX2_calmOrder dX2_basin_21 (js_istore_n hX dX2_basin_24 rfl (by decide) (js_iload_n hX dX2_basin_25 rfl (js_if_ge hX (tgt := 31) dX2_basin_26 rfl (js_const hX (z := 0) (by unfold inI; omega) dX2_basin_31 (Or.inl ⟨0, rfl, rfl, rfl⟩) (js_istore hX dX2_basin_32 (by decide) (js_const hX (z := 0) (by unfold inI; omega) dX2_basin_34 (Or.inl ⟨0, rfl, rfl, rfl⟩) (js_istore hX dX2_basin_35 (by decide) (hK 2)))))
    (js_const hX (z := (-1)) (by unfold inI; omega) dX2_basin_29 (Or.inl ⟨(-1), rfl, rfl, rfl⟩) (js_ireturn hX hr hlk dX2_basin_30)))))))))))
    (hK 1)))))))
  | 1 => exact (js_const hX (z := (-1)) (by unfold inI; omega) dX2_basin_12 (Or.inl ⟨(-1), rfl, rfl, rfl⟩) (js_ireturn hX hr hlk dX2_basin_13))
  | 2 => exact (js_iload hX dX2_basin_37 (js_aload_n hX dX2_basin_39 rfl (js_getfI hX (ci := 2) (k := 35) (RX2, TX2, 43) rfl (by decide) rfl (Or.inl q1379) (fun _ h => h) dX2_basin_40 (js_icmp_ge hX (tgt := 72) dX2_basin_43 rfl (js_iload hX dX2_basin_72 (js_ireturn hX hr hlk dX2_basin_74))
    (js_iload hX dX2_basin_46 (js_aload_n hX dX2_basin_48 rfl (js_iload hX dX2_basin_49 (js_callV hX MX2_endOf (ci := 2) (n := 1) (RX2, TX2, 43) rfl rfl (lw_V q1923 q1925 qs139 q156 q1926) npX2_endOf dX2_basin_51 (js_iload_n hX dX2_basin_54 rfl (js_icmp_ne hX (tgt := 62) dX2_basin_55 rfl (js_const hX (z := 0) (by unfold inI; omega) dX2_basin_62 (Or.inl ⟨0, rfl, rfl, rfl⟩) (hK 3))
    (js_const hX (z := 1) (by unfold inI; omega) dX2_basin_58 (Or.inl ⟨1, rfl, rfl, rfl⟩) (js_goto hX (tgt := 63) dX2_basin_59 rfl (hK 3)))))))))))))
  | 3 => exact (js_iadd hX dX2_basin_63 (js_istore hX dX2_basin_64 (by decide) (js_iinc hX dX2_basin_66 (by decide) (js_goto hX (tgt := 37) dX2_basin_69 rfl (hK 2)))))
  | k + 4 => intro ls st h nc ns hf; exact hf.elim
def bX2_endOf : jjB := fun e K k => match k with
  | 0 => (ji_iload 1 (ji_istore 2 (ji_const 0 (ji_istore 3 (K 1)))))
  | 1 => (ji_iload 3 (ji_const 2 (ji_aload 0 (ji_getfI 2 35 (ji_imul (ji_icmp_gt (ji_const (-1) (ji_ireturn e))
    (ji_aload 0 (ji_getfR 2 32 (ji_iload 2 (ji_zald (ji_if_eq (ji_aload 0 (ji_getfR 2 31 (ji_const 2 (ji_iload 2 (ji_imul (ji_iload 3 (ji_const 2 (ji_irem (ji_iadd (ji_iald (ji_istore 2 (ji_iinc 3 1 (ji_goto (K 1))))))))))))))
    (ji_iload 2 (ji_ireturn e)))))))))))))
  | _ => fun _ _ _ _ _ => False
def pX2_endOf : Nat → Nat := fun k => match k with
  | 0 => 0
  | 1 => 4
  | _ => 0
theorem sX2_endOf : jSound bX2_endOf pX2_endOf MX2_endOf := by
  intro e p ev R s m args below meth c hX hr hn hlk K hK k
  match k with
  | 0 => exact (js_iload_n hX dX2_endOf_0 rfl (js_istore_n hX dX2_endOf_1 rfl (by decide) (js_const hX (z := 0) (by unfold inI; omega) dX2_endOf_2 (Or.inl ⟨0, rfl, rfl, rfl⟩) (js_istore_n hX dX2_endOf_3 rfl (by decide) (hK 1)))))
  | 1 => exact (js_iload_n hX dX2_endOf_4 rfl (js_const hX (z := 2) (by unfold inI; omega) dX2_endOf_5 (Or.inl ⟨2, rfl, rfl, rfl⟩) (js_aload_n hX dX2_endOf_6 rfl (js_getfI hX (ci := 2) (k := 35) (RX2, TX2, 43) rfl (by decide) rfl (Or.inl q1379) (fun _ h => h) dX2_endOf_7 (js_imul hX dX2_endOf_10 (js_icmp_gt hX (tgt := 44) dX2_endOf_11 rfl (js_const hX (z := (-1)) (by unfold inI; omega) dX2_endOf_44 (Or.inl ⟨(-1), rfl, rfl, rfl⟩) (js_ireturn hX hr hlk dX2_endOf_45))
    (js_aload_n hX dX2_endOf_14 rfl (js_getfR hX (ci := 2) (k := 32) (RX2, TX2, 43) rfl (by decide) rfl (Or.inl q1376) (fun _ h => h) dX2_endOf_15 (js_iload_n hX dX2_endOf_18 rfl (js_zald hX dX2_endOf_19 (js_if_eq hX (tgt := 25) dX2_endOf_20 rfl (js_aload_n hX dX2_endOf_25 rfl (js_getfR hX (ci := 2) (k := 31) (RX2, TX2, 43) rfl (by decide) rfl (Or.inl q1375) (fun _ h => h) dX2_endOf_26 (js_const hX (z := 2) (by unfold inI; omega) dX2_endOf_29 (Or.inl ⟨2, rfl, rfl, rfl⟩) (js_iload_n hX dX2_endOf_30 rfl (js_imul hX dX2_endOf_31 (js_iload_n hX dX2_endOf_32 rfl (js_const hX (z := 2) (by unfold inI; omega) dX2_endOf_33 (Or.inl ⟨2, rfl, rfl, rfl⟩) (js_irem hX dX2_endOf_34 (js_iadd hX dX2_endOf_35 (js_iald hX dX2_endOf_36 (js_istore_n hX dX2_endOf_37 rfl (by decide) (js_iinc hX dX2_endOf_38 (by decide) (js_goto hX (tgt := 4) dX2_endOf_41 rfl (hK 1))))))))))))))
    (js_iload_n hX dX2_endOf_23 rfl (js_ireturn hX hr hlk dX2_endOf_24)))))))))))))
  | k + 2 => intro ls st h nc ns hf; exact hf.elim
def bX2_never : jjB := fun e K k => match k with
  | 0 => (ji_aload 0 (ji_iload 1 (ji_callV e MX2_isSet 2 2 (ji_if_ne (ji_aload 0 (ji_iload 1 (ji_callV e MX2_laySet 2 2 (ji_const 0 (ji_istore 2 (ji_const 0 (ji_istore 3 (K 1))))))))
    (ji_const (-1) (ji_ireturn e))))))
  | 1 => (ji_iload 3 (ji_aload 0 (ji_getfI 2 35 (ji_icmp_ge (ji_iload 2 (ji_ireturn e))
    (ji_iload 2 (ji_aload 0 (ji_iload 3 (ji_callV e MX2_endOf 2 2 (ji_if_ge (ji_const 0 (K 2))
    (ji_const 1 (ji_goto (K 2))))))))))))
  | 2 => (ji_iadd (ji_istore 2 (ji_iinc 3 1 (ji_goto (K 1)))))
  | _ => fun _ _ _ _ _ => False
def pX2_never : Nat → Nat := fun k => match k with
  | 0 => 0
  | 1 => 19
  | 2 => 41
  | _ => 0
theorem sX2_never : jSound bX2_never pX2_never MX2_never := by
  intro e p ev R s m args below meth c hX hr hn hlk K hK k
  match k with
  | 0 => exact (js_aload_n hX dX2_never_0 rfl (js_iload_n hX dX2_never_1 rfl (js_callV hX MX2_isSet (ci := 2) (n := 1) (RX2, TX2, 43) rfl rfl (lw_V q1870 q1872 qs129 q156 q1873) npX2_isSet dX2_never_2 (js_if_ne hX (tgt := 10) dX2_never_5 rfl (js_aload_n hX dX2_never_10 rfl (js_iload_n hX dX2_never_11 rfl (js_callV hX MX2_laySet (ci := 2) (n := 1) (RX2, TX2, 43) rfl rfl (lw_V q1877 q1879 qs130 q156 q1880) npX2_laySet dX2_never_12 (js_const hX (z := 0) (by unfold inI; omega) dX2_never_15 (Or.inl ⟨0, rfl, rfl, rfl⟩) (js_istore_n hX dX2_never_16 rfl (by decide) (js_const hX (z := 0) (by unfold inI; omega) dX2_never_17 (Or.inl ⟨0, rfl, rfl, rfl⟩) (js_istore_n hX dX2_never_18 rfl (by decide) (hK 1))))))))
    (js_const hX (z := (-1)) (by unfold inI; omega) dX2_never_8 (Or.inl ⟨(-1), rfl, rfl, rfl⟩) (js_ireturn hX hr hlk dX2_never_9))))))
  | 1 => exact (js_iload_n hX dX2_never_19 rfl (js_aload_n hX dX2_never_20 rfl (js_getfI hX (ci := 2) (k := 35) (RX2, TX2, 43) rfl (by decide) rfl (Or.inl q1379) (fun _ h => h) dX2_never_21 (js_icmp_ge hX (tgt := 49) dX2_never_24 rfl (js_iload_n hX dX2_never_49 rfl (js_ireturn hX hr hlk dX2_never_50))
    (js_iload_n hX dX2_never_27 rfl (js_aload_n hX dX2_never_28 rfl (js_iload_n hX dX2_never_29 rfl (js_callV hX MX2_endOf (ci := 2) (n := 1) (RX2, TX2, 43) rfl rfl (lw_V q1923 q1925 qs139 q156 q1926) npX2_endOf dX2_never_30 (js_if_ge hX (tgt := 40) dX2_never_33 rfl (js_const hX (z := 0) (by unfold inI; omega) dX2_never_40 (Or.inl ⟨0, rfl, rfl, rfl⟩) (hK 2))
    (js_const hX (z := 1) (by unfold inI; omega) dX2_never_36 (Or.inl ⟨1, rfl, rfl, rfl⟩) (js_goto hX (tgt := 41) dX2_never_37 rfl (hK 2))))))))))))
  | 2 => exact (js_iadd hX dX2_never_41 (js_istore_n hX dX2_never_42 rfl (by decide) (js_iinc hX dX2_never_43 (by decide) (js_goto hX (tgt := 19) dX2_never_46 rfl (hK 1)))))
  | k + 3 => intro ls st h nc ns hf; exact hf.elim
def bX2_trouble : jjB := fun e K k => match k with
  | 0 => (ji_aload 0 (ji_callV e MX2_findChanges 2 1 (ji_const 2 (ji_istore 1 (K 1)))))
  | 1 => (ji_iload 1 (ji_const 5 (ji_icmp_gt (ji_const (-1) (ji_ireturn e))
    (ji_const 0 (ji_istore 2 (K 2))))))
  | 2 => (ji_iload 2 (ji_const 1 (ji_aload 0 (ji_getfR 2 0 (ji_const 0 (ji_iald (ji_ishl (ji_icmp_ge (ji_iinc 1 1 (ji_goto (K 1)))
    (ji_iload 2 (ji_callS e MX2_bits 1 (ji_iload 1 (ji_icmp_eq (ji_aload 0 (ji_iload 2 (ji_callV e MX2_layElements 2 2 (ji_aload 0 (ji_callV e MX2_hasNever 2 1 (ji_if_eq (K 3)
    (ji_iload 2 (ji_ireturn e))))))))
    (ji_goto (K 3))))))))))))))
  | 3 => (ji_iinc 2 1 (ji_goto (K 2)))
  | _ => fun _ _ _ _ _ => False
def pX2_trouble : Nat → Nat := fun k => match k with
  | 0 => 0
  | 1 => 6
  | 2 => 13
  | 3 => 50
  | _ => 0
theorem sX2_trouble : jSound bX2_trouble pX2_trouble MX2_trouble := by
  intro e p ev R s m args below meth c hX hr hn hlk K hK k
  match k with
  | 0 => exact (js_aload_n hX dX2_trouble_0 rfl (js_callV hX MX2_findChanges (ci := 2) (n := 0) (RX2, TX2, 43) rfl rfl (lw_V q1837 q1839 qs123 q156 q1840) npX2_findChanges dX2_trouble_1 (js_const hX (z := 2) (by unfold inI; omega) dX2_trouble_4 (Or.inl ⟨2, rfl, rfl, rfl⟩) (js_istore_n hX dX2_trouble_5 rfl (by decide) (hK 1)))))
  | 1 => exact (js_iload_n hX dX2_trouble_6 rfl (js_const hX (z := 5) (by unfold inI; omega) dX2_trouble_7 (Or.inl ⟨5, rfl, rfl, rfl⟩) (js_icmp_gt hX (tgt := 62) dX2_trouble_8 rfl (js_const hX (z := (-1)) (by unfold inI; omega) dX2_trouble_62 (Or.inl ⟨(-1), rfl, rfl, rfl⟩) (js_ireturn hX hr hlk dX2_trouble_63))
    (js_const hX (z := 0) (by unfold inI; omega) dX2_trouble_11 (Or.inl ⟨0, rfl, rfl, rfl⟩) (js_istore_n hX dX2_trouble_12 rfl (by decide) (hK 2))))))
  | 2 => exact (js_iload_n hX dX2_trouble_13 rfl (js_const hX (z := 1) (by unfold inI; omega) dX2_trouble_14 (Or.inl ⟨1, rfl, rfl, rfl⟩) (js_aload_n hX dX2_trouble_15 rfl (js_getfR hX (ci := 2) (k := 0) (RX2, TX2, 43) rfl (by decide) rfl (Or.inl q1346) (fun _ h => h) dX2_trouble_16 (js_const hX (z := 0) (by unfold inI; omega) dX2_trouble_19 (Or.inl ⟨0, rfl, rfl, rfl⟩) (js_iald hX dX2_trouble_20 (js_ishl hX dX2_trouble_21 (js_icmp_ge hX (tgt := 56) dX2_trouble_22 rfl (js_iinc hX dX2_trouble_56 (by decide) (js_goto hX (tgt := 6) dX2_trouble_59 rfl (hK 1)))
    (js_iload_n hX dX2_trouble_25 rfl (js_callS hX MX2_bits (n := 1) (lw_S q1874 q1875 q156 q1876) npX2_bits dX2_trouble_26 (js_iload_n hX dX2_trouble_29 rfl (js_icmp_eq hX (tgt := 36) dX2_trouble_30 rfl (js_aload_n hX dX2_trouble_36 rfl (js_iload_n hX dX2_trouble_37 rfl (js_callV hX MX2_layElements (ci := 2) (n := 1) (RX2, TX2, 43) rfl rfl (lw_V q1881 q1883 qs131 q156 q1884) npX2_layElements dX2_trouble_38 (js_aload_n hX dX2_trouble_41 rfl (js_callV hX MX2_hasNever (ci := 2) (n := 0) (RX2, TX2, 43) rfl rfl (lw_V q1935 q1937 qs140 q156 q1938) npX2_hasNever dX2_trouble_42 (js_if_eq hX (tgt := 50) dX2_trouble_45 rfl (hK 3)
    (js_iload_n hX dX2_trouble_48 rfl (js_ireturn hX hr hlk dX2_trouble_49))))))))
    (js_goto hX (tgt := 50) dX2_trouble_33 rfl (hK 3))))))))))))))
  | 3 => exact (js_iinc hX dX2_trouble_50 (by decide) (js_goto hX (tgt := 13) dX2_trouble_53 rfl (hK 2)))
  | k + 4 => intro ls st h nc ns hf; exact hf.elim
def bX2_hasNever : jjB := fun e K k => match k with
  | 0 => (ji_const 0 (ji_istore 1 (K 1)))
  | 1 => (ji_iload 1 (ji_aload 0 (ji_getfI 2 35 (ji_icmp_ge (ji_const 0 (ji_zreturn e))
    (ji_aload 0 (ji_iload 1 (ji_callV e MX2_endOf 2 2 (ji_if_ge (ji_iinc 1 1 (ji_goto (K 1)))
    (ji_const 1 (ji_zreturn e))))))))))
  | _ => fun _ _ _ _ _ => False
def pX2_hasNever : Nat → Nat := fun k => match k with
  | 0 => 0
  | 1 => 2
  | _ => 0
theorem sX2_hasNever : jSound bX2_hasNever pX2_hasNever MX2_hasNever := by
  intro e p ev R s m args below meth c hX hr hn hlk K hK k
  match k with
  | 0 => exact (js_const hX (z := 0) (by unfold inI; omega) dX2_hasNever_0 (Or.inl ⟨0, rfl, rfl, rfl⟩) (js_istore_n hX dX2_hasNever_1 rfl (by decide) (hK 1)))
  | 1 => exact (js_iload_n hX dX2_hasNever_2 rfl (js_aload_n hX dX2_hasNever_3 rfl (js_getfI hX (ci := 2) (k := 35) (RX2, TX2, 43) rfl (by decide) rfl (Or.inl q1379) (fun _ h => h) dX2_hasNever_4 (js_icmp_ge hX (tgt := 26) dX2_hasNever_7 rfl (js_const hX (z := 0) (by unfold inI; omega) dX2_hasNever_26 (Or.inl ⟨0, rfl, rfl, rfl⟩) (js_zreturn hX hr hlk dX2_hasNever_27))
    (js_aload_n hX dX2_hasNever_10 rfl (js_iload_n hX dX2_hasNever_11 rfl (js_callV hX MX2_endOf (ci := 2) (n := 1) (RX2, TX2, 43) rfl rfl (lw_V q1923 q1925 qs139 q156 q1926) npX2_endOf dX2_hasNever_12 (js_if_ge hX (tgt := 20) dX2_hasNever_15 rfl (js_iinc hX dX2_hasNever_20 (by decide) (js_goto hX (tgt := 2) dX2_hasNever_23 rfl (hK 1)))
    (js_const hX (z := 1) (by unfold inI; omega) dX2_hasNever_18 (Or.inl ⟨1, rfl, rfl, rfl⟩) (js_zreturn hX hr hlk dX2_hasNever_19))))))))))
  | k + 2 => intro ls st h nc ns hf; exact hf.elim
def bX2_rank : jjB := fun e K k => match k with
  | 0 => (ji_aload 0 (ji_iload 1 (ji_callV e MX2_isSet 2 2 (ji_if_eq (K 1)
    (ji_iload 2 (ji_const 0 (ji_iload 1 (ji_callS e MX2_bits 1 (ji_const 1 (ji_isub (ji_callS e MX2_isIn 3 (ji_if_ne (ji_aload 0 (ji_iload 1 (ji_callV e MX2_laySet 2 2 (ji_const 0 (ji_istore 3 (K 2))))))
    (K 1)))))))))))))
  | 1 => (ji_const (-1) (ji_ireturn e))
  | 2 => (ji_iload 3 (ji_aload 0 (ji_getfI 2 35 (ji_icmp_ge (ji_const (-1) (ji_ireturn e))
    (ji_aload 0 (ji_iload 3 (ji_callV e MX2_isRank 2 2 (ji_if_eq (ji_iinc 3 1 (ji_goto (K 2)))
    (ji_aload 0 (ji_getfR 2 33 (ji_aload 0 (ji_getfR 2 30 (ji_const 6 (ji_iload 3 (ji_imul (ji_iload 2 (ji_iadd (ji_iald (ji_iald (ji_ireturn e))))))))))))))))))))
  | _ => fun _ _ _ _ _ => False
def pX2_rank : Nat → Nat := fun k => match k with
  | 0 => 0
  | 1 => 22
  | 2 => 31
  | _ => 0
theorem sX2_rank : jSound bX2_rank pX2_rank MX2_rank := by
  intro e p ev R s m args below meth c hX hr hn hlk K hK k
  match k with
  | 0 => exact (js_aload_n hX dX2_rank_0 rfl (js_iload_n hX dX2_rank_1 rfl (js_callV hX MX2_isSet (ci := 2) (n := 1) (RX2, TX2, 43) rfl rfl (lw_V q1870 q1872 qs129 q156 q1873) npX2_isSet dX2_rank_2 (js_if_eq hX (tgt := 22) dX2_rank_5 rfl (hK 1)
    (js_iload_n hX dX2_rank_8 rfl (js_const hX (z := 0) (by unfold inI; omega) dX2_rank_9 (Or.inl ⟨0, rfl, rfl, rfl⟩) (js_iload_n hX dX2_rank_10 rfl (js_callS hX MX2_bits (n := 1) (lw_S q1874 q1875 q156 q1876) npX2_bits dX2_rank_11 (js_const hX (z := 1) (by unfold inI; omega) dX2_rank_14 (Or.inl ⟨1, rfl, rfl, rfl⟩) (js_isub hX dX2_rank_15 (js_callS hX MX2_isIn (n := 3) (lw_S q1479 q1480 q156 q1481) npX2_isIn dX2_rank_16 (js_if_ne hX (tgt := 24) dX2_rank_19 rfl (js_aload_n hX dX2_rank_24 rfl (js_iload_n hX dX2_rank_25 rfl (js_callV hX MX2_laySet (ci := 2) (n := 1) (RX2, TX2, 43) rfl rfl (lw_V q1877 q1879 qs130 q156 q1880) npX2_laySet dX2_rank_26 (js_const hX (z := 0) (by unfold inI; omega) dX2_rank_29 (Or.inl ⟨0, rfl, rfl, rfl⟩) (js_istore_n hX dX2_rank_30 rfl (by decide) (hK 2))))))
    (hK 1)))))))))))))
  | 1 => exact (js_const hX (z := (-1)) (by unfold inI; omega) dX2_rank_22 (Or.inl ⟨(-1), rfl, rfl, rfl⟩) (js_ireturn hX hr hlk dX2_rank_23))
  | 2 => exact (js_iload_n hX dX2_rank_31 rfl (js_aload_n hX dX2_rank_32 rfl (js_getfI hX (ci := 2) (k := 35) (RX2, TX2, 43) rfl (by decide) rfl (Or.inl q1379) (fun _ h => h) dX2_rank_33 (js_icmp_ge hX (tgt := 70) dX2_rank_36 rfl (js_const hX (z := (-1)) (by unfold inI; omega) dX2_rank_70 (Or.inl ⟨(-1), rfl, rfl, rfl⟩) (js_ireturn hX hr hlk dX2_rank_71))
    (js_aload_n hX dX2_rank_39 rfl (js_iload_n hX dX2_rank_40 rfl (js_callV hX MX2_isRank (ci := 2) (n := 1) (RX2, TX2, 43) rfl rfl (lw_V q1943 q1945 qs141 q156 q1946) npX2_isRank dX2_rank_41 (js_if_eq hX (tgt := 64) dX2_rank_44 rfl (js_iinc hX dX2_rank_64 (by decide) (js_goto hX (tgt := 31) dX2_rank_67 rfl (hK 2)))
    (js_aload_n hX dX2_rank_47 rfl (js_getfR hX (ci := 2) (k := 33) (RX2, TX2, 43) rfl (by decide) rfl (Or.inl q1377) (fun _ h => h) dX2_rank_48 (js_aload_n hX dX2_rank_51 rfl (js_getfR hX (ci := 2) (k := 30) (RX2, TX2, 43) rfl (by decide) rfl (Or.inl q1374) (fun _ h => h) dX2_rank_52 (js_const hX (z := 6) (by unfold inI; omega) dX2_rank_55 (Or.inr (Or.inl ⟨6, rfl, rfl, rfl⟩)) (js_iload_n hX dX2_rank_57 rfl (js_imul hX dX2_rank_58 (js_iload_n hX dX2_rank_59 rfl (js_iadd hX dX2_rank_60 (js_iald hX dX2_rank_61 (js_iald hX dX2_rank_62 (js_ireturn hX hr hlk dX2_rank_63))))))))))))))))))))
  | k + 3 => intro ls st h nc ns hf; exact hf.elim
def bX2_isRank : jjB := fun e K k => match k with
  | 0 => (ji_const 0 (ji_istore 2 (K 1)))
  | 1 => (ji_iload 2 (ji_aload 0 (ji_getfI 2 34 (ji_icmp_ge (ji_const 1 (ji_zreturn e))
    (ji_iload 2 (ji_const 1 (ji_iadd (ji_istore 3 (K 2)))))))))
  | 2 => (ji_iload 3 (ji_aload 0 (ji_getfI 2 34 (ji_icmp_ge (ji_iinc 2 1 (ji_goto (K 1)))
    (ji_aload 0 (ji_getfR 2 33 (ji_aload 0 (ji_getfR 2 30 (ji_const 6 (ji_iload 1 (ji_imul (ji_iload 2 (ji_iadd (ji_iald (ji_iald (ji_istore 4 (ji_aload 0 (ji_getfR 2 33 (ji_aload 0 (ji_getfR 2 30 (ji_const 6 (ji_iload 1 (ji_imul (ji_iload 3 (ji_iadd (ji_iald (ji_iald (ji_istore 5 (ji_aload 0 (ji_getfR 2 26 (ji_const 10 (ji_iload 4 (ji_imul (ji_iload 5 (ji_iadd (ji_zald (ji_if_ne (K 3)
    (ji_aload 0 (ji_getfR 2 26 (ji_const 10 (ji_iload 5 (ji_imul (ji_iload 4 (ji_iadd (ji_zald (ji_if_ne (ji_iinc 3 1 (ji_goto (K 2)))
    (K 3)))))))))))))))))))))))))))))))))))))))))))))))
  | 3 => (ji_const 0 (ji_zreturn e))
  | _ => fun _ _ _ _ _ => False
def pX2_isRank : Nat → Nat := fun k => match k with
  | 0 => 0
  | 1 => 2
  | 2 => 14
  | 3 => 90
  | _ => 0
theorem sX2_isRank : jSound bX2_isRank pX2_isRank MX2_isRank := by
  intro e p ev R s m args below meth c hX hr hn hlk K hK k
  match k with
  | 0 => exact (js_const hX (z := 0) (by unfold inI; omega) dX2_isRank_0 (Or.inl ⟨0, rfl, rfl, rfl⟩) (js_istore_n hX dX2_isRank_1 rfl (by decide) (hK 1)))
  | 1 => exact (js_iload_n hX dX2_isRank_2 rfl (js_aload_n hX dX2_isRank_3 rfl (js_getfI hX (ci := 2) (k := 34) (RX2, TX2, 43) rfl (by decide) rfl (Or.inl q1378) (fun _ h => h) dX2_isRank_4 (js_icmp_ge hX (tgt := 104) dX2_isRank_7 rfl (js_const hX (z := 1) (by unfold inI; omega) dX2_isRank_104 (Or.inl ⟨1, rfl, rfl, rfl⟩) (js_zreturn hX hr hlk dX2_isRank_105))
    (js_iload_n hX dX2_isRank_10 rfl (js_const hX (z := 1) (by unfold inI; omega) dX2_isRank_11 (Or.inl ⟨1, rfl, rfl, rfl⟩) (js_iadd hX dX2_isRank_12 (js_istore_n hX dX2_isRank_13 rfl (by decide) (hK 2)))))))))
  | 2 => exact (js_iload_n hX dX2_isRank_14 rfl (js_aload_n hX dX2_isRank_15 rfl (js_getfI hX (ci := 2) (k := 34) (RX2, TX2, 43) rfl (by decide) rfl (Or.inl q1378) (fun _ h => h) dX2_isRank_16 (js_icmp_ge hX (tgt := 98) dX2_isRank_19 rfl (js_iinc hX dX2_isRank_98 (by decide) (js_goto hX (tgt := 2) dX2_isRank_101 rfl (hK 1)))
    (js_aload_n hX dX2_isRank_22 rfl (js_getfR hX (ci := 2) (k := 33) (RX2, TX2, 43) rfl (by decide) rfl (Or.inl q1377) (fun _ h => h) dX2_isRank_23 (js_aload_n hX dX2_isRank_26 rfl (js_getfR hX (ci := 2) (k := 30) (RX2, TX2, 43) rfl (by decide) rfl (Or.inl q1374) (fun _ h => h) dX2_isRank_27 (js_const hX (z := 6) (by unfold inI; omega) dX2_isRank_30 (Or.inr (Or.inl ⟨6, rfl, rfl, rfl⟩)) (js_iload_n hX dX2_isRank_32 rfl (js_imul hX dX2_isRank_33 (js_iload_n hX dX2_isRank_34 rfl (js_iadd hX dX2_isRank_35 (js_iald hX dX2_isRank_36 (js_iald hX dX2_isRank_37 (js_istore hX dX2_isRank_38 (by decide) (js_aload_n hX dX2_isRank_40 rfl (js_getfR hX (ci := 2) (k := 33) (RX2, TX2, 43) rfl (by decide) rfl (Or.inl q1377) (fun _ h => h) dX2_isRank_41 (js_aload_n hX dX2_isRank_44 rfl (js_getfR hX (ci := 2) (k := 30) (RX2, TX2, 43) rfl (by decide) rfl (Or.inl q1374) (fun _ h => h) dX2_isRank_45 (js_const hX (z := 6) (by unfold inI; omega) dX2_isRank_48 (Or.inr (Or.inl ⟨6, rfl, rfl, rfl⟩)) (js_iload_n hX dX2_isRank_50 rfl (js_imul hX dX2_isRank_51 (js_iload_n hX dX2_isRank_52 rfl (js_iadd hX dX2_isRank_53 (js_iald hX dX2_isRank_54 (js_iald hX dX2_isRank_55 (js_istore hX dX2_isRank_56 (by decide) (js_aload_n hX dX2_isRank_58 rfl (js_getfR hX (ci := 2) (k := 26) (RX2, TX2, 43) rfl (by decide) rfl (Or.inl q1370) (fun _ h => h) dX2_isRank_59 (js_const hX (z := 10) (by unfold inI; omega) dX2_isRank_62 (Or.inr (Or.inl ⟨10, rfl, rfl, rfl⟩)) (js_iload hX dX2_isRank_64 (js_imul hX dX2_isRank_66 (js_iload hX dX2_isRank_67 (js_iadd hX dX2_isRank_69 (js_zald hX dX2_isRank_70 (js_if_ne hX (tgt := 90) dX2_isRank_71 rfl (hK 3)
    (js_aload_n hX dX2_isRank_74 rfl (js_getfR hX (ci := 2) (k := 26) (RX2, TX2, 43) rfl (by decide) rfl (Or.inl q1370) (fun _ h => h) dX2_isRank_75 (js_const hX (z := 10) (by unfold inI; omega) dX2_isRank_78 (Or.inr (Or.inl ⟨10, rfl, rfl, rfl⟩)) (js_iload hX dX2_isRank_80 (js_imul hX dX2_isRank_82 (js_iload hX dX2_isRank_83 (js_iadd hX dX2_isRank_85 (js_zald hX dX2_isRank_86 (js_if_ne hX (tgt := 92) dX2_isRank_87 rfl (js_iinc hX dX2_isRank_92 (by decide) (js_goto hX (tgt := 14) dX2_isRank_95 rfl (hK 2)))
    (hK 3)))))))))))))))))))))))))))))))))))))))))))))))
  | 3 => exact (js_const hX (z := 0) (by unfold inI; omega) dX2_isRank_90 (Or.inl ⟨0, rfl, rfl, rfl⟩) (js_zreturn hX hr hlk dX2_isRank_91))
  | k + 4 => intro ls st h nc ns hf; exact hf.elim
