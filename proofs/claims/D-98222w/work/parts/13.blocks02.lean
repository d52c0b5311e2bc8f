/-! blocks of the methods and their soundness -/
set_option maxRecDepth 100000
def bX0_night : jjB := fun e K k => match k with
  | 0 => (ji_iload 1 (ji_const 1 (ji_const 99 (ji_callS e MX0_in 3 (ji_if_eq (K 1)
    (ji_aload 0 (ji_getfR 0 0 (ji_getfR 1 2 (ji_const 44 (ji_iald (ji_iload 1 (ji_iadd (ji_const 9999 (ji_icmp_le (ji_aload 0 (ji_callV e MX0_laysChange 0 1 (ji_const 0 (ji_istore 2 (ji_const 0 (ji_istore 3 (K 2)))))))
    (K 1)))))))))))))))
  | 1 => (ji_const (-1) (ji_ireturn e))
  | 2 => (ji_iload 3 (ji_iload 1 (ji_icmp_ge (ji_iload 2 (ji_ireturn e))
    (ji_aload 0 (ji_getfR 0 0 (ji_callV e MX1_keeps 1 1 (ji_iload 2 (ji_aload 0 (ji_callV e MX0_nightComes 0 1 (ji_iadd (ji_istore 2 (ji_iinc 3 1 (ji_goto (K 2))))))))))))))
  | _ => fun _ _ _ _ _ => False
def pX0_night : Nat → Nat := fun k => match k with
  | 0 => 0
  | 1 => 28
  | 2 => 38
  | _ => 0
theorem sX0_night : jSound bX0_night pX0_night MX0_night := by
  intro e p ev R s m args below meth c hX hr hn hlk K hK k
  match k with
  | 0 => exact (js_iload_n hX dX0_night_0 rfl (js_const hX (z := 1) (by unfold inI; omega) dX0_night_1 (Or.inl ⟨1, rfl, rfl, rfl⟩) (js_const hX (z := 99) (by unfold inI; omega) dX0_night_2 (Or.inr (Or.inl ⟨99, rfl, rfl, rfl⟩)) (js_callS hX MX0_in (n := 3) (lw_S q325 q326 q152 q327) npX0_in dX0_night_4 (js_if_eq hX (tgt := 28) dX0_night_7 rfl (hK 1)
    (js_aload_n hX dX0_night_10 rfl (js_getfR hX (ci := 0) (k := 0) (RX0, TX0, 20) rfl (by decide) rfl (Or.inl q255) (fun _ h => h) dX0_night_11 (js_getfR hX (ci := 1) (k := 2) (RX1, TX1, 7) rfl (by decide) rfl (Or.inr ⟨_, q216⟩) (fun _ h => h) dX0_night_14 (js_const hX (z := 44) (by unfold inI; omega) dX0_night_17 (Or.inr (Or.inl ⟨44, rfl, rfl, rfl⟩)) (js_iald hX dX0_night_19 (js_iload_n hX dX0_night_20 rfl (js_iadd hX dX0_night_21 (js_const hX (z := 9999) (by unfold inI; omega) dX0_night_22 (Or.inr (Or.inr (Or.inl ⟨9999, rfl, rfl, rfl⟩))) (js_icmp_le hX (tgt := 30) dX0_night_25 rfl (js_aload_n hX dX0_night_30 rfl (js_callV hX MX0_laysChange (ci := 0) (n := 0) (RX0, TX0, 20) rfl rfl (lw_V q1006 q1008 qs30 q152 q1009) npX0_laysChange dX0_night_31 (js_const hX (z := 0) (by unfold inI; omega) dX0_night_34 (Or.inl ⟨0, rfl, rfl, rfl⟩) (js_istore_n hX dX0_night_35 rfl (by decide) (js_const hX (z := 0) (by unfold inI; omega) dX0_night_36 (Or.inl ⟨0, rfl, rfl, rfl⟩) (js_istore_n hX dX0_night_37 rfl (by decide) (hK 2)))))))
    (hK 1)))))))))))))))
  | 1 => exact (js_const hX (z := (-1)) (by unfold inI; omega) dX0_night_28 (Or.inl ⟨(-1), rfl, rfl, rfl⟩) (js_ireturn hX hr hlk dX0_night_29))
  | 2 => exact (js_iload_n hX dX0_night_38 rfl (js_iload_n hX dX0_night_39 rfl (js_icmp_ge hX (tgt := 63) dX0_night_40 rfl (js_iload_n hX dX0_night_63 rfl (js_ireturn hX hr hlk dX0_night_64))
    (js_aload_n hX dX0_night_43 rfl (js_getfR hX (ci := 0) (k := 0) (RX0, TX0, 20) rfl (by decide) rfl (Or.inl q255) (fun _ h => h) dX0_night_44 (js_callV hX MX1_keeps (ci := 1) (n := 0) (RX1, TX1, 7) rfl rfl (lw_V q1010 q1011 q1012 q153 q1013) npX1_keeps dX0_night_47 (js_iload_n hX dX0_night_50 rfl (js_aload_n hX dX0_night_51 rfl (js_callV hX MX0_nightComes (ci := 0) (n := 0) (RX0, TX0, 20) rfl rfl (lw_V q1014 q1016 qs31 q152 q1017) npX0_nightComes dX0_night_52 (js_iadd hX dX0_night_55 (js_istore_n hX dX0_night_56 rfl (by decide) (js_iinc hX dX0_night_57 (by decide) (js_goto hX (tgt := 38) dX0_night_60 rfl (hK 2))))))))))))))
  | k + 3 => intro ls st h nc ns hf; exact hf.elim
def bX0_laysChange : jjB := fun e K k => match k with
  | 0 => (ji_aload 0 (ji_callV e MX0_rules 0 1 (ji_getfI 4 3 (ji_if_le (ji_aload 0 (ji_getfR 0 0 (ji_getfR 1 0 (ji_const 1 (ji_iald (K 1))))))
    (ji_aload 0 (ji_callV e MX0_rules 0 1 (ji_getfI 4 3 (ji_goto (K 1)))))))))
  | 1 => (ji_istore 1 (ji_const 0 (ji_istore 2 (K 2))))
  | 2 => (ji_iload 2 (ji_aload 0 (ji_getfR 0 0 (ji_getfR 1 0 (ji_const 0 (ji_iald (ji_icmp_ge (ji_return e)
    (ji_aload 0 (ji_getfR 0 7 (ji_iload 2 (ji_const 0 (ji_iast (ji_const 0 (ji_istore 3 (K 3)))))))))))))))
  | 3 => (ji_iload 3 (ji_aload 0 (ji_getfR 0 0 (ji_getfR 1 0 (ji_const 0 (ji_iald (ji_icmp_ge (ji_iinc 2 1 (ji_goto (K 2)))
    (ji_iload 2 (ji_iload 3 (ji_icmp_ne (ji_aload 0 (ji_iload 2 (ji_iload 3 (ji_const 1 (ji_callV e MX0_pushesNow 0 4 (ji_if_eq (ji_const 0 (K 4))
    (ji_const 1 (ji_goto (K 4)))))))))
    (ji_goto (K 7))))))))))))
  | 4 => (ji_aload 0 (ji_iload 3 (ji_iload 2 (ji_const 0 (ji_callV e MX0_pushesNow 0 4 (ji_if_eq (ji_const 0 (K 5))
    (ji_const 1 (ji_goto (K 5)))))))))
  | 5 => (ji_iadd (ji_istore 4 (ji_aload 0 (ji_getfR 0 7 (ji_iload 2 (ji_dup2 (ji_iald (ji_iload 4 (ji_iload 1 (ji_icmp_lt (ji_const 0 (K 6))
    (ji_const 1 (ji_iload 3 (ji_ishl (ji_goto (K 6)))))))))))))))
  | 6 => (ji_ior (ji_iast (K 7)))
  | 7 => (ji_iinc 3 1 (ji_goto (K 3)))
  | _ => fun _ _ _ _ _ => False
def pX0_laysChange : Nat → Nat := fun k => match k with
  | 0 => 0
  | 1 => 29
  | 2 => 32
  | 3 => 54
  | 4 => 90
  | 5 => 105
  | 6 => 128
  | 7 => 130
  | _ => 0
theorem sX0_laysChange : jSound bX0_laysChange pX0_laysChange MX0_laysChange := by
  intro e p ev R s m args below meth c hX hr hn hlk K hK k
  match k with
  | 0 => exact (js_aload_n hX dX0_laysChange_0 rfl (js_callV hX MX0_rules (ci := 0) (n := 0) (RX0, TX0, 20) rfl rfl (lw_V q344 q346 qs2 q152 q347) npX0_rules dX0_laysChange_1 (js_getfI hX (ci := 4) (k := 3) (RX4, TX4, 6) rfl (by decide) rfl (Or.inr ⟨_, q525⟩) (fun _ h => h) dX0_laysChange_4 (js_if_le hX (tgt := 20) dX0_laysChange_7 rfl (js_aload_n hX dX0_laysChange_20 rfl (js_getfR hX (ci := 0) (k := 0) (RX0, TX0, 20) rfl (by decide) rfl (Or.inl q255) (fun _ h => h) dX0_laysChange_21 (js_getfR hX (ci := 1) (k := 0) (RX1, TX1, 7) rfl (by decide) rfl (Or.inr ⟨_, q212⟩) (fun _ h => h) dX0_laysChange_24 (js_const hX (z := 1) (by unfold inI; omega) dX0_laysChange_27 (Or.inl ⟨1, rfl, rfl, rfl⟩) (js_iald hX dX0_laysChange_28 (hK 1))))))
    (js_aload_n hX dX0_laysChange_10 rfl (js_callV hX MX0_rules (ci := 0) (n := 0) (RX0, TX0, 20) rfl rfl (lw_V q344 q346 qs2 q152 q347) npX0_rules dX0_laysChange_11 (js_getfI hX (ci := 4) (k := 3) (RX4, TX4, 6) rfl (by decide) rfl (Or.inr ⟨_, q525⟩) (fun _ h => h) dX0_laysChange_14 (js_goto hX (tgt := 29) dX0_laysChange_17 rfl (hK 1)))))))))
  | 1 => exact (js_istore_n hX dX0_laysChange_29 rfl (by decide) (js_const hX (z := 0) (by unfold inI; omega) dX0_laysChange_30 (Or.inl ⟨0, rfl, rfl, rfl⟩) (js_istore_n hX dX0_laysChange_31 rfl (by decide) (hK 2))))
  | 2 => exact (js_iload_n hX dX0_laysChange_32 rfl (js_aload_n hX dX0_laysChange_33 rfl (js_getfR hX (ci := 0) (k := 0) (RX0, TX0, 20) rfl (by decide) rfl (Or.inl q255) (fun _ h => h) dX0_laysChange_34 (js_getfR hX (ci := 1) (k := 0) (RX1, TX1, 7) rfl (by decide) rfl (Or.inr ⟨_, q212⟩) (fun _ h => h) dX0_laysChange_37 (js_const hX (z := 0) (by unfold inI; omega) dX0_laysChange_40 (Or.inl ⟨0, rfl, rfl, rfl⟩) (js_iald hX dX0_laysChange_41 (js_icmp_ge hX (tgt := 142) dX0_laysChange_42 rfl (js_return hX hr hlk dX0_laysChange_142)
    (js_aload_n hX dX0_laysChange_45 rfl (js_getfR hX (ci := 0) (k := 7) (RX0, TX0, 20) rfl (by decide) rfl (Or.inl q262) (fun _ h => h) dX0_laysChange_46 (js_iload_n hX dX0_laysChange_49 rfl (js_const hX (z := 0) (by unfold inI; omega) dX0_laysChange_50 (Or.inl ⟨0, rfl, rfl, rfl⟩) (js_iast hX dX0_laysChange_51 (js_const hX (z := 0) (by unfold inI; omega) dX0_laysChange_52 (Or.inl ⟨0, rfl, rfl, rfl⟩) (js_istore_n hX dX0_laysChange_53 rfl (by decide) (hK 3)))))))))))))))
  | 3 => exact (js_iload_n hX dX0_laysChange_54 rfl (js_aload_n hX dX0_laysChange_55 rfl (js_getfR hX (ci := 0) (k := 0) (RX0, TX0, 20) rfl (by decide) rfl (Or.inl q255) (fun _ h => h) dX0_laysChange_56 (js_getfR hX (ci := 1) (k := 0) (RX1, TX1, 7) rfl (by decide) rfl (Or.inr ⟨_, q212⟩) (fun _ h => h) dX0_laysChange_59 (js_const hX (z := 0) (by unfold inI; omega) dX0_laysChange_62 (Or.inl ⟨0, rfl, rfl, rfl⟩) (js_iald hX dX0_laysChange_63 (js_icmp_ge hX (tgt := 136) dX0_laysChange_64 rfl (js_iinc hX dX0_laysChange_136 (by decide) (js_goto hX (tgt := 32) dX0_laysChange_139 rfl (hK 2)))
    (js_iload_n hX dX0_laysChange_67 rfl (js_iload_n hX dX0_laysChange_68 rfl (js_icmp_ne hX (tgt := 75) dX0_laysChange_69 rfl (js_aload_n hX dX0_laysChange_75 rfl (js_iload_n hX dX0_laysChange_76 rfl (js_iload_n hX dX0_laysChange_77 rfl (js_const hX (z := 1) (by unfold inI; omega) dX0_laysChange_78 (Or.inl ⟨1, rfl, rfl, rfl⟩) (js_callV hX MX0_pushesNow (ci := 0) (n := 3) (RX0, TX0, 20) rfl rfl (lw_V q963 q965 qs28 q152 q966) npX0_pushesNow dX0_laysChange_79 (js_if_eq hX (tgt := 89) dX0_laysChange_82 rfl (js_const hX (z := 0) (by unfold inI; omega) dX0_laysChange_89 (Or.inl ⟨0, rfl, rfl, rfl⟩) (hK 4))
    (js_const hX (z := 1) (by unfold inI; omega) dX0_laysChange_85 (Or.inl ⟨1, rfl, rfl, rfl⟩) (js_goto hX (tgt := 90) dX0_laysChange_86 rfl (hK 4)))))))))
    (js_goto hX (tgt := 130) dX0_laysChange_72 rfl (hK 7))))))))))))
  | 4 => exact (js_aload_n hX dX0_laysChange_90 rfl (js_iload_n hX dX0_laysChange_91 rfl (js_iload_n hX dX0_laysChange_92 rfl (js_const hX (z := 0) (by unfold inI; omega) dX0_laysChange_93 (Or.inl ⟨0, rfl, rfl, rfl⟩) (js_callV hX MX0_pushesNow (ci := 0) (n := 3) (RX0, TX0, 20) rfl rfl (lw_V q963 q965 qs28 q152 q966) npX0_pushesNow dX0_laysChange_94 (js_if_eq hX (tgt := 104) dX0_laysChange_97 rfl (js_const hX (z := 0) (by unfold inI; omega) dX0_laysChange_104 (Or.inl ⟨0, rfl, rfl, rfl⟩) (hK 5))
    (js_const hX (z := 1) (by unfold inI; omega) dX0_laysChange_100 (Or.inl ⟨1, rfl, rfl, rfl⟩) (js_goto hX (tgt := 105) dX0_laysChange_101 rfl (hK 5)))))))))
  | 5 => exact (js_iadd hX dX0_laysChange_105 (js_istore hX dX0_laysChange_106 (by decide) (js_aload_n hX dX0_laysChange_108 rfl (js_getfR hX (ci := 0) (k := 7) (RX0, TX0, 20) rfl (by decide) rfl (Or.inl q262) (fun _ h => h) dX0_laysChange_109 (js_iload_n hX dX0_laysChange_112 rfl (js_dup2 hX dX0_laysChange_113 (js_iald hX dX0_laysChange_114 (js_iload hX dX0_laysChange_115 (js_iload_n hX dX0_laysChange_117 rfl (js_icmp_lt hX (tgt := 127) dX0_laysChange_118 rfl (js_const hX (z := 0) (by unfold inI; omega) dX0_laysChange_127 (Or.inl ⟨0, rfl, rfl, rfl⟩) (hK 6))
    (js_const hX (z := 1) (by unfold inI; omega) dX0_laysChange_121 (Or.inl ⟨1, rfl, rfl, rfl⟩) (js_iload_n hX dX0_laysChange_122 rfl (js_ishl hX dX0_laysChange_123 (js_goto hX (tgt := 128) dX0_laysChange_124 rfl (hK 6)))))))))))))))
  | 6 => exact (js_ior hX dX0_laysChange_128 (js_iast hX dX0_laysChange_129 (hK 7)))
  | 7 => exact (js_iinc hX dX0_laysChange_130 (by decide) (js_goto hX (tgt := 54) dX0_laysChange_133 rfl (hK 3)))
  | k + 8 => intro ls st h nc ns hf; exact hf.elim
def bX0_nightComes : jjB := fun e K k => match k with
  | 0 => (ji_aload 0 (ji_getfR 0 0 (ji_getfR 1 2 (ji_const 44 (ji_iald (ji_const 2 (ji_irem (ji_istore 1 (ji_const 0 (ji_istore 2 (ji_const 0 (ji_istore 3 (K 1)))))))))))))
  | 1 => (ji_iload 3 (ji_const 3 (ji_icmp_ge (ji_aload 0 (ji_getfR 0 0 (ji_getfR 1 2 (ji_const 44 (ji_dup2 (ji_iald (ji_const 1 (ji_iadd (ji_iast (ji_aload 0 (ji_callV e MX0_fall 0 1 (ji_istore 3 (ji_iload 2 (ji_ireturn e))))))))))))))
    (ji_aload 0 (ji_iload 3 (ji_iload 1 (ji_callV e MX0_writesPushes 0 3 (ji_iload 2 (ji_aload 0 (ji_aload 0 (ji_getfR 0 0 (ji_getfR 1 2 (ji_const 11 (ji_iload 3 (ji_imul (ji_const 1 (ji_iadd (ji_aload 0 (ji_getfR 0 0 (ji_iload 3 (ji_callV e MX1_many 1 2 (ji_iload 1 (ji_callV e MX0_nightOn 0 5 (ji_iadd (ji_istore 2 (ji_iinc 3 1 (ji_goto (K 1))))))))))))))))))))))))))))
  | _ => fun _ _ _ _ _ => False
def pX0_nightComes : Nat → Nat := fun k => match k with
  | 0 => 0
  | 1 => 17
  | _ => 0
theorem sX0_nightComes : jSound bX0_nightComes pX0_nightComes MX0_nightComes := by
  intro e p ev R s m args below meth c hX hr hn hlk K hK k
  match k with
  | 0 => exact (js_aload_n hX dX0_nightComes_0 rfl (js_getfR hX (ci := 0) (k := 0) (RX0, TX0, 20) rfl (by decide) rfl (Or.inl q255) (fun _ h => h) dX0_nightComes_1 (js_getfR hX (ci := 1) (k := 2) (RX1, TX1, 7) rfl (by decide) rfl (Or.inr ⟨_, q216⟩) (fun _ h => h) dX0_nightComes_4 (js_const hX (z := 44) (by unfold inI; omega) dX0_nightComes_7 (Or.inr (Or.inl ⟨44, rfl, rfl, rfl⟩)) (js_iald hX dX0_nightComes_9 (js_const hX (z := 2) (by unfold inI; omega) dX0_nightComes_10 (Or.inl ⟨2, rfl, rfl, rfl⟩) (js_irem hX dX0_nightComes_11 (js_istore_n hX dX0_nightComes_12 rfl (by decide) (js_const hX (z := 0) (by unfold inI; omega) dX0_nightComes_13 (Or.inl ⟨0, rfl, rfl, rfl⟩) (js_istore_n hX dX0_nightComes_14 rfl (by decide) (js_const hX (z := 0) (by unfold inI; omega) dX0_nightComes_15 (Or.inl ⟨0, rfl, rfl, rfl⟩) (js_istore_n hX dX0_nightComes_16 rfl (by decide) (hK 1)))))))))))))
  | 1 => exact (js_iload_n hX dX0_nightComes_17 rfl (js_const hX (z := 3) (by unfold inI; omega) dX0_nightComes_18 (Or.inl ⟨3, rfl, rfl, rfl⟩) (js_icmp_ge hX (tgt := 63) dX0_nightComes_19 rfl (js_aload_n hX dX0_nightComes_63 rfl (js_getfR hX (ci := 0) (k := 0) (RX0, TX0, 20) rfl (by decide) rfl (Or.inl q255) (fun _ h => h) dX0_nightComes_64 (js_getfR hX (ci := 1) (k := 2) (RX1, TX1, 7) rfl (by decide) rfl (Or.inr ⟨_, q216⟩) (fun _ h => h) dX0_nightComes_67 (js_const hX (z := 44) (by unfold inI; omega) dX0_nightComes_70 (Or.inr (Or.inl ⟨44, rfl, rfl, rfl⟩)) (js_dup2 hX dX0_nightComes_72 (js_iald hX dX0_nightComes_73 (js_const hX (z := 1) (by unfold inI; omega) dX0_nightComes_74 (Or.inl ⟨1, rfl, rfl, rfl⟩) (js_iadd hX dX0_nightComes_75 (js_iast hX dX0_nightComes_76 (js_aload_n hX dX0_nightComes_77 rfl (js_callV hX MX0_fall (ci := 0) (n := 0) (RX0, TX0, 20) rfl rfl (lw_V q1034 q1036 qs35 q152 q1037) npX0_fall dX0_nightComes_78 (js_istore_n hX dX0_nightComes_81 rfl (by decide) (js_iload_n hX dX0_nightComes_82 rfl (js_ireturn hX hr hlk dX0_nightComes_83))))))))))))))
    (js_aload_n hX dX0_nightComes_22 rfl (js_iload_n hX dX0_nightComes_23 rfl (js_iload_n hX dX0_nightComes_24 rfl (js_callV hX MX0_writesPushes (ci := 0) (n := 2) (RX0, TX0, 20) rfl rfl (lw_V q1018 q1020 qs32 q152 q1021) npX0_writesPushes dX0_nightComes_25 (js_iload_n hX dX0_nightComes_28 rfl (js_aload_n hX dX0_nightComes_29 rfl (js_aload_n hX dX0_nightComes_30 rfl (js_getfR hX (ci := 0) (k := 0) (RX0, TX0, 20) rfl (by decide) rfl (Or.inl q255) (fun _ h => h) dX0_nightComes_31 (js_getfR hX (ci := 1) (k := 2) (RX1, TX1, 7) rfl (by decide) rfl (Or.inr ⟨_, q216⟩) (fun _ h => h) dX0_nightComes_34 (js_const hX (z := 11) (by unfold inI; omega) dX0_nightComes_37 (Or.inr (Or.inl ⟨11, rfl, rfl, rfl⟩)) (js_iload_n hX dX0_nightComes_39 rfl (js_imul hX dX0_nightComes_40 (js_const hX (z := 1) (by unfold inI; omega) dX0_nightComes_41 (Or.inl ⟨1, rfl, rfl, rfl⟩) (js_iadd hX dX0_nightComes_42 (js_aload_n hX dX0_nightComes_43 rfl (js_getfR hX (ci := 0) (k := 0) (RX0, TX0, 20) rfl (by decide) rfl (Or.inl q255) (fun _ h => h) dX0_nightComes_44 (js_iload_n hX dX0_nightComes_47 rfl (js_callV hX MX1_many (ci := 1) (n := 1) (RX1, TX1, 7) rfl rfl (lw_V q332 q333 q334 q153 q335) npX1_many dX0_nightComes_48 (js_iload_n hX dX0_nightComes_51 rfl (js_callV hX MX0_nightOn (ci := 0) (n := 4) (RX0, TX0, 20) rfl rfl (lw_V q1030 q1032 qs34 q152 q1033) npX0_nightOn dX0_nightComes_52 (js_iadd hX dX0_nightComes_55 (js_istore_n hX dX0_nightComes_56 rfl (by decide) (js_iinc hX dX0_nightComes_57 (by decide) (js_goto hX (tgt := 17) dX0_nightComes_60 rfl (hK 1))))))))))))))))))))))))))))
  | k + 2 => intro ls st h nc ns hf; exact hf.elim
def bX0_writesPushes : jjB := fun e K k => match k with
  | 0 => (ji_iload 2 (ji_istore 3 (K 1)))
  | 1 => (ji_iload 3 (ji_const 1 (ji_iadd (ji_aload 0 (ji_getfR 0 0 (ji_iload 1 (ji_callV e MX1_many 1 2 (ji_icmp_ge (ji_return e)
    (ji_aload 0 (ji_getfR 0 0 (ji_iload 1 (ji_iload 3 (ji_callV e MX1_bookAt 1 3 (ji_istore 4 (ji_aload 0 (ji_getfR 0 0 (ji_iload 1 (ji_iload 3 (ji_const 1 (ji_iadd (ji_callV e MX1_bookAt 1 3 (ji_istore 5 (ji_aload 0 (ji_iload 4 (ji_iload 5 (ji_callV e MX0_doChange 0 3 (ji_if_ne (ji_aload 0 (ji_iload 4 (ji_iload 5 (ji_const 1 (ji_callV e MX0_pushesNow 0 4 (ji_if_eq (K 2)
    (ji_aload 0 (ji_getfR 0 0 (ji_iload 4 (ji_iload 5 (ji_iload 1 (ji_callV e MX1_writes 1 4 (K 2)))))))))))))
    (ji_goto (K 3)))))))))))))))))))))))))))))
  | 2 => (ji_aload 0 (ji_iload 5 (ji_iload 4 (ji_const 0 (ji_callV e MX0_pushesNow 0 4 (ji_if_eq (K 3)
    (ji_aload 0 (ji_getfR 0 0 (ji_iload 5 (ji_iload 4 (ji_iload 1 (ji_callV e MX1_writes 1 4 (K 3)))))))))))))
  | 3 => (ji_iinc 3 2 (ji_goto (K 1)))
  | _ => fun _ _ _ _ _ => False
def pX0_writesPushes : Nat → Nat := fun k => match k with
  | 0 => 0
  | 1 => 2
  | 2 => 78
  | 3 => 102
  | _ => 0
theorem sX0_writesPushes : jSound bX0_writesPushes pX0_writesPushes MX0_writesPushes := by
  intro e p ev R s m args below meth c hX hr hn hlk K hK k
  match k with
  | 0 => exact (js_iload_n hX dX0_writesPushes_0 rfl (js_istore_n hX dX0_writesPushes_1 rfl (by decide) (hK 1)))
  | 1 => exact (js_iload_n hX dX0_writesPushes_2 rfl (js_const hX (z := 1) (by unfold inI; omega) dX0_writesPushes_3 (Or.inl ⟨1, rfl, rfl, rfl⟩) (js_iadd hX dX0_writesPushes_4 (js_aload_n hX dX0_writesPushes_5 rfl (js_getfR hX (ci := 0) (k := 0) (RX0, TX0, 20) rfl (by decide) rfl (Or.inl q255) (fun _ h => h) dX0_writesPushes_6 (js_iload_n hX dX0_writesPushes_9 rfl (js_callV hX MX1_many (ci := 1) (n := 1) (RX1, TX1, 7) rfl rfl (lw_V q332 q333 q334 q153 q335) npX1_many dX0_writesPushes_10 (js_icmp_ge hX (tgt := 108) dX0_writesPushes_13 rfl (js_return hX hr hlk dX0_writesPushes_108)
    (js_aload_n hX dX0_writesPushes_16 rfl (js_getfR hX (ci := 0) (k := 0) (RX0, TX0, 20) rfl (by decide) rfl (Or.inl q255) (fun _ h => h) dX0_writesPushes_17 (js_iload_n hX dX0_writesPushes_20 rfl (js_iload_n hX dX0_writesPushes_21 rfl (js_callV hX MX1_bookAt (ci := 1) (n := 2) (RX1, TX1, 7) rfl rfl (lw_V q336 q337 q338 q153 q339) npX1_bookAt dX0_writesPushes_22 (js_istore hX dX0_writesPushes_25 (by decide) (js_aload_n hX dX0_writesPushes_27 rfl (js_getfR hX (ci := 0) (k := 0) (RX0, TX0, 20) rfl (by decide) rfl (Or.inl q255) (fun _ h => h) dX0_writesPushes_28 (js_iload_n hX dX0_writesPushes_31 rfl (js_iload_n hX dX0_writesPushes_32 rfl (js_const hX (z := 1) (by unfold inI; omega) dX0_writesPushes_33 (Or.inl ⟨1, rfl, rfl, rfl⟩) (js_iadd hX dX0_writesPushes_34 (js_callV hX MX1_bookAt (ci := 1) (n := 2) (RX1, TX1, 7) rfl rfl (lw_V q336 q337 q338 q153 q339) npX1_bookAt dX0_writesPushes_35 (js_istore hX dX0_writesPushes_38 (by decide) (js_aload_n hX dX0_writesPushes_40 rfl (js_iload hX dX0_writesPushes_41 (js_iload hX dX0_writesPushes_43 (js_callV hX MX0_doChange (ci := 0) (n := 2) (RX0, TX0, 20) rfl rfl (lw_V q1022 q1024 qs33 q152 q1025) npX0_doChange dX0_writesPushes_45 (js_if_ne hX (tgt := 54) dX0_writesPushes_48 rfl (js_aload_n hX dX0_writesPushes_54 rfl (js_iload hX dX0_writesPushes_55 (js_iload hX dX0_writesPushes_57 (js_const hX (z := 1) (by unfold inI; omega) dX0_writesPushes_59 (Or.inl ⟨1, rfl, rfl, rfl⟩) (js_callV hX MX0_pushesNow (ci := 0) (n := 3) (RX0, TX0, 20) rfl rfl (lw_V q963 q965 qs28 q152 q966) npX0_pushesNow dX0_writesPushes_60 (js_if_eq hX (tgt := 78) dX0_writesPushes_63 rfl (hK 2)
    (js_aload_n hX dX0_writesPushes_66 rfl (js_getfR hX (ci := 0) (k := 0) (RX0, TX0, 20) rfl (by decide) rfl (Or.inl q255) (fun _ h => h) dX0_writesPushes_67 (js_iload hX dX0_writesPushes_70 (js_iload hX dX0_writesPushes_72 (js_iload_n hX dX0_writesPushes_74 rfl (js_callV hX MX1_writes (ci := 1) (n := 3) (RX1, TX1, 7) rfl rfl (lw_V q1026 q1027 q1028 q153 q1029) npX1_writes dX0_writesPushes_75 (hK 2)))))))))))))
    (js_goto hX (tgt := 102) dX0_writesPushes_51 rfl (hK 3)))))))))))))))))))))))))))))
  | 2 => exact (js_aload_n hX dX0_writesPushes_78 rfl (js_iload hX dX0_writesPushes_79 (js_iload hX dX0_writesPushes_81 (js_const hX (z := 0) (by unfold inI; omega) dX0_writesPushes_83 (Or.inl ⟨0, rfl, rfl, rfl⟩) (js_callV hX MX0_pushesNow (ci := 0) (n := 3) (RX0, TX0, 20) rfl rfl (lw_V q963 q965 qs28 q152 q966) npX0_pushesNow dX0_writesPushes_84 (js_if_eq hX (tgt := 102) dX0_writesPushes_87 rfl (hK 3)
    (js_aload_n hX dX0_writesPushes_90 rfl (js_getfR hX (ci := 0) (k := 0) (RX0, TX0, 20) rfl (by decide) rfl (Or.inl q255) (fun _ h => h) dX0_writesPushes_91 (js_iload hX dX0_writesPushes_94 (js_iload hX dX0_writesPushes_96 (js_iload_n hX dX0_writesPushes_98 rfl (js_callV hX MX1_writes (ci := 1) (n := 3) (RX1, TX1, 7) rfl rfl (lw_V q1026 q1027 q1028 q153 q1029) npX1_writes dX0_writesPushes_99 (hK 3)))))))))))))
  | 3 => exact (js_iinc hX dX0_writesPushes_102 (by decide) (js_goto hX (tgt := 2) dX0_writesPushes_105 rfl (hK 1)))
  | k + 4 => intro ls st h nc ns hf; exact hf.elim
def bX0_doChange : jjB := fun e K k => match k with
  | 0 => (ji_aload 0 (ji_getfR 0 7 (ji_iload 1 (ji_iald (ji_iload 2 (ji_ishr (ji_const 1 (ji_iand (ji_const 1 (ji_icmp_ne (ji_const 0 (K 1))
    (ji_const 1 (ji_goto (K 1)))))))))))))
  | 1 => (ji_zreturn e)
  | _ => fun _ _ _ _ _ => False
def pX0_doChange : Nat → Nat := fun k => match k with
  | 0 => 0
  | 1 => 19
  | _ => 0
theorem sX0_doChange : jSound bX0_doChange pX0_doChange MX0_doChange := by
  intro e p ev R s m args below meth c hX hr hn hlk K hK k
  match k with
  | 0 => exact (js_aload_n hX dX0_doChange_0 rfl (js_getfR hX (ci := 0) (k := 7) (RX0, TX0, 20) rfl (by decide) rfl (Or.inl q262) (fun _ h => h) dX0_doChange_1 (js_iload_n hX dX0_doChange_4 rfl (js_iald hX dX0_doChange_5 (js_iload_n hX dX0_doChange_6 rfl (js_ishr hX dX0_doChange_7 (js_const hX (z := 1) (by unfold inI; omega) dX0_doChange_8 (Or.inl ⟨1, rfl, rfl, rfl⟩) (js_iand hX dX0_doChange_9 (js_const hX (z := 1) (by unfold inI; omega) dX0_doChange_10 (Or.inl ⟨1, rfl, rfl, rfl⟩) (js_icmp_ne hX (tgt := 18) dX0_doChange_11 rfl (js_const hX (z := 0) (by unfold inI; omega) dX0_doChange_18 (Or.inl ⟨0, rfl, rfl, rfl⟩) (hK 1))
    (js_const hX (z := 1) (by unfold inI; omega) dX0_doChange_14 (Or.inl ⟨1, rfl, rfl, rfl⟩) (js_goto hX (tgt := 19) dX0_doChange_15 rfl (hK 1)))))))))))))
  | 1 => exact (js_zreturn hX hr hlk dX0_doChange_19)
  | k + 2 => intro ls st h nc ns hf; exact hf.elim
def bX0_nightOn : jjB := fun e K k => match k with
  | 0 => (ji_const 0 (ji_istore 5 (ji_iload 4 (ji_istore 6 (K 1)))))
  | 1 => (ji_iload 6 (ji_const 1 (ji_iadd (ji_iload 3 (ji_icmp_ge (ji_iload 5 (ji_ireturn e))
    (ji_aload 1 (ji_iload 2 (ji_iload 6 (ji_iadd (ji_iald (ji_istore 7 (ji_aload 1 (ji_iload 2 (ji_iload 6 (ji_iadd (ji_const 1 (ji_iadd (ji_iald (ji_istore 8 (ji_aload 0 (ji_iload 7 (ji_iload 8 (ji_callV e MX0_doChange 0 3 (ji_if_ne (ji_aload 1 (ji_iload 2 (ji_iload 6 (ji_iadd (ji_iload 8 (ji_iast (ji_aload 1 (ji_iload 2 (ji_iload 6 (ji_iadd (ji_const 1 (ji_iadd (ji_iload 7 (ji_iast (ji_iinc 5 1 (K 2))))))))))))))))
    (ji_goto (K 2))))))))))))))))))))))))))
  | 2 => (ji_iinc 6 2 (ji_goto (K 1)))
  | _ => fun _ _ _ _ _ => False
def pX0_nightOn : Nat → Nat := fun k => match k with
  | 0 => 0
  | 1 => 7
  | 2 => 68
  | _ => 0
theorem sX0_nightOn : jSound bX0_nightOn pX0_nightOn MX0_nightOn := by
  intro e p ev R s m args below meth c hX hr hn hlk K hK k
  match k with
  | 0 => exact (js_const hX (z := 0) (by unfold inI; omega) dX0_nightOn_0 (Or.inl ⟨0, rfl, rfl, rfl⟩) (js_istore hX dX0_nightOn_1 (by decide) (js_iload hX dX0_nightOn_3 (js_istore hX dX0_nightOn_5 (by decide) (hK 1)))))
  | 1 => exact (js_iload hX dX0_nightOn_7 (js_const hX (z := 1) (by unfold inI; omega) dX0_nightOn_9 (Or.inl ⟨1, rfl, rfl, rfl⟩) (js_iadd hX dX0_nightOn_10 (js_iload_n hX dX0_nightOn_11 rfl (js_icmp_ge hX (tgt := 74) dX0_nightOn_12 rfl (js_iload hX dX0_nightOn_74 (js_ireturn hX hr hlk dX0_nightOn_76))
    (js_aload_n hX dX0_nightOn_15 rfl (js_iload_n hX dX0_nightOn_16 rfl (js_iload hX dX0_nightOn_17 (js_iadd hX dX0_nightOn_19 (js_iald hX dX0_nightOn_20 (js_istore hX dX0_nightOn_21 (by decide) (js_aload_n hX dX0_nightOn_23 rfl (js_iload_n hX dX0_nightOn_24 rfl (js_iload hX dX0_nightOn_25 (js_iadd hX dX0_nightOn_27 (js_const hX (z := 1) (by unfold inI; omega) dX0_nightOn_28 (Or.inl ⟨1, rfl, rfl, rfl⟩) (js_iadd hX dX0_nightOn_29 (js_iald hX dX0_nightOn_30 (js_istore hX dX0_nightOn_31 (by decide) (js_aload_n hX dX0_nightOn_33 rfl (js_iload hX dX0_nightOn_34 (js_iload hX dX0_nightOn_36 (js_callV hX MX0_doChange (ci := 0) (n := 2) (RX0, TX0, 20) rfl rfl (lw_V q1022 q1024 qs33 q152 q1025) npX0_doChange dX0_nightOn_38 (js_if_ne hX (tgt := 47) dX0_nightOn_41 rfl (js_aload_n hX dX0_nightOn_47 rfl (js_iload_n hX dX0_nightOn_48 rfl (js_iload hX dX0_nightOn_49 (js_iadd hX dX0_nightOn_51 (js_iload hX dX0_nightOn_52 (js_iast hX dX0_nightOn_54 (js_aload_n hX dX0_nightOn_55 rfl (js_iload_n hX dX0_nightOn_56 rfl (js_iload hX dX0_nightOn_57 (js_iadd hX dX0_nightOn_59 (js_const hX (z := 1) (by unfold inI; omega) dX0_nightOn_60 (Or.inl ⟨1, rfl, rfl, rfl⟩) (js_iadd hX dX0_nightOn_61 (js_iload hX dX0_nightOn_62 (js_iast hX dX0_nightOn_64 (js_iinc hX dX0_nightOn_65 (by decide) (hK 2))))))))))))))))
    (js_goto hX (tgt := 68) dX0_nightOn_44 rfl (hK 2))))))))))))))))))))))))))
  | 2 => exact (js_iinc hX dX0_nightOn_68 (by decide) (js_goto hX (tgt := 7) dX0_nightOn_71 rfl (hK 1)))
  | k + 3 => intro ls st h nc ns hf; exact hf.elim
def bX0_fall : jjB := fun e K k => match k with
  | 0 => (ji_const 0 (ji_istore 1 (ji_const 0 (ji_istore 2 (K 1)))))
  | 1 => (ji_iload 2 (ji_const 3 (ji_icmp_ge (ji_iload 1 (ji_ireturn e))
    (ji_aload 0 (ji_getfR 0 0 (ji_iload 2 (ji_callV e MX1_many 1 2 (ji_istore 3 (ji_const 0 (ji_istore 4 (ji_const 0 (ji_istore 5 (K 2)))))))))))))
  | 2 => (ji_iload 4 (ji_iload 3 (ji_icmp_ge (K 4)
    (ji_aload 0 (ji_aload 0 (ji_getfR 0 0 (ji_iload 2 (ji_iload 5 (ji_callV e MX1_bookAt 1 3 (ji_iload 2 (ji_iload 4 (ji_iload 3 (ji_callV e MX0_falls 0 5 (ji_if_eq (ji_iinc 5 1 (K 3))
    (ji_aload 0 (ji_iload 2 (ji_iload 5 (ji_callV e MX0_drops 0 3 (ji_goto (K 3))))))))))))))))))))
  | 3 => (ji_iinc 4 1 (ji_goto (K 2)))
  | 4 => (ji_aload 0 (ji_iload 2 (ji_callV e MX0_fullOf 0 2 (ji_aload 0 (ji_getfR 0 0 (ji_getfR 1 1 (ji_iload 2 (ji_iald (ji_icmp_le (ji_iload 1 (ji_iload 3 (ji_aload 0 (ji_getfR 0 0 (ji_iload 2 (ji_callV e MX1_many 1 2 (ji_isub (ji_iadd (ji_istore 1 (ji_iinc 2 1 (ji_goto (K 1))))))))))))
    (ji_aload 0 (ji_iload 2 (ji_aload 0 (ji_getfR 0 0 (ji_iload 2 (ji_callV e MX1_many 1 2 (ji_const 1 (ji_isub (ji_callV e MX0_drops 0 3 (ji_goto (K 4))))))))))))))))))))
  | _ => fun _ _ _ _ _ => False
def pX0_fall : Nat → Nat := fun k => match k with
  | 0 => 0
  | 1 => 4
  | 2 => 24
  | 3 => 64
  | 4 => 70
  | _ => 0
theorem sX0_fall : jSound bX0_fall pX0_fall MX0_fall := by
  intro e p ev R s m args below meth c hX hr hn hlk K hK k
  match k with
  | 0 => exact (js_const hX (z := 0) (by unfold inI; omega) dX0_fall_0 (Or.inl ⟨0, rfl, rfl, rfl⟩) (js_istore_n hX dX0_fall_1 rfl (by decide) (js_const hX (z := 0) (by unfold inI; omega) dX0_fall_2 (Or.inl ⟨0, rfl, rfl, rfl⟩) (js_istore_n hX dX0_fall_3 rfl (by decide) (hK 1)))))
  | 1 => exact (js_iload_n hX dX0_fall_4 rfl (js_const hX (z := 3) (by unfold inI; omega) dX0_fall_5 (Or.inl ⟨3, rfl, rfl, rfl⟩) (js_icmp_ge hX (tgt := 124) dX0_fall_6 rfl (js_iload_n hX dX0_fall_124 rfl (js_ireturn hX hr hlk dX0_fall_125))
    (js_aload_n hX dX0_fall_9 rfl (js_getfR hX (ci := 0) (k := 0) (RX0, TX0, 20) rfl (by decide) rfl (Or.inl q255) (fun _ h => h) dX0_fall_10 (js_iload_n hX dX0_fall_13 rfl (js_callV hX MX1_many (ci := 1) (n := 1) (RX1, TX1, 7) rfl rfl (lw_V q332 q333 q334 q153 q335) npX1_many dX0_fall_14 (js_istore_n hX dX0_fall_17 rfl (by decide) (js_const hX (z := 0) (by unfold inI; omega) dX0_fall_18 (Or.inl ⟨0, rfl, rfl, rfl⟩) (js_istore hX dX0_fall_19 (by decide) (js_const hX (z := 0) (by unfold inI; omega) dX0_fall_21 (Or.inl ⟨0, rfl, rfl, rfl⟩) (js_istore hX dX0_fall_22 (by decide) (hK 2)))))))))))))
  | 2 => exact (js_iload hX dX0_fall_24 (js_iload_n hX dX0_fall_26 rfl (js_icmp_ge hX (tgt := 70) dX0_fall_27 rfl (hK 4)
    (js_aload_n hX dX0_fall_30 rfl (js_aload_n hX dX0_fall_31 rfl (js_getfR hX (ci := 0) (k := 0) (RX0, TX0, 20) rfl (by decide) rfl (Or.inl q255) (fun _ h => h) dX0_fall_32 (js_iload_n hX dX0_fall_35 rfl (js_iload hX dX0_fall_36 (js_callV hX MX1_bookAt (ci := 1) (n := 2) (RX1, TX1, 7) rfl rfl (lw_V q336 q337 q338 q153 q339) npX1_bookAt dX0_fall_38 (js_iload_n hX dX0_fall_41 rfl (js_iload hX dX0_fall_42 (js_iload_n hX dX0_fall_44 rfl (js_callV hX MX0_falls (ci := 0) (n := 4) (RX0, TX0, 20) rfl rfl (lw_V q1038 q1040 qs36 q152 q1041) npX0_falls dX0_fall_45 (js_if_eq hX (tgt := 61) dX0_fall_48 rfl (js_iinc hX dX0_fall_61 (by decide) (hK 3))
    (js_aload_n hX dX0_fall_51 rfl (js_iload_n hX dX0_fall_52 rfl (js_iload hX dX0_fall_53 (js_callV hX MX0_drops (ci := 0) (n := 2) (RX0, TX0, 20) rfl rfl (lw_V q1042 q1044 qs37 q152 q1045) npX0_drops dX0_fall_55 (js_goto hX (tgt := 64) dX0_fall_58 rfl (hK 3))))))))))))))))))))
  | 3 => exact (js_iinc hX dX0_fall_64 (by decide) (js_goto hX (tgt := 24) dX0_fall_67 rfl (hK 2)))
  | 4 => exact (js_aload_n hX dX0_fall_70 rfl (js_iload_n hX dX0_fall_71 rfl (js_callV hX MX0_fullOf (ci := 0) (n := 1) (RX0, TX0, 20) rfl rfl (lw_V q328 q330 qs0 q152 q331) npX0_fullOf dX0_fall_72 (js_aload_n hX dX0_fall_75 rfl (js_getfR hX (ci := 0) (k := 0) (RX0, TX0, 20) rfl (by decide) rfl (Or.inl q255) (fun _ h => h) dX0_fall_76 (js_getfR hX (ci := 1) (k := 1) (RX1, TX1, 7) rfl (by decide) rfl (Or.inr ⟨_, q214⟩) (fun _ h => h) dX0_fall_79 (js_iload_n hX dX0_fall_82 rfl (js_iald hX dX0_fall_83 (js_icmp_le hX (tgt := 105) dX0_fall_84 rfl (js_iload_n hX dX0_fall_105 rfl (js_iload_n hX dX0_fall_106 rfl (js_aload_n hX dX0_fall_107 rfl (js_getfR hX (ci := 0) (k := 0) (RX0, TX0, 20) rfl (by decide) rfl (Or.inl q255) (fun _ h => h) dX0_fall_108 (js_iload_n hX dX0_fall_111 rfl (js_callV hX MX1_many (ci := 1) (n := 1) (RX1, TX1, 7) rfl rfl (lw_V q332 q333 q334 q153 q335) npX1_many dX0_fall_112 (js_isub hX dX0_fall_115 (js_iadd hX dX0_fall_116 (js_istore_n hX dX0_fall_117 rfl (by decide) (js_iinc hX dX0_fall_118 (by decide) (js_goto hX (tgt := 4) dX0_fall_121 rfl (hK 1))))))))))))
    (js_aload_n hX dX0_fall_87 rfl (js_iload_n hX dX0_fall_88 rfl (js_aload_n hX dX0_fall_89 rfl (js_getfR hX (ci := 0) (k := 0) (RX0, TX0, 20) rfl (by decide) rfl (Or.inl q255) (fun _ h => h) dX0_fall_90 (js_iload_n hX dX0_fall_93 rfl (js_callV hX MX1_many (ci := 1) (n := 1) (RX1, TX1, 7) rfl rfl (lw_V q332 q333 q334 q153 q335) npX1_many dX0_fall_94 (js_const hX (z := 1) (by unfold inI; omega) dX0_fall_97 (Or.inl ⟨1, rfl, rfl, rfl⟩) (js_isub hX dX0_fall_98 (js_callV hX MX0_drops (ci := 0) (n := 2) (RX0, TX0, 20) rfl rfl (lw_V q1042 q1044 qs37 q152 q1045) npX0_drops dX0_fall_99 (js_goto hX (tgt := 70) dX0_fall_102 rfl (hK 4))))))))))))))))))))
  | k + 5 => intro ls st h nc ns hf; exact hf.elim
def bX0_falls : jjB := fun e K k => match k with
  | 0 => (ji_aload 0 (ji_callV e MX0_rules 0 1 (ji_getfR 4 1 (ji_ifnonnull (ji_aload 0 (ji_iload 1 (ji_callV e MX0_namesOwn 0 2 (ji_aload 0 (ji_getfR 0 6 (ji_const 12 (ji_iload 2 (ji_iast (ji_aload 0 (ji_getfR 0 6 (ji_const 13 (ji_iload 3 (ji_iast (ji_aload 0 (ji_getfR 0 6 (ji_const 14 (ji_iload 4 (ji_iast (ji_aload 0 (ji_callV e MX0_rules 0 1 (ji_getfR 4 1 (ji_aload 0 (ji_getfR 0 6 (ji_callF e [(11, MX11_is), (6, MX6_is), (12, MX12_is)] 2 (ji_zreturn e)))))))))))))))))))))))))
    (ji_const 0 (ji_zreturn e))))))
  | _ => fun _ _ _ _ _ => False
def pX0_falls : Nat → Nat := fun k => match k with
  | 0 => 0
  | _ => 0
theorem sX0_falls : jSound bX0_falls pX0_falls MX0_falls := by
  intro e p ev R s m args below meth c hX hr hn hlk K hK k
  match k with
  | 0 => exact (js_aload_n hX dX0_falls_0 rfl (js_callV hX MX0_rules (ci := 0) (n := 0) (RX0, TX0, 20) rfl rfl (lw_V q344 q346 qs2 q152 q347) npX0_rules dX0_falls_1 (js_getfR hX (ci := 4) (k := 1) (RX4, TX4, 6) rfl (by decide) rfl (Or.inr ⟨_, q521⟩) (fun _ h => h) dX0_falls_4 (js_ifnonnull hX (tgt := 12) dX0_falls_7 rfl (js_aload_n hX dX0_falls_12 rfl (js_iload_n hX dX0_falls_13 rfl (js_callV hX MX0_namesOwn (ci := 0) (n := 1) (RX0, TX0, 20) rfl rfl (lw_V q350 q352 qs3 q152 q353) npX0_namesOwn dX0_falls_14 (js_aload_n hX dX0_falls_17 rfl (js_getfR hX (ci := 0) (k := 6) (RX0, TX0, 20) rfl (by decide) rfl (Or.inl q261) (fun _ h => h) dX0_falls_18 (js_const hX (z := 12) (by unfold inI; omega) dX0_falls_21 (Or.inr (Or.inl ⟨12, rfl, rfl, rfl⟩)) (js_iload_n hX dX0_falls_23 rfl (js_iast hX dX0_falls_24 (js_aload_n hX dX0_falls_25 rfl (js_getfR hX (ci := 0) (k := 6) (RX0, TX0, 20) rfl (by decide) rfl (Or.inl q261) (fun _ h => h) dX0_falls_26 (js_const hX (z := 13) (by unfold inI; omega) dX0_falls_29 (Or.inr (Or.inl ⟨13, rfl, rfl, rfl⟩)) (js_iload_n hX dX0_falls_31 rfl (js_iast hX dX0_falls_32 (js_aload_n hX dX0_falls_33 rfl (js_getfR hX (ci := 0) (k := 6) (RX0, TX0, 20) rfl (by decide) rfl (Or.inl q261) (fun _ h => h) dX0_falls_34 (js_const hX (z := 14) (by unfold inI; omega) dX0_falls_37 (Or.inr (Or.inl ⟨14, rfl, rfl, rfl⟩)) (js_iload hX dX0_falls_39 (js_iast hX dX0_falls_41 (js_aload_n hX dX0_falls_42 rfl (js_callV hX MX0_rules (ci := 0) (n := 0) (RX0, TX0, 20) rfl rfl (lw_V q344 q346 qs2 q152 q347) npX0_rules dX0_falls_43 (js_getfR hX (ci := 4) (k := 1) (RX4, TX4, 6) rfl (by decide) rfl (Or.inr ⟨_, q521⟩) (fun _ h => h) dX0_falls_46 (js_aload_n hX dX0_falls_49 rfl (js_getfR hX (ci := 0) (k := 6) (RX0, TX0, 20) rfl (by decide) rfl (Or.inl q261) (fun _ h => h) dX0_falls_50 (js_callF hX ⟨"SelfSorting$Asked", "is", "([I)Z"⟩ (l := [(11, MX11_is), (6, MX6_is), (12, MX12_is)]) (n := 1) (List.forall_mem_cons.mpr ⟨⟨(RX11, TX11, 3), rfl, lw_app (jF_ws q972 q987 q989 q181) (lw_meth q991), by decide +kernel⟩, List.forall_mem_cons.mpr ⟨⟨(RX6, TX6, 1), rfl, lw_app (jF_ws q972 q995 q997 q172) (lw_meth q999), by decide +kernel⟩, List.forall_mem_cons.mpr ⟨⟨(RX12, TX12, 2), rfl, lw_app (jF_ws q972 q976 q978 q182) (lw_meth q980), by decide +kernel⟩, fun _ h => (by cases h)⟩⟩⟩) (by decide +kernel) dX0_falls_53 (js_zreturn hX hr hlk dX0_falls_58)))))))))))))))))))))))))
    (js_const hX (z := 0) (by unfold inI; omega) dX0_falls_10 (Or.inl ⟨0, rfl, rfl, rfl⟩) (js_zreturn hX hr hlk dX0_falls_11))))))
  | k + 1 => intro ls st h nc ns hf; exact hf.elim
def bX0_drops : jjB := fun e K k => match k with
  | 0 => (ji_aload 0 (ji_getfR 0 0 (ji_getfR 1 2 (ji_const 33 (ji_aload 0 (ji_getfR 0 0 (ji_iload 1 (ji_iload 2 (ji_callV e MX1_bookAt 1 3 (ji_iadd (ji_const 4 (ji_iast (ji_aload 0 (ji_getfR 0 0 (ji_iload 1 (ji_iload 2 (ji_callV e MX1_removes 1 3 (ji_return e))))))))))))))))))
  | _ => fun _ _ _ _ _ => False
def pX0_drops : Nat → Nat := fun k => match k with
  | 0 => 0
  | _ => 0
theorem sX0_drops : jSound bX0_drops pX0_drops MX0_drops := by
  intro e p ev R s m args below meth c hX hr hn hlk K hK k
  match k with
  | 0 => exact (js_aload_n hX dX0_drops_0 rfl (js_getfR hX (ci := 0) (k := 0) (RX0, TX0, 20) rfl (by decide) rfl (Or.inl q255) (fun _ h => h) dX0_drops_1 (js_getfR hX (ci := 1) (k := 2) (RX1, TX1, 7) rfl (by decide) rfl (Or.inr ⟨_, q216⟩) (fun _ h => h) dX0_drops_4 (js_const hX (z := 33) (by unfold inI; omega) dX0_drops_7 (Or.inr (Or.inl ⟨33, rfl, rfl, rfl⟩)) (js_aload_n hX dX0_drops_9 rfl (js_getfR hX (ci := 0) (k := 0) (RX0, TX0, 20) rfl (by decide) rfl (Or.inl q255) (fun _ h => h) dX0_drops_10 (js_iload_n hX dX0_drops_13 rfl (js_iload_n hX dX0_drops_14 rfl (js_callV hX MX1_bookAt (ci := 1) (n := 2) (RX1, TX1, 7) rfl rfl (lw_V q336 q337 q338 q153 q339) npX1_bookAt dX0_drops_15 (js_iadd hX dX0_drops_18 (js_const hX (z := 4) (by unfold inI; omega) dX0_drops_19 (Or.inl ⟨4, rfl, rfl, rfl⟩) (js_iast hX dX0_drops_20 (js_aload_n hX dX0_drops_21 rfl (js_getfR hX (ci := 0) (k := 0) (RX0, TX0, 20) rfl (by decide) rfl (Or.inl q255) (fun _ h => h) dX0_drops_22 (js_iload_n hX dX0_drops_25 rfl (js_iload_n hX dX0_drops_26 rfl (js_callV hX MX1_removes (ci := 1) (n := 2) (RX1, TX1, 7) rfl rfl (lw_V q1046 q1047 q1048 q153 q1049) npX1_removes dX0_drops_27 (js_return hX hr hlk dX0_drops_30))))))))))))))))))
  | k + 1 => intro ls st h nc ns hf; exact hf.elim
def bX0_nudge : jjB := fun e K k => match k with
  | 0 => (ji_iload 1 (ji_callS e MX0_isShelf 1 (ji_if_eq (K 1)
    (ji_iload 2 (ji_const 0 (ji_aload 0 (ji_getfR 0 0 (ji_iload 1 (ji_callV e MX1_many 1 2 (ji_const 2 (ji_isub (ji_callS e MX0_in 3 (ji_if_ne (ji_aload 0 (ji_getfR 0 0 (ji_callV e MX1_keeps 1 1 (ji_const 11 (ji_iload 1 (ji_imul (ji_const 1 (ji_iadd (ji_iload 2 (ji_iadd (ji_istore 3 (ji_aload 0 (ji_getfR 0 0 (ji_getfR 1 2 (ji_iload 3 (ji_iald (ji_istore 4 (ji_aload 0 (ji_getfR 0 0 (ji_getfR 1 2 (ji_iload 3 (ji_aload 0 (ji_getfR 0 0 (ji_getfR 1 2 (ji_iload 3 (ji_const 1 (ji_iadd (ji_iald (ji_iast (ji_aload 0 (ji_getfR 0 0 (ji_getfR 1 2 (ji_iload 3 (ji_const 1 (ji_iadd (ji_iload 4 (ji_iast (ji_aload 0 (ji_getfR 0 0 (ji_getfR 1 2 (ji_iload 3 (ji_iald (ji_ireturn e)))))))))))))))))))))))))))))))))))))))))))
    (K 1))))))))))))))
  | 1 => (ji_const (-1) (ji_ireturn e))
  | _ => fun _ _ _ _ _ => False
def pX0_nudge : Nat → Nat := fun k => match k with
  | 0 => 0
  | 1 => 25
  | _ => 0
theorem sX0_nudge : jSound bX0_nudge pX0_nudge MX0_nudge := by
  intro e p ev R s m args below meth c hX hr hn hlk K hK k
  match k with
  | 0 => exact (js_iload_n hX dX0_nudge_0 rfl (js_callS hX MX0_isShelf (n := 1) (lw_S q322 q323 q152 q324) npX0_isShelf dX0_nudge_1 (js_if_eq hX (tgt := 25) dX0_nudge_4 rfl (hK 1)
    (js_iload_n hX dX0_nudge_7 rfl (js_const hX (z := 0) (by unfold inI; omega) dX0_nudge_8 (Or.inl ⟨0, rfl, rfl, rfl⟩) (js_aload_n hX dX0_nudge_9 rfl (js_getfR hX (ci := 0) (k := 0) (RX0, TX0, 20) rfl (by decide) rfl (Or.inl q255) (fun _ h => h) dX0_nudge_10 (js_iload_n hX dX0_nudge_13 rfl (js_callV hX MX1_many (ci := 1) (n := 1) (RX1, TX1, 7) rfl rfl (lw_V q332 q333 q334 q153 q335) npX1_many dX0_nudge_14 (js_const hX (z := 2) (by unfold inI; omega) dX0_nudge_17 (Or.inl ⟨2, rfl, rfl, rfl⟩) (js_isub hX dX0_nudge_18 (js_callS hX MX0_in (n := 3) (lw_S q325 q326 q152 q327) npX0_in dX0_nudge_19 (js_if_ne hX (tgt := 27) dX0_nudge_22 rfl (js_aload_n hX dX0_nudge_27 rfl (js_getfR hX (ci := 0) (k := 0) (RX0, TX0, 20) rfl (by decide) rfl (Or.inl q255) (fun _ h => h) dX0_nudge_28 (js_callV hX MX1_keeps (ci := 1) (n := 0) (RX1, TX1, 7) rfl rfl (lw_V q1010 q1011 q1012 q153 q1013) npX1_keeps dX0_nudge_31 (js_const hX (z := 11) (by unfold inI; omega) dX0_nudge_34 (Or.inr (Or.inl ⟨11, rfl, rfl, rfl⟩)) (js_iload_n hX dX0_nudge_36 rfl (js_imul hX dX0_nudge_37 (js_const hX (z := 1) (by unfold inI; omega) dX0_nudge_38 (Or.inl ⟨1, rfl, rfl, rfl⟩) (js_iadd hX dX0_nudge_39 (js_iload_n hX dX0_nudge_40 rfl (js_iadd hX dX0_nudge_41 (js_istore_n hX dX0_nudge_42 rfl (by decide) (js_aload_n hX dX0_nudge_43 rfl (js_getfR hX (ci := 0) (k := 0) (RX0, TX0, 20) rfl (by decide) rfl (Or.inl q255) (fun _ h => h) dX0_nudge_44 (js_getfR hX (ci := 1) (k := 2) (RX1, TX1, 7) rfl (by decide) rfl (Or.inr ⟨_, q216⟩) (fun _ h => h) dX0_nudge_47 (js_iload_n hX dX0_nudge_50 rfl (js_iald hX dX0_nudge_51 (js_istore hX dX0_nudge_52 (by decide) (js_aload_n hX dX0_nudge_54 rfl (js_getfR hX (ci := 0) (k := 0) (RX0, TX0, 20) rfl (by decide) rfl (Or.inl q255) (fun _ h => h) dX0_nudge_55 (js_getfR hX (ci := 1) (k := 2) (RX1, TX1, 7) rfl (by decide) rfl (Or.inr ⟨_, q216⟩) (fun _ h => h) dX0_nudge_58 (js_iload_n hX dX0_nudge_61 rfl (js_aload_n hX dX0_nudge_62 rfl (js_getfR hX (ci := 0) (k := 0) (RX0, TX0, 20) rfl (by decide) rfl (Or.inl q255) (fun _ h => h) dX0_nudge_63 (js_getfR hX (ci := 1) (k := 2) (RX1, TX1, 7) rfl (by decide) rfl (Or.inr ⟨_, q216⟩) (fun _ h => h) dX0_nudge_66 (js_iload_n hX dX0_nudge_69 rfl (js_const hX (z := 1) (by unfold inI; omega) dX0_nudge_70 (Or.inl ⟨1, rfl, rfl, rfl⟩) (js_iadd hX dX0_nudge_71 (js_iald hX dX0_nudge_72 (js_iast hX dX0_nudge_73 (js_aload_n hX dX0_nudge_74 rfl (js_getfR hX (ci := 0) (k := 0) (RX0, TX0, 20) rfl (by decide) rfl (Or.inl q255) (fun _ h => h) dX0_nudge_75 (js_getfR hX (ci := 1) (k := 2) (RX1, TX1, 7) rfl (by decide) rfl (Or.inr ⟨_, q216⟩) (fun _ h => h) dX0_nudge_78 (js_iload_n hX dX0_nudge_81 rfl (js_const hX (z := 1) (by unfold inI; omega) dX0_nudge_82 (Or.inl ⟨1, rfl, rfl, rfl⟩) (js_iadd hX dX0_nudge_83 (js_iload hX dX0_nudge_84 (js_iast hX dX0_nudge_86 (js_aload_n hX dX0_nudge_87 rfl (js_getfR hX (ci := 0) (k := 0) (RX0, TX0, 20) rfl (by decide) rfl (Or.inl q255) (fun _ h => h) dX0_nudge_88 (js_getfR hX (ci := 1) (k := 2) (RX1, TX1, 7) rfl (by decide) rfl (Or.inr ⟨_, q216⟩) (fun _ h => h) dX0_nudge_91 (js_iload_n hX dX0_nudge_94 rfl (js_iald hX dX0_nudge_95 (js_ireturn hX hr hlk dX0_nudge_96)))))))))))))))))))))))))))))))))))))))))))
    (hK 1))))))))))))))
  | 1 => exact (js_const hX (z := (-1)) (by unfold inI; omega) dX0_nudge_25 (Or.inl ⟨(-1), rfl, rfl, rfl⟩) (js_ireturn hX hr hlk dX0_nudge_26))
  | k + 2 => intro ls st h nc ns hf; exact hf.elim
def bX0_take : jjB := fun e K k => match k with
  | 0 => (ji_aload 0 (ji_iload 1 (ji_callV e MX0_isBook 0 2 (ji_if_eq (K 1)
    (ji_aload 0 (ji_iload 1 (ji_callV e MX0_whereIs 0 2 (ji_const 3 (ji_icmp_ne (ji_aload 0 (ji_getfR 0 0 (ji_callV e MX1_keeps 1 1 (ji_aload 0 (ji_iload 1 (ji_callV e MX0_whereIs 0 2 (ji_istore 2 (ji_iload 2 (ji_const 3 (ji_icmp_ge (K 2)
    (ji_aload 0 (ji_getfR 0 0 (ji_iload 2 (ji_aload 0 (ji_getfR 0 0 (ji_iload 1 (ji_callV e MX1_placeOf 1 2 (ji_callV e MX1_removes 1 3 (K 2)))))))))))))))))))
    (K 1))))))))))
  | 1 => (ji_const (-1) (ji_ireturn e))
  | 2 => (ji_aload 0 (ji_getfR 0 0 (ji_getfR 1 2 (ji_const 33 (ji_iload 1 (ji_iadd (ji_const 3 (ji_iast (ji_iload 2 (ji_ireturn e))))))))))
  | _ => fun _ _ _ _ _ => False
def pX0_take : Nat → Nat := fun k => match k with
  | 0 => 0
  | 1 => 17
  | 2 => 53
  | _ => 0
theorem sX0_take : jSound bX0_take pX0_take MX0_take := by
  intro e p ev R s m args below meth c hX hr hn hlk K hK k
  match k with
  | 0 => exact (js_aload_n hX dX0_take_0 rfl (js_iload_n hX dX0_take_1 rfl (js_callV hX MX0_isBook (ci := 0) (n := 1) (RX0, TX0, 20) rfl rfl (lw_V q959 q961 qs27 q152 q962) npX0_isBook dX0_take_2 (js_if_eq hX (tgt := 17) dX0_take_5 rfl (hK 1)
    (js_aload_n hX dX0_take_8 rfl (js_iload_n hX dX0_take_9 rfl (js_callV hX MX0_whereIs (ci := 0) (n := 1) (RX0, TX0, 20) rfl rfl (lw_V q1059 q1061 qs38 q152 q1062) npX0_whereIs dX0_take_10 (js_const hX (z := 3) (by unfold inI; omega) dX0_take_13 (Or.inl ⟨3, rfl, rfl, rfl⟩) (js_icmp_ne hX (tgt := 19) dX0_take_14 rfl (js_aload_n hX dX0_take_19 rfl (js_getfR hX (ci := 0) (k := 0) (RX0, TX0, 20) rfl (by decide) rfl (Or.inl q255) (fun _ h => h) dX0_take_20 (js_callV hX MX1_keeps (ci := 1) (n := 0) (RX1, TX1, 7) rfl rfl (lw_V q1010 q1011 q1012 q153 q1013) npX1_keeps dX0_take_23 (js_aload_n hX dX0_take_26 rfl (js_iload_n hX dX0_take_27 rfl (js_callV hX MX0_whereIs (ci := 0) (n := 1) (RX0, TX0, 20) rfl rfl (lw_V q1059 q1061 qs38 q152 q1062) npX0_whereIs dX0_take_28 (js_istore_n hX dX0_take_31 rfl (by decide) (js_iload_n hX dX0_take_32 rfl (js_const hX (z := 3) (by unfold inI; omega) dX0_take_33 (Or.inl ⟨3, rfl, rfl, rfl⟩) (js_icmp_ge hX (tgt := 53) dX0_take_34 rfl (hK 2)
    (js_aload_n hX dX0_take_37 rfl (js_getfR hX (ci := 0) (k := 0) (RX0, TX0, 20) rfl (by decide) rfl (Or.inl q255) (fun _ h => h) dX0_take_38 (js_iload_n hX dX0_take_41 rfl (js_aload_n hX dX0_take_42 rfl (js_getfR hX (ci := 0) (k := 0) (RX0, TX0, 20) rfl (by decide) rfl (Or.inl q255) (fun _ h => h) dX0_take_43 (js_iload_n hX dX0_take_46 rfl (js_callV hX MX1_placeOf (ci := 1) (n := 1) (RX1, TX1, 7) rfl rfl (lw_V q1063 q1064 q1065 q153 q1066) npX1_placeOf dX0_take_47 (js_callV hX MX1_removes (ci := 1) (n := 2) (RX1, TX1, 7) rfl rfl (lw_V q1046 q1047 q1048 q153 q1049) npX1_removes dX0_take_50 (hK 2)))))))))))))))))))
    (hK 1))))))))))
  | 1 => exact (js_const hX (z := (-1)) (by unfold inI; omega) dX0_take_17 (Or.inl ⟨(-1), rfl, rfl, rfl⟩) (js_ireturn hX hr hlk dX0_take_18))
  | 2 => exact (js_aload_n hX dX0_take_53 rfl (js_getfR hX (ci := 0) (k := 0) (RX0, TX0, 20) rfl (by decide) rfl (Or.inl q255) (fun _ h => h) dX0_take_54 (js_getfR hX (ci := 1) (k := 2) (RX1, TX1, 7) rfl (by decide) rfl (Or.inr ⟨_, q216⟩) (fun _ h => h) dX0_take_57 (js_const hX (z := 33) (by unfold inI; omega) dX0_take_60 (Or.inr (Or.inl ⟨33, rfl, rfl, rfl⟩)) (js_iload_n hX dX0_take_62 rfl (js_iadd hX dX0_take_63 (js_const hX (z := 3) (by unfold inI; omega) dX0_take_64 (Or.inl ⟨3, rfl, rfl, rfl⟩) (js_iast hX dX0_take_65 (js_iload_n hX dX0_take_66 rfl (js_ireturn hX hr hlk dX0_take_67))))))))))
  | k + 3 => intro ls st h nc ns hf; exact hf.elim
def bX0_whereIs : jjB := fun e K k => match k with
  | 0 => (ji_aload 0 (ji_getfR 0 0 (ji_getfR 1 2 (ji_const 33 (ji_iload 1 (ji_iadd (ji_iald (ji_ireturn e))))))))
  | _ => fun _ _ _ _ _ => False
def pX0_whereIs : Nat → Nat := fun k => match k with
  | 0 => 0
  | _ => 0
theorem sX0_whereIs : jSound bX0_whereIs pX0_whereIs MX0_whereIs := by
  intro e p ev R s m args below meth c hX hr hn hlk K hK k
  match k with
  | 0 => exact (js_aload_n hX dX0_whereIs_0 rfl (js_getfR hX (ci := 0) (k := 0) (RX0, TX0, 20) rfl (by decide) rfl (Or.inl q255) (fun _ h => h) dX0_whereIs_1 (js_getfR hX (ci := 1) (k := 2) (RX1, TX1, 7) rfl (by decide) rfl (Or.inr ⟨_, q216⟩) (fun _ h => h) dX0_whereIs_4 (js_const hX (z := 33) (by unfold inI; omega) dX0_whereIs_7 (Or.inr (Or.inl ⟨33, rfl, rfl, rfl⟩)) (js_iload_n hX dX0_whereIs_9 rfl (js_iadd hX dX0_whereIs_10 (js_iald hX dX0_whereIs_11 (js_ireturn hX hr hlk dX0_whereIs_12))))))))
  | k + 1 => intro ls st h nc ns hf; exact hf.elim
def bX0_put_2 : jjB := fun e K k => match k with
  | 0 => (ji_aload 0 (ji_iload 1 (ji_callV e MX0_isBook 0 2 (ji_if_eq (K 1)
    (ji_aload 0 (ji_iload 1 (ji_callV e MX0_whereIs 0 2 (ji_const 3 (ji_icmp_lt (K 1)
    (ji_iload 2 (ji_callS e MX0_isShelf 1 (ji_if_eq (K 1)
    (ji_iload 3 (ji_const 0 (ji_aload 0 (ji_getfR 0 0 (ji_iload 2 (ji_callV e MX1_many 1 2 (ji_callS e MX0_in 3 (ji_if_eq (K 1)
    (ji_aload 0 (ji_iload 2 (ji_callV e MX0_fullOf 0 2 (ji_aload 0 (ji_iload 1 (ji_callV e MX0_thickNow 0 2 (ji_iadd (ji_aload 0 (ji_getfR 0 0 (ji_getfR 1 1 (ji_iload 2 (ji_iald (ji_icmp_le (ji_aload 0 (ji_getfR 0 0 (ji_callV e MX1_keeps 1 1 (ji_aload 0 (ji_getfR 0 0 (ji_iload 2 (ji_iload 3 (ji_iload 1 (ji_callV e MX1_inserts 1 4 (ji_aload 0 (ji_getfR 0 0 (ji_iload 2 (ji_callV e MX1_many 1 2 (ji_ireturn e))))))))))))))
    (K 1))))))))))))))))))))))))))))))))))
  | 1 => (ji_const (-1) (ji_ireturn e))
  | _ => fun _ _ _ _ _ => False
def pX0_put_2 : Nat → Nat := fun k => match k with
  | 0 => 0
  | 1 => 63
  | _ => 0
theorem sX0_put_2 : jSound bX0_put_2 pX0_put_2 MX0_put_2 := by
  intro e p ev R s m args below meth c hX hr hn hlk K hK k
  match k with
  | 0 => exact (js_aload_n hX dX0_put_2_0 rfl (js_iload_n hX dX0_put_2_1 rfl (js_callV hX MX0_isBook (ci := 0) (n := 1) (RX0, TX0, 20) rfl rfl (lw_V q959 q961 qs27 q152 q962) npX0_isBook dX0_put_2_2 (js_if_eq hX (tgt := 63) dX0_put_2_5 rfl (hK 1)
    (js_aload_n hX dX0_put_2_8 rfl (js_iload_n hX dX0_put_2_9 rfl (js_callV hX MX0_whereIs (ci := 0) (n := 1) (RX0, TX0, 20) rfl rfl (lw_V q1059 q1061 qs38 q152 q1062) npX0_whereIs dX0_put_2_10 (js_const hX (z := 3) (by unfold inI; omega) dX0_put_2_13 (Or.inl ⟨3, rfl, rfl, rfl⟩) (js_icmp_lt hX (tgt := 63) dX0_put_2_14 rfl (hK 1)
    (js_iload_n hX dX0_put_2_17 rfl (js_callS hX MX0_isShelf (n := 1) (lw_S q322 q323 q152 q324) npX0_isShelf dX0_put_2_18 (js_if_eq hX (tgt := 63) dX0_put_2_21 rfl (hK 1)
    (js_iload_n hX dX0_put_2_24 rfl (js_const hX (z := 0) (by unfold inI; omega) dX0_put_2_25 (Or.inl ⟨0, rfl, rfl, rfl⟩) (js_aload_n hX dX0_put_2_26 rfl (js_getfR hX (ci := 0) (k := 0) (RX0, TX0, 20) rfl (by decide) rfl (Or.inl q255) (fun _ h => h) dX0_put_2_27 (js_iload_n hX dX0_put_2_30 rfl (js_callV hX MX1_many (ci := 1) (n := 1) (RX1, TX1, 7) rfl rfl (lw_V q332 q333 q334 q153 q335) npX1_many dX0_put_2_31 (js_callS hX MX0_in (n := 3) (lw_S q325 q326 q152 q327) npX0_in dX0_put_2_34 (js_if_eq hX (tgt := 63) dX0_put_2_37 rfl (hK 1)
    (js_aload_n hX dX0_put_2_40 rfl (js_iload_n hX dX0_put_2_41 rfl (js_callV hX MX0_fullOf (ci := 0) (n := 1) (RX0, TX0, 20) rfl rfl (lw_V q328 q330 qs0 q152 q331) npX0_fullOf dX0_put_2_42 (js_aload_n hX dX0_put_2_45 rfl (js_iload_n hX dX0_put_2_46 rfl (js_callV hX MX0_thickNow (ci := 0) (n := 1) (RX0, TX0, 20) rfl rfl (lw_V q340 q342 qs1 q152 q343) npX0_thickNow dX0_put_2_47 (js_iadd hX dX0_put_2_50 (js_aload_n hX dX0_put_2_51 rfl (js_getfR hX (ci := 0) (k := 0) (RX0, TX0, 20) rfl (by decide) rfl (Or.inl q255) (fun _ h => h) dX0_put_2_52 (js_getfR hX (ci := 1) (k := 1) (RX1, TX1, 7) rfl (by decide) rfl (Or.inr ⟨_, q214⟩) (fun _ h => h) dX0_put_2_55 (js_iload_n hX dX0_put_2_58 rfl (js_iald hX dX0_put_2_59 (js_icmp_le hX (tgt := 65) dX0_put_2_60 rfl (js_aload_n hX dX0_put_2_65 rfl (js_getfR hX (ci := 0) (k := 0) (RX0, TX0, 20) rfl (by decide) rfl (Or.inl q255) (fun _ h => h) dX0_put_2_66 (js_callV hX MX1_keeps (ci := 1) (n := 0) (RX1, TX1, 7) rfl rfl (lw_V q1010 q1011 q1012 q153 q1013) npX1_keeps dX0_put_2_69 (js_aload_n hX dX0_put_2_72 rfl (js_getfR hX (ci := 0) (k := 0) (RX0, TX0, 20) rfl (by decide) rfl (Or.inl q255) (fun _ h => h) dX0_put_2_73 (js_iload_n hX dX0_put_2_76 rfl (js_iload_n hX dX0_put_2_77 rfl (js_iload_n hX dX0_put_2_78 rfl (js_callV hX MX1_inserts (ci := 1) (n := 3) (RX1, TX1, 7) rfl rfl (lw_V q1072 q1073 q1074 q153 q1075) npX1_inserts dX0_put_2_79 (js_aload_n hX dX0_put_2_82 rfl (js_getfR hX (ci := 0) (k := 0) (RX0, TX0, 20) rfl (by decide) rfl (Or.inl q255) (fun _ h => h) dX0_put_2_83 (js_iload_n hX dX0_put_2_86 rfl (js_callV hX MX1_many (ci := 1) (n := 1) (RX1, TX1, 7) rfl rfl (lw_V q332 q333 q334 q153 q335) npX1_many dX0_put_2_87 (js_ireturn hX hr hlk dX0_put_2_90))))))))))))))
    (hK 1))))))))))))))))))))))))))))))))))
  | 1 => exact (js_const hX (z := (-1)) (by unfold inI; omega) dX0_put_2_63 (Or.inl ⟨(-1), rfl, rfl, rfl⟩) (js_ireturn hX hr hlk dX0_put_2_64))
  | k + 2 => intro ls st h nc ns hf; exact hf.elim
def bX0_wet : jjB := fun e K k => match k with
  | 0 => (ji_iload 1 (ji_if_eq (ji_const 0 (K 1))
    (ji_const 1 (ji_goto (K 1)))))
  | 1 => (ji_istore 2 (ji_aload 0 (ji_getfR 0 0 (ji_getfR 1 2 (ji_const 43 (ji_iald (ji_iload 2 (ji_icmp_ne (ji_aload 0 (ji_getfR 0 0 (ji_callV e MX1_keeps 1 1 (ji_aload 0 (ji_getfR 0 0 (ji_getfR 1 2 (ji_const 43 (ji_iload 2 (ji_iast (ji_iload 1 (ji_if_eq (ji_const 0 (K 2))
    (ji_aload 0 (ji_callV e MX0_fall 0 1 (ji_goto (K 2)))))))))))))))
    (ji_const (-1) (ji_ireturn e))))))))))
  | 2 => (ji_ireturn e)
  | _ => fun _ _ _ _ _ => False
def pX0_wet : Nat → Nat := fun k => match k with
  | 0 => 0
  | 1 => 9
  | 2 => 56
  | _ => 0
theorem sX0_wet : jSound bX0_wet pX0_wet MX0_wet := by
  intro e p ev R s m args below meth c hX hr hn hlk K hK k
  match k with
  | 0 => exact (js_iload_n hX dX0_wet_0 rfl (js_if_eq hX (tgt := 8) dX0_wet_1 rfl (js_const hX (z := 0) (by unfold inI; omega) dX0_wet_8 (Or.inl ⟨0, rfl, rfl, rfl⟩) (hK 1))
    (js_const hX (z := 1) (by unfold inI; omega) dX0_wet_4 (Or.inl ⟨1, rfl, rfl, rfl⟩) (js_goto hX (tgt := 9) dX0_wet_5 rfl (hK 1)))))
  | 1 => exact (js_istore_n hX dX0_wet_9 rfl (by decide) (js_aload_n hX dX0_wet_10 rfl (js_getfR hX (ci := 0) (k := 0) (RX0, TX0, 20) rfl (by decide) rfl (Or.inl q255) (fun _ h => h) dX0_wet_11 (js_getfR hX (ci := 1) (k := 2) (RX1, TX1, 7) rfl (by decide) rfl (Or.inr ⟨_, q216⟩) (fun _ h => h) dX0_wet_14 (js_const hX (z := 43) (by unfold inI; omega) dX0_wet_17 (Or.inr (Or.inl ⟨43, rfl, rfl, rfl⟩)) (js_iald hX dX0_wet_19 (js_iload_n hX dX0_wet_20 rfl (js_icmp_ne hX (tgt := 26) dX0_wet_21 rfl (js_aload_n hX dX0_wet_26 rfl (js_getfR hX (ci := 0) (k := 0) (RX0, TX0, 20) rfl (by decide) rfl (Or.inl q255) (fun _ h => h) dX0_wet_27 (js_callV hX MX1_keeps (ci := 1) (n := 0) (RX1, TX1, 7) rfl rfl (lw_V q1010 q1011 q1012 q153 q1013) npX1_keeps dX0_wet_30 (js_aload_n hX dX0_wet_33 rfl (js_getfR hX (ci := 0) (k := 0) (RX0, TX0, 20) rfl (by decide) rfl (Or.inl q255) (fun _ h => h) dX0_wet_34 (js_getfR hX (ci := 1) (k := 2) (RX1, TX1, 7) rfl (by decide) rfl (Or.inr ⟨_, q216⟩) (fun _ h => h) dX0_wet_37 (js_const hX (z := 43) (by unfold inI; omega) dX0_wet_40 (Or.inr (Or.inl ⟨43, rfl, rfl, rfl⟩)) (js_iload_n hX dX0_wet_42 rfl (js_iast hX dX0_wet_43 (js_iload_n hX dX0_wet_44 rfl (js_if_eq hX (tgt := 55) dX0_wet_45 rfl (js_const hX (z := 0) (by unfold inI; omega) dX0_wet_55 (Or.inl ⟨0, rfl, rfl, rfl⟩) (hK 2))
    (js_aload_n hX dX0_wet_48 rfl (js_callV hX MX0_fall (ci := 0) (n := 0) (RX0, TX0, 20) rfl rfl (lw_V q1034 q1036 qs35 q152 q1037) npX0_fall dX0_wet_49 (js_goto hX (tgt := 56) dX0_wet_52 rfl (hK 2)))))))))))))))
    (js_const hX (z := (-1)) (by unfold inI; omega) dX0_wet_24 (Or.inl ⟨(-1), rfl, rfl, rfl⟩) (js_ireturn hX hr hlk dX0_wet_25))))))))))
  | 2 => exact (js_ireturn hX hr hlk dX0_wet_56)
  | k + 3 => intro ls st h nc ns hf; exact hf.elim
def bX0_played : jjB := fun e K k => match k with
  | 0 => (ji_aload 0 (ji_iload 1 (ji_callV e MX0_isText 0 2 (ji_if_ne (ji_aload 0 (ji_getfR 0 0 (ji_getfR 1 6 (ji_iload 1 (ji_aald (-6) (ji_getfR 4 5 (ji_astore 2 (ji_const 0 (ji_istore 3 (K 1))))))))))
    (ji_const (-2) (ji_ireturn e))))))
  | 1 => (ji_iload 3 (ji_aload 2 (ji_callV e MJ6_size 14 1 (ji_icmp_ge (ji_const (-1) (ji_ireturn e))
    (ji_aload 2 (ji_iload 3 (ji_callV e MJ6_get 14 2 (ji_cast [13] (ji_astore 4 (ji_aload 4 (ji_callV e MX13_sort 13 1 (ji_tsw 204 (ji_aload 0 (ji_aload 4 (ji_callV e MX13_sort 13 1 (ji_const 208 (ji_icmp_ne (ji_const 0 (K 2))
    (ji_const 1 (ji_goto (K 2)))))))) [(ji_aload 0 (ji_aload 4 (ji_callV e MX13_a 13 1 (ji_callV e MX0_night 0 2 (ji_istore 5 (ji_goto (K 3))))))), (ji_aload 0 (ji_aload 4 (ji_callV e MX13_a 13 1 (ji_aload 4 (ji_callV e MX13_b 13 1 (ji_callV e MX0_nudge 0 3 (ji_istore 5 (ji_goto (K 3))))))))), (ji_aload 0 (ji_aload 4 (ji_callV e MX13_a 13 1 (ji_callV e MX0_take 0 2 (ji_istore 5 (ji_goto (K 3))))))), (ji_aload 0 (ji_aload 4 (ji_callV e MX13_a 13 1 (ji_aload 4 (ji_callV e MX13_b 13 1 (ji_aload 4 (ji_callV e MX13_c 13 1 (ji_callV e MX0_put_2 0 4 (ji_istore 5 (ji_goto (K 3)))))))))))]))))))))))))
  | 2 => (ji_callV e MX0_wet 0 2 (ji_istore 5 (K 3)))
  | 3 => (ji_iload 5 (ji_const (-1) (ji_icmp_ne (ji_iinc 3 1 (ji_goto (K 1)))
    (ji_aload 4 (ji_callV e MX13_number 13 1 (ji_ireturn e))))))
  | _ => fun _ _ _ _ _ => False
def pX0_played : Nat → Nat := fun k => match k with
  | 0 => 0
  | 1 => 26
  | 2 => 168
  | 3 => 173
  | _ => 0
theorem sX0_played : jSound bX0_played pX0_played MX0_played := by
  intro e p ev R s m args below meth c hX hr hn hlk K hK k
  match k with
  | 0 => exact (js_aload_n hX dX0_played_0 rfl (js_iload_n hX dX0_played_1 rfl (js_callV hX MX0_isText (ci := 0) (n := 1) (RX0, TX0, 20) rfl rfl (lw_V q951 q953 qs26 q152 q954) npX0_isText dX0_played_2 (js_if_ne hX (tgt := 11) dX0_played_5 rfl (js_aload_n hX dX0_played_11 rfl (js_getfR hX (ci := 0) (k := 0) (RX0, TX0, 20) rfl (by decide) rfl (Or.inl q255) (fun _ h => h) dX0_played_12 (js_getfR hX (ci := 1) (k := 6) (RX1, TX1, 7) rfl (by decide) rfl (Or.inr ⟨_, q224⟩) (fun _ h => h) dX0_played_15 (js_iload_n hX dX0_played_18 rfl (js_aald hX (cd := (-6)) (by decide) rfl rfl dX0_played_19 (js_getfR hX (ci := 4) (k := 5) (RX4, TX4, 6) rfl (by decide) rfl (Or.inr ⟨_, q529⟩) (fun _ h => h) dX0_played_20 (js_astore_n hX dX0_played_23 rfl (by decide) (js_const hX (z := 0) (by unfold inI; omega) dX0_played_24 (Or.inl ⟨0, rfl, rfl, rfl⟩) (js_istore_n hX dX0_played_25 rfl (by decide) (hK 1))))))))))
    (js_const hX (z := (-2)) (by unfold inI; omega) dX0_played_8 (Or.inr (Or.inl ⟨(-2), rfl, rfl, rfl⟩)) (js_ireturn hX hr hlk dX0_played_10))))))
  | 1 => exact (js_iload_n hX dX0_played_26 rfl (js_aload_n hX dX0_played_27 rfl (js_callV hX MJ6_size (ci := 14) (n := 0) (RJ6, TJ6, 3) rfl rfl (lw_V q1084 q389 q390 q164 q391) npJ6_size dX0_played_28 (js_icmp_ge hX (tgt := 191) dX0_played_31 rfl (js_const hX (z := (-1)) (by unfold inI; omega) dX0_played_191 (Or.inl ⟨(-1), rfl, rfl, rfl⟩) (js_ireturn hX hr hlk dX0_played_192))
    (js_aload_n hX dX0_played_34 rfl (js_iload_n hX dX0_played_35 rfl (js_callV hX MJ6_get (ci := 14) (n := 1) (RJ6, TJ6, 3) rfl rfl (lw_V q1085 q393 q394 q164 q395) npJ6_get dX0_played_36 (js_cast hX (cs := [13]) q1086 (jCA_Doing) dX0_played_39 (js_astore hX dX0_played_42 (by decide) (js_aload hX dX0_played_44 (js_callV hX MX13_sort (ci := 13) (n := 0) (RX13, TX13, 5) rfl rfl (lw_V q1087 q1088 q1089 q183 q1090) npX13_sort dX0_played_46 (js_tsw hX (dflt := 102) (lo := 204) (hi := 207) (tgt := 151) (tgts := [80, 94, 113, 127]) (offs := #[31, 45, 64, 78]) dX0_played_49 rfl (by decide) (js_aload_n hX dX0_played_151 rfl (js_aload hX dX0_played_152 (js_callV hX MX13_sort (ci := 13) (n := 0) (RX13, TX13, 5) rfl rfl (lw_V q1087 q1088 q1089 q183 q1090) npX13_sort dX0_played_154 (js_const hX (z := 208) (by unfold inI; omega) dX0_played_157 (Or.inr (Or.inr (Or.inl ⟨208, rfl, rfl, rfl⟩))) (js_icmp_ne hX (tgt := 167) dX0_played_160 rfl (js_const hX (z := 0) (by unfold inI; omega) dX0_played_167 (Or.inl ⟨0, rfl, rfl, rfl⟩) (hK 2))
    (js_const hX (z := 1) (by unfold inI; omega) dX0_played_163 (Or.inl ⟨1, rfl, rfl, rfl⟩) (js_goto hX (tgt := 168) dX0_played_164 rfl (hK 2)))))))) (jswl_cons (js_aload_n hX dX0_played_80 rfl (js_aload hX dX0_played_81 (js_callV hX MX13_a (ci := 13) (n := 0) (RX13, TX13, 5) rfl rfl (lw_V q1091 q1092 q1093 q183 q1094) npX13_a dX0_played_83 (js_callV hX MX0_night (ci := 0) (n := 1) (RX0, TX0, 20) rfl rfl (lw_V q1095 q1003 q1004 q152 q1005) npX0_night dX0_played_86 (js_istore hX dX0_played_89 (by decide) (js_goto hX (tgt := 173) dX0_played_91 rfl (hK 3))))))) (jswl_cons (js_aload_n hX dX0_played_94 rfl (js_aload hX dX0_played_95 (js_callV hX MX13_a (ci := 13) (n := 0) (RX13, TX13, 5) rfl rfl (lw_V q1091 q1092 q1093 q183 q1094) npX13_a dX0_played_97 (js_aload hX dX0_played_100 (js_callV hX MX13_b (ci := 13) (n := 0) (RX13, TX13, 5) rfl rfl (lw_V q1096 q1097 q1098 q183 q1099) npX13_b dX0_played_102 (js_callV hX MX0_nudge (ci := 0) (n := 2) (RX0, TX0, 20) rfl rfl (lw_V q1100 q1052 q1053 q152 q1054) npX0_nudge dX0_played_105 (js_istore hX dX0_played_108 (by decide) (js_goto hX (tgt := 173) dX0_played_110 rfl (hK 3))))))))) (jswl_cons (js_aload_n hX dX0_played_113 rfl (js_aload hX dX0_played_114 (js_callV hX MX13_a (ci := 13) (n := 0) (RX13, TX13, 5) rfl rfl (lw_V q1091 q1092 q1093 q183 q1094) npX13_a dX0_played_116 (js_callV hX MX0_take (ci := 0) (n := 1) (RX0, TX0, 20) rfl rfl (lw_V q1101 q1056 q1057 q152 q1058) npX0_take dX0_played_119 (js_istore hX dX0_played_122 (by decide) (js_goto hX (tgt := 173) dX0_played_124 rfl (hK 3))))))) (jswl_cons (js_aload_n hX dX0_played_127 rfl (js_aload hX dX0_played_128 (js_callV hX MX13_a (ci := 13) (n := 0) (RX13, TX13, 5) rfl rfl (lw_V q1091 q1092 q1093 q183 q1094) npX13_a dX0_played_130 (js_aload hX dX0_played_133 (js_callV hX MX13_b (ci := 13) (n := 0) (RX13, TX13, 5) rfl rfl (lw_V q1096 q1097 q1098 q183 q1099) npX13_b dX0_played_135 (js_aload hX dX0_played_138 (js_callV hX MX13_c (ci := 13) (n := 0) (RX13, TX13, 5) rfl rfl (lw_V q1102 q1103 q1104 q183 q1105) npX13_c dX0_played_140 (js_callV hX MX0_put_2 (ci := 0) (n := 3) (RX0, TX0, 20) rfl rfl (lw_V q1106 q1069 q1070 q152 q1071) npX0_put_2 dX0_played_143 (js_istore hX dX0_played_146 (by decide) (js_goto hX (tgt := 173) dX0_played_148 rfl (hK 3))))))))))) jswl_nil))))))))))))))))
  | 2 => exact (js_callV hX MX0_wet (ci := 0) (n := 1) (RX0, TX0, 20) rfl rfl (lw_V q1107 q1077 q1078 q152 q1079) npX0_wet dX0_played_168 (js_istore hX dX0_played_171 (by decide) (hK 3)))
  | 3 => exact (js_iload hX dX0_played_173 (js_const hX (z := (-1)) (by unfold inI; omega) dX0_played_175 (Or.inl ⟨(-1), rfl, rfl, rfl⟩) (js_icmp_ne hX (tgt := 185) dX0_played_176 rfl (js_iinc hX dX0_played_185 (by decide) (js_goto hX (tgt := 26) dX0_played_188 rfl (hK 1)))
    (js_aload hX dX0_played_179 (js_callV hX MX13_number (ci := 13) (n := 0) (RX13, TX13, 5) rfl rfl (lw_V q1108 q1109 q1110 q183 q1111) npX13_number dX0_played_181 (js_ireturn hX hr hlk dX0_played_184))))))
  | k + 4 => intro ls st h nc ns hf; exact hf.elim
def bX0_year : jjB := fun e K k => match k with
  | 0 => (ji_iload 1 (ji_const 0 (ji_const 9999 (ji_callS e MX0_in 3 (ji_if_eq (K 1)
    (ji_iload 2 (ji_const 1 (ji_const 40 (ji_callS e MX0_in 3 (ji_if_eq (K 1)
    (ji_aload 0 (ji_getfR 0 0 (ji_getfR 1 0 (ji_const 0 (ji_iald (ji_if_ne (ji_aload 0 (ji_getfR 0 0 (ji_callV e MX1_keeps 1 1 (ji_aload 0 (ji_getfR 0 0 (ji_getfR 1 2 (ji_const 45 (ji_iload 1 (ji_const 4 (ji_imul (ji_const 31 (ji_iadd (ji_iast (ji_const 0 (ji_istore 3 (ji_const 0 (ji_istore 4 (K 2))))))))))))))))))
    (K 1)))))))))))))))))
  | 1 => (ji_const (-1) (ji_ireturn e))
  | 2 => (ji_iload 4 (ji_iload 2 (ji_icmp_ge (ji_iload 3 (ji_ireturn e))
    (ji_aload 0 (ji_callV e MX0_drawn 0 1 (ji_aload 0 (ji_getfR 0 0 (ji_getfR 1 0 (ji_const 0 (ji_iald (ji_irem (ji_istore 5 (ji_aload 0 (ji_iload 5 (ji_callV e MX0_whereIs 0 2 (ji_istore 6 (ji_iload 6 (ji_const 3 (ji_icmp_ge (K 4)
    (ji_aload 0 (ji_getfR 0 0 (ji_iload 6 (ji_callV e MX1_many 1 2 (ji_const 1 (ji_icmp_le (K 4)
    (ji_aload 0 (ji_callV e MX0_drawn 0 1 (ji_aload 0 (ji_getfR 0 0 (ji_iload 6 (ji_callV e MX1_many 1 2 (ji_irem (ji_istore 7 (ji_aload 0 (ji_getfR 0 0 (ji_iload 5 (ji_callV e MX1_placeOf 1 2 (ji_istore 8 (ji_aload 0 (ji_getfR 0 0 (ji_iload 6 (ji_iload 8 (ji_callV e MX1_removes 1 3 (ji_aload 0 (ji_getfR 0 0 (ji_iload 6 (ji_iload 7 (ji_iload 5 (ji_callV e MX1_inserts 1 4 (ji_iload 3 (ji_iload 7 (ji_iload 8 (ji_icmp_ne (ji_const 1 (K 3))
    (ji_const 0 (ji_goto (K 3))))))))))))))))))))))))))))))))))))))))))))))))))))))))
  | 3 => (ji_iadd (ji_istore 3 (K 4)))
  | 4 => (ji_aload 0 (ji_callV e MX0_drawn 0 1 (ji_const 10 (ji_irem (ji_const 3 (ji_icmp_lt (ji_aload 0 (ji_getfR 0 0 (ji_getfR 1 2 (ji_const 43 (ji_const 1 (ji_aload 0 (ji_getfR 0 0 (ji_getfR 1 2 (ji_const 43 (ji_iald (ji_isub (ji_iast (ji_aload 0 (ji_getfR 0 0 (ji_getfR 1 2 (ji_const 43 (ji_iald (ji_const 1 (ji_icmp_ne (ji_const 0 (K 5))
    (ji_aload 0 (ji_callV e MX0_fall 0 1 (ji_goto (K 5)))))))))))))))))))))))
    (ji_goto (K 6))))))))
  | 5 => (ji_istore 7 (K 6))
  | 6 => (ji_iinc 4 1 (ji_goto (K 2)))
  | _ => fun _ _ _ _ _ => False
def pX0_year : Nat → Nat := fun k => match k with
  | 0 => 0
  | 1 => 33
  | 2 => 63
  | 3 => 176
  | 4 => 178
  | 5 => 236
  | 6 => 238
  | _ => 0
theorem sX0_year : jSound bX0_year pX0_year MX0_year := by
  intro e p ev R s m args below meth c hX hr hn hlk K hK k
  match k with
  | 0 => exact (js_iload_n hX dX0_year_0 rfl (js_const hX (z := 0) (by unfold inI; omega) dX0_year_1 (Or.inl ⟨0, rfl, rfl, rfl⟩) (js_const hX (z := 9999) (by unfold inI; omega) dX0_year_2 (Or.inr (Or.inr (Or.inl ⟨9999, rfl, rfl, rfl⟩))) (js_callS hX MX0_in (n := 3) (lw_S q325 q326 q152 q327) npX0_in dX0_year_5 (js_if_eq hX (tgt := 33) dX0_year_8 rfl (hK 1)
    (js_iload_n hX dX0_year_11 rfl (js_const hX (z := 1) (by unfold inI; omega) dX0_year_12 (Or.inl ⟨1, rfl, rfl, rfl⟩) (js_const hX (z := 40) (by unfold inI; omega) dX0_year_13 (Or.inr (Or.inl ⟨40, rfl, rfl, rfl⟩)) (js_callS hX MX0_in (n := 3) (lw_S q325 q326 q152 q327) npX0_in dX0_year_15 (js_if_eq hX (tgt := 33) dX0_year_18 rfl (hK 1)
    (js_aload_n hX dX0_year_21 rfl (js_getfR hX (ci := 0) (k := 0) (RX0, TX0, 20) rfl (by decide) rfl (Or.inl q255) (fun _ h => h) dX0_year_22 (js_getfR hX (ci := 1) (k := 0) (RX1, TX1, 7) rfl (by decide) rfl (Or.inr ⟨_, q212⟩) (fun _ h => h) dX0_year_25 (js_const hX (z := 0) (by unfold inI; omega) dX0_year_28 (Or.inl ⟨0, rfl, rfl, rfl⟩) (js_iald hX dX0_year_29 (js_if_ne hX (tgt := 35) dX0_year_30 rfl (js_aload_n hX dX0_year_35 rfl (js_getfR hX (ci := 0) (k := 0) (RX0, TX0, 20) rfl (by decide) rfl (Or.inl q255) (fun _ h => h) dX0_year_36 (js_callV hX MX1_keeps (ci := 1) (n := 0) (RX1, TX1, 7) rfl rfl (lw_V q1010 q1011 q1012 q153 q1013) npX1_keeps dX0_year_39 (js_aload_n hX dX0_year_42 rfl (js_getfR hX (ci := 0) (k := 0) (RX0, TX0, 20) rfl (by decide) rfl (Or.inl q255) (fun _ h => h) dX0_year_43 (js_getfR hX (ci := 1) (k := 2) (RX1, TX1, 7) rfl (by decide) rfl (Or.inr ⟨_, q216⟩) (fun _ h => h) dX0_year_46 (js_const hX (z := 45) (by unfold inI; omega) dX0_year_49 (Or.inr (Or.inl ⟨45, rfl, rfl, rfl⟩)) (js_iload_n hX dX0_year_51 rfl (js_const hX (z := 4) (by unfold inI; omega) dX0_year_52 (Or.inl ⟨4, rfl, rfl, rfl⟩) (js_imul hX dX0_year_53 (js_const hX (z := 31) (by unfold inI; omega) dX0_year_54 (Or.inr (Or.inl ⟨31, rfl, rfl, rfl⟩)) (js_iadd hX dX0_year_56 (js_iast hX dX0_year_57 (js_const hX (z := 0) (by unfold inI; omega) dX0_year_58 (Or.inl ⟨0, rfl, rfl, rfl⟩) (js_istore_n hX dX0_year_59 rfl (by decide) (js_const hX (z := 0) (by unfold inI; omega) dX0_year_60 (Or.inl ⟨0, rfl, rfl, rfl⟩) (js_istore hX dX0_year_61 (by decide) (hK 2))))))))))))))))))
    (hK 1)))))))))))))))))
  | 1 => exact (js_const hX (z := (-1)) (by unfold inI; omega) dX0_year_33 (Or.inl ⟨(-1), rfl, rfl, rfl⟩) (js_ireturn hX hr hlk dX0_year_34))
  | 2 => exact (js_iload hX dX0_year_63 (js_iload_n hX dX0_year_65 rfl (js_icmp_ge hX (tgt := 244) dX0_year_66 rfl (js_iload_n hX dX0_year_244 rfl (js_ireturn hX hr hlk dX0_year_245))
    (js_aload_n hX dX0_year_69 rfl (js_callV hX MX0_drawn (ci := 0) (n := 0) (RX0, TX0, 20) rfl rfl (lw_V q1116 q1118 qs39 q152 q1119) npX0_drawn dX0_year_70 (js_aload_n hX dX0_year_73 rfl (js_getfR hX (ci := 0) (k := 0) (RX0, TX0, 20) rfl (by decide) rfl (Or.inl q255) (fun _ h => h) dX0_year_74 (js_getfR hX (ci := 1) (k := 0) (RX1, TX1, 7) rfl (by decide) rfl (Or.inr ⟨_, q212⟩) (fun _ h => h) dX0_year_77 (js_const hX (z := 0) (by unfold inI; omega) dX0_year_80 (Or.inl ⟨0, rfl, rfl, rfl⟩) (js_iald hX dX0_year_81 (js_irem hX dX0_year_82 (js_istore hX dX0_year_83 (by decide) (js_aload_n hX dX0_year_85 rfl (js_iload hX dX0_year_86 (js_callV hX MX0_whereIs (ci := 0) (n := 1) (RX0, TX0, 20) rfl rfl (lw_V q1059 q1061 qs38 q152 q1062) npX0_whereIs dX0_year_88 (js_istore hX dX0_year_91 (by decide) (js_iload hX dX0_year_93 (js_const hX (z := 3) (by unfold inI; omega) dX0_year_95 (Or.inl ⟨3, rfl, rfl, rfl⟩) (js_icmp_ge hX (tgt := 178) dX0_year_96 rfl (hK 4)
    (js_aload_n hX dX0_year_99 rfl (js_getfR hX (ci := 0) (k := 0) (RX0, TX0, 20) rfl (by decide) rfl (Or.inl q255) (fun _ h => h) dX0_year_100 (js_iload hX dX0_year_103 (js_callV hX MX1_many (ci := 1) (n := 1) (RX1, TX1, 7) rfl rfl (lw_V q332 q333 q334 q153 q335) npX1_many dX0_year_105 (js_const hX (z := 1) (by unfold inI; omega) dX0_year_108 (Or.inl ⟨1, rfl, rfl, rfl⟩) (js_icmp_le hX (tgt := 178) dX0_year_109 rfl (hK 4)
    (js_aload_n hX dX0_year_112 rfl (js_callV hX MX0_drawn (ci := 0) (n := 0) (RX0, TX0, 20) rfl rfl (lw_V q1116 q1118 qs39 q152 q1119) npX0_drawn dX0_year_113 (js_aload_n hX dX0_year_116 rfl (js_getfR hX (ci := 0) (k := 0) (RX0, TX0, 20) rfl (by decide) rfl (Or.inl q255) (fun _ h => h) dX0_year_117 (js_iload hX dX0_year_120 (js_callV hX MX1_many (ci := 1) (n := 1) (RX1, TX1, 7) rfl rfl (lw_V q332 q333 q334 q153 q335) npX1_many dX0_year_122 (js_irem hX dX0_year_125 (js_istore hX dX0_year_126 (by decide) (js_aload_n hX dX0_year_128 rfl (js_getfR hX (ci := 0) (k := 0) (RX0, TX0, 20) rfl (by decide) rfl (Or.inl q255) (fun _ h => h) dX0_year_129 (js_iload hX dX0_year_132 (js_callV hX MX1_placeOf (ci := 1) (n := 1) (RX1, TX1, 7) rfl rfl (lw_V q1063 q1064 q1065 q153 q1066) npX1_placeOf dX0_year_134 (js_istore hX dX0_year_137 (by decide) (js_aload_n hX dX0_year_139 rfl (js_getfR hX (ci := 0) (k := 0) (RX0, TX0, 20) rfl (by decide) rfl (Or.inl q255) (fun _ h => h) dX0_year_140 (js_iload hX dX0_year_143 (js_iload hX dX0_year_145 (js_callV hX MX1_removes (ci := 1) (n := 2) (RX1, TX1, 7) rfl rfl (lw_V q1046 q1047 q1048 q153 q1049) npX1_removes dX0_year_147 (js_aload_n hX dX0_year_150 rfl (js_getfR hX (ci := 0) (k := 0) (RX0, TX0, 20) rfl (by decide) rfl (Or.inl q255) (fun _ h => h) dX0_year_151 (js_iload hX dX0_year_154 (js_iload hX dX0_year_156 (js_iload hX dX0_year_158 (js_callV hX MX1_inserts (ci := 1) (n := 3) (RX1, TX1, 7) rfl rfl (lw_V q1072 q1073 q1074 q153 q1075) npX1_inserts dX0_year_160 (js_iload_n hX dX0_year_163 rfl (js_iload hX dX0_year_164 (js_iload hX dX0_year_166 (js_icmp_ne hX (tgt := 175) dX0_year_168 rfl (js_const hX (z := 1) (by unfold inI; omega) dX0_year_175 (Or.inl ⟨1, rfl, rfl, rfl⟩) (hK 3))
    (js_const hX (z := 0) (by unfold inI; omega) dX0_year_171 (Or.inl ⟨0, rfl, rfl, rfl⟩) (js_goto hX (tgt := 176) dX0_year_172 rfl (hK 3))))))))))))))))))))))))))))))))))))))))))))))))))))))))
  | 3 => exact (js_iadd hX dX0_year_176 (js_istore_n hX dX0_year_177 rfl (by decide) (hK 4)))
  | 4 => exact (js_aload_n hX dX0_year_178 rfl (js_callV hX MX0_drawn (ci := 0) (n := 0) (RX0, TX0, 20) rfl rfl (lw_V q1116 q1118 qs39 q152 q1119) npX0_drawn dX0_year_179 (js_const hX (z := 10) (by unfold inI; omega) dX0_year_182 (Or.inr (Or.inl ⟨10, rfl, rfl, rfl⟩)) (js_irem hX dX0_year_184 (js_const hX (z := 3) (by unfold inI; omega) dX0_year_185 (Or.inl ⟨3, rfl, rfl, rfl⟩) (js_icmp_lt hX (tgt := 192) dX0_year_186 rfl (js_aload_n hX dX0_year_192 rfl (js_getfR hX (ci := 0) (k := 0) (RX0, TX0, 20) rfl (by decide) rfl (Or.inl q255) (fun _ h => h) dX0_year_193 (js_getfR hX (ci := 1) (k := 2) (RX1, TX1, 7) rfl (by decide) rfl (Or.inr ⟨_, q216⟩) (fun _ h => h) dX0_year_196 (js_const hX (z := 43) (by unfold inI; omega) dX0_year_199 (Or.inr (Or.inl ⟨43, rfl, rfl, rfl⟩)) (js_const hX (z := 1) (by unfold inI; omega) dX0_year_201 (Or.inl ⟨1, rfl, rfl, rfl⟩) (js_aload_n hX dX0_year_202 rfl (js_getfR hX (ci := 0) (k := 0) (RX0, TX0, 20) rfl (by decide) rfl (Or.inl q255) (fun _ h => h) dX0_year_203 (js_getfR hX (ci := 1) (k := 2) (RX1, TX1, 7) rfl (by decide) rfl (Or.inr ⟨_, q216⟩) (fun _ h => h) dX0_year_206 (js_const hX (z := 43) (by unfold inI; omega) dX0_year_209 (Or.inr (Or.inl ⟨43, rfl, rfl, rfl⟩)) (js_iald hX dX0_year_211 (js_isub hX dX0_year_212 (js_iast hX dX0_year_213 (js_aload_n hX dX0_year_214 rfl (js_getfR hX (ci := 0) (k := 0) (RX0, TX0, 20) rfl (by decide) rfl (Or.inl q255) (fun _ h => h) dX0_year_215 (js_getfR hX (ci := 1) (k := 2) (RX1, TX1, 7) rfl (by decide) rfl (Or.inr ⟨_, q216⟩) (fun _ h => h) dX0_year_218 (js_const hX (z := 43) (by unfold inI; omega) dX0_year_221 (Or.inr (Or.inl ⟨43, rfl, rfl, rfl⟩)) (js_iald hX dX0_year_223 (js_const hX (z := 1) (by unfold inI; omega) dX0_year_224 (Or.inl ⟨1, rfl, rfl, rfl⟩) (js_icmp_ne hX (tgt := 235) dX0_year_225 rfl (js_const hX (z := 0) (by unfold inI; omega) dX0_year_235 (Or.inl ⟨0, rfl, rfl, rfl⟩) (hK 5))
    (js_aload_n hX dX0_year_228 rfl (js_callV hX MX0_fall (ci := 0) (n := 0) (RX0, TX0, 20) rfl rfl (lw_V q1034 q1036 qs35 q152 q1037) npX0_fall dX0_year_229 (js_goto hX (tgt := 236) dX0_year_232 rfl (hK 5)))))))))))))))))))))))
    (js_goto hX (tgt := 238) dX0_year_189 rfl (hK 6))))))))
  | 5 => exact (js_istore hX dX0_year_236 (by decide) (hK 6))
  | 6 => exact (js_iinc hX dX0_year_238 (by decide) (js_goto hX (tgt := 63) dX0_year_241 rfl (hK 2)))
  | k + 7 => intro ls st h nc ns hf; exact hf.elim
def bX0_drawn : jjB := fun e K k => match k with
  | 0 => (ji_aload 0 (ji_getfR 0 0 (ji_getfR 1 2 (ji_const 45 (ji_iald (ji_istore 1 (ji_aload 0 (ji_getfR 0 0 (ji_getfR 1 2 (ji_const 45 (ji_iload 1 (ji_const 179 (ji_imul (ji_const 101 (ji_iadd (ji_const 30113 (ji_irem (ji_iast (ji_iload 1 (ji_ireturn e))))))))))))))))))))
  | _ => fun _ _ _ _ _ => False
def pX0_drawn : Nat → Nat := fun k => match k with
  | 0 => 0
  | _ => 0
theorem sX0_drawn : jSound bX0_drawn pX0_drawn MX0_drawn := by
  intro e p ev R s m args below meth c hX hr hn hlk K hK k
  match k with
  | 0 => exact (js_aload_n hX dX0_drawn_0 rfl (js_getfR hX (ci := 0) (k := 0) (RX0, TX0, 20) rfl (by decide) rfl (Or.inl q255) (fun _ h => h) dX0_drawn_1 (js_getfR hX (ci := 1) (k := 2) (RX1, TX1, 7) rfl (by decide) rfl (Or.inr ⟨_, q216⟩) (fun _ h => h) dX0_drawn_4 (js_const hX (z := 45) (by unfold inI; omega) dX0_drawn_7 (Or.inr (Or.inl ⟨45, rfl, rfl, rfl⟩)) (js_iald hX dX0_drawn_9 (js_istore_n hX dX0_drawn_10 rfl (by decide) (js_aload_n hX dX0_drawn_11 rfl (js_getfR hX (ci := 0) (k := 0) (RX0, TX0, 20) rfl (by decide) rfl (Or.inl q255) (fun _ h => h) dX0_drawn_12 (js_getfR hX (ci := 1) (k := 2) (RX1, TX1, 7) rfl (by decide) rfl (Or.inr ⟨_, q216⟩) (fun _ h => h) dX0_drawn_15 (js_const hX (z := 45) (by unfold inI; omega) dX0_drawn_18 (Or.inr (Or.inl ⟨45, rfl, rfl, rfl⟩)) (js_iload_n hX dX0_drawn_20 rfl (js_const hX (z := 179) (by unfold inI; omega) dX0_drawn_21 (Or.inr (Or.inr (Or.inl ⟨179, rfl, rfl, rfl⟩))) (js_imul hX dX0_drawn_24 (js_const hX (z := 101) (by unfold inI; omega) dX0_drawn_25 (Or.inr (Or.inl ⟨101, rfl, rfl, rfl⟩)) (js_iadd hX dX0_drawn_27 (js_const hX (z := 30113) (by unfold inI; omega) dX0_drawn_28 (Or.inr (Or.inr (Or.inl ⟨30113, rfl, rfl, rfl⟩))) (js_irem hX dX0_drawn_31 (js_iast hX dX0_drawn_32 (js_iload_n hX dX0_drawn_33 rfl (js_ireturn hX hr hlk dX0_drawn_34))))))))))))))))))))
  | k + 1 => intro ls st h nc ns hf; exact hf.elim
def bX0_undo : jjB := fun e K k => match k with
  | 0 => (ji_aload 0 (ji_getfR 0 0 (ji_getfR 1 0 (ji_const 4 (ji_iald (ji_if_ne (ji_aload 0 (ji_getfR 0 0 (ji_getfR 1 0 (ji_const 4 (ji_dup2 (ji_iald (ji_const 1 (ji_isub (ji_iast (ji_aload 0 (ji_getfR 0 0 (ji_getfR 1 5 (ji_aload 0 (ji_getfR 0 0 (ji_getfR 1 0 (ji_const 4 (ji_iald (ji_aald (-5) (ji_aload 0 (ji_getfR 0 0 (ji_getfR 1 2 (ji_callS e MX1_copy 2 (ji_aload 0 (ji_getfR 0 0 (ji_getfR 1 0 (ji_const 4 (ji_iald (ji_ireturn e))))))))))))))))))))))))))))
    (ji_const (-1) (ji_ireturn e))))))))
  | _ => fun _ _ _ _ _ => False
def pX0_undo : Nat → Nat := fun k => match k with
  | 0 => 0
  | _ => 0
theorem sX0_undo : jSound bX0_undo pX0_undo MX0_undo := by
  intro e p ev R s m args below meth c hX hr hn hlk K hK k
  match k with
  | 0 => exact (js_aload_n hX dX0_undo_0 rfl (js_getfR hX (ci := 0) (k := 0) (RX0, TX0, 20) rfl (by decide) rfl (Or.inl q255) (fun _ h => h) dX0_undo_1 (js_getfR hX (ci := 1) (k := 0) (RX1, TX1, 7) rfl (by decide) rfl (Or.inr ⟨_, q212⟩) (fun _ h => h) dX0_undo_4 (js_const hX (z := 4) (by unfold inI; omega) dX0_undo_7 (Or.inl ⟨4, rfl, rfl, rfl⟩) (js_iald hX dX0_undo_8 (js_if_ne hX (tgt := 14) dX0_undo_9 rfl (js_aload_n hX dX0_undo_14 rfl (js_getfR hX (ci := 0) (k := 0) (RX0, TX0, 20) rfl (by decide) rfl (Or.inl q255) (fun _ h => h) dX0_undo_15 (js_getfR hX (ci := 1) (k := 0) (RX1, TX1, 7) rfl (by decide) rfl (Or.inr ⟨_, q212⟩) (fun _ h => h) dX0_undo_18 (js_const hX (z := 4) (by unfold inI; omega) dX0_undo_21 (Or.inl ⟨4, rfl, rfl, rfl⟩) (js_dup2 hX dX0_undo_22 (js_iald hX dX0_undo_23 (js_const hX (z := 1) (by unfold inI; omega) dX0_undo_24 (Or.inl ⟨1, rfl, rfl, rfl⟩) (js_isub hX dX0_undo_25 (js_iast hX dX0_undo_26 (js_aload_n hX dX0_undo_27 rfl (js_getfR hX (ci := 0) (k := 0) (RX0, TX0, 20) rfl (by decide) rfl (Or.inl q255) (fun _ h => h) dX0_undo_28 (js_getfR hX (ci := 1) (k := 5) (RX1, TX1, 7) rfl (by decide) rfl (Or.inr ⟨_, q222⟩) (fun _ h => h) dX0_undo_31 (js_aload_n hX dX0_undo_34 rfl (js_getfR hX (ci := 0) (k := 0) (RX0, TX0, 20) rfl (by decide) rfl (Or.inl q255) (fun _ h => h) dX0_undo_35 (js_getfR hX (ci := 1) (k := 0) (RX1, TX1, 7) rfl (by decide) rfl (Or.inr ⟨_, q212⟩) (fun _ h => h) dX0_undo_38 (js_const hX (z := 4) (by unfold inI; omega) dX0_undo_41 (Or.inl ⟨4, rfl, rfl, rfl⟩) (js_iald hX dX0_undo_42 (js_aald hX (cd := (-5)) (by decide) rfl rfl dX0_undo_43 (js_aload_n hX dX0_undo_44 rfl (js_getfR hX (ci := 0) (k := 0) (RX0, TX0, 20) rfl (by decide) rfl (Or.inl q255) (fun _ h => h) dX0_undo_45 (js_getfR hX (ci := 1) (k := 2) (RX1, TX1, 7) rfl (by decide) rfl (Or.inr ⟨_, q216⟩) (fun _ h => h) dX0_undo_48 (js_callSN hX MX1_copy (n := 2) q426 q247 q153 (lw_meth q248) npX1_copy dX0_undo_51 (js_aload_n hX dX0_undo_54 rfl (js_getfR hX (ci := 0) (k := 0) (RX0, TX0, 20) rfl (by decide) rfl (Or.inl q255) (fun _ h => h) dX0_undo_55 (js_getfR hX (ci := 1) (k := 0) (RX1, TX1, 7) rfl (by decide) rfl (Or.inr ⟨_, q212⟩) (fun _ h => h) dX0_undo_58 (js_const hX (z := 4) (by unfold inI; omega) dX0_undo_61 (Or.inl ⟨4, rfl, rfl, rfl⟩) (js_iald hX dX0_undo_62 (js_ireturn hX hr hlk dX0_undo_63))))))))))))))))))))))))))))
    (js_const hX (z := (-1)) (by unfold inI; omega) dX0_undo_12 (Or.inl ⟨(-1), rfl, rfl, rfl⟩) (js_ireturn hX hr hlk dX0_undo_13))))))))
  | k + 1 => intro ls st h nc ns hf; exact hf.elim
def bX0_at : jjB := fun e K k => match k with
  | 0 => (ji_iload 1 (ji_callS e MX0_isShelf 1 (ji_if_ne (ji_iload 2 (ji_const (-1) (ji_icmp_ne (ji_iload 2 (ji_const 0 (ji_aload 0 (ji_getfR 0 0 (ji_iload 1 (ji_callV e MX1_many 1 2 (ji_const 1 (ji_isub (ji_callS e MX0_in 3 (ji_if_eq (ji_const (-1) (K 1))
    (ji_aload 0 (ji_getfR 0 0 (ji_iload 1 (ji_iload 2 (ji_callV e MX1_bookAt 1 3 (ji_goto (K 1)))))))))))))))))
    (ji_aload 0 (ji_getfR 0 0 (ji_iload 1 (ji_callV e MX1_many 1 2 (ji_goto (K 1)))))))))
    (ji_const (-1) (ji_goto (K 1))))))
  | 1 => (ji_ireturn e)
  | _ => fun _ _ _ _ _ => False
def pX0_at : Nat → Nat := fun k => match k with
  | 0 => 0
  | 1 => 58
  | _ => 0
theorem sX0_at : jSound bX0_at pX0_at MX0_at := by
  intro e p ev R s m args below meth c hX hr hn hlk K hK k
  match k with
  | 0 => exact (js_iload_n hX dX0_at_0 rfl (js_callS hX MX0_isShelf (n := 1) (lw_S q322 q323 q152 q324) npX0_isShelf dX0_at_1 (js_if_ne hX (tgt := 11) dX0_at_4 rfl (js_iload_n hX dX0_at_11 rfl (js_const hX (z := (-1)) (by unfold inI; omega) dX0_at_12 (Or.inl ⟨(-1), rfl, rfl, rfl⟩) (js_icmp_ne hX (tgt := 27) dX0_at_13 rfl (js_iload_n hX dX0_at_27 rfl (js_const hX (z := 0) (by unfold inI; omega) dX0_at_28 (Or.inl ⟨0, rfl, rfl, rfl⟩) (js_aload_n hX dX0_at_29 rfl (js_getfR hX (ci := 0) (k := 0) (RX0, TX0, 20) rfl (by decide) rfl (Or.inl q255) (fun _ h => h) dX0_at_30 (js_iload_n hX dX0_at_33 rfl (js_callV hX MX1_many (ci := 1) (n := 1) (RX1, TX1, 7) rfl rfl (lw_V q332 q333 q334 q153 q335) npX1_many dX0_at_34 (js_const hX (z := 1) (by unfold inI; omega) dX0_at_37 (Or.inl ⟨1, rfl, rfl, rfl⟩) (js_isub hX dX0_at_38 (js_callS hX MX0_in (n := 3) (lw_S q325 q326 q152 q327) npX0_in dX0_at_39 (js_if_eq hX (tgt := 57) dX0_at_42 rfl (js_const hX (z := (-1)) (by unfold inI; omega) dX0_at_57 (Or.inl ⟨(-1), rfl, rfl, rfl⟩) (hK 1))
    (js_aload_n hX dX0_at_45 rfl (js_getfR hX (ci := 0) (k := 0) (RX0, TX0, 20) rfl (by decide) rfl (Or.inl q255) (fun _ h => h) dX0_at_46 (js_iload_n hX dX0_at_49 rfl (js_iload_n hX dX0_at_50 rfl (js_callV hX MX1_bookAt (ci := 1) (n := 2) (RX1, TX1, 7) rfl rfl (lw_V q336 q337 q338 q153 q339) npX1_bookAt dX0_at_51 (js_goto hX (tgt := 58) dX0_at_54 rfl (hK 1)))))))))))))))))
    (js_aload_n hX dX0_at_16 rfl (js_getfR hX (ci := 0) (k := 0) (RX0, TX0, 20) rfl (by decide) rfl (Or.inl q255) (fun _ h => h) dX0_at_17 (js_iload_n hX dX0_at_20 rfl (js_callV hX MX1_many (ci := 1) (n := 1) (RX1, TX1, 7) rfl rfl (lw_V q332 q333 q334 q153 q335) npX1_many dX0_at_21 (js_goto hX (tgt := 58) dX0_at_24 rfl (hK 1)))))))))
    (js_const hX (z := (-1)) (by unfold inI; omega) dX0_at_7 (Or.inl ⟨(-1), rfl, rfl, rfl⟩) (js_goto hX (tgt := 58) dX0_at_8 rfl (hK 1))))))
  | 1 => exact (js_ireturn hX hr hlk dX0_at_58)
  | k + 2 => intro ls st h nc ns hf; exact hf.elim
def bX0_of : jjB := fun e K k => match k with
  | 0 => (ji_aload 0 (ji_iload 1 (ji_callV e MX0_isBook 0 2 (ji_if_ne (ji_iload 2 (ji_lsw (ji_iload 2 (ji_const 2 (ji_const 6 (ji_callS e MX0_in 3 (ji_if_eq (ji_const (-2) (K 2))
    (ji_aload 0 (ji_getfR 0 0 (ji_getfR 1 3 (ji_iload 1 (ji_aald (-5) (ji_iload 2 (ji_const 2 (ji_isub (ji_iald (ji_goto (K 2)))))))))))))))) [(0, (ji_aload 0 (ji_iload 1 (ji_callV e MX0_whereIs 0 2 (ji_ireturn e))))), (1, (ji_aload 0 (ji_iload 1 (ji_callV e MX0_isOnShelf 0 2 (ji_if_eq (ji_const (-1) (K 1))
    (ji_aload 0 (ji_getfR 0 0 (ji_iload 1 (ji_callV e MX1_placeOf 1 2 (ji_goto (K 1))))))))))), (7, (ji_aload 0 (ji_iload 1 (ji_callV e MX0_thickNow 0 2 (ji_ireturn e)))))]))
    (ji_const (-2) (ji_ireturn e))))))
  | 1 => (ji_ireturn e)
  | 2 => (ji_ireturn e)
  | _ => fun _ _ _ _ _ => False
def pX0_of : Nat → Nat := fun k => match k with
  | 0 => 0
  | 1 => 74
  | 2 => 109
  | _ => 0
theorem sX0_of : jSound bX0_of pX0_of MX0_of := by
  intro e p ev R s m args below meth c hX hr hn hlk K hK k
  match k with
  | 0 => exact (js_aload_n hX dX0_of_0 rfl (js_iload_n hX dX0_of_1 rfl (js_callV hX MX0_isBook (ci := 0) (n := 1) (RX0, TX0, 20) rfl rfl (lw_V q959 q961 qs27 q152 q962) npX0_isBook dX0_of_2 (js_if_ne hX (tgt := 11) dX0_of_5 rfl (js_iload_n hX dX0_of_11 rfl (js_lsw hX (dflt := 69) (ps := [(0, 36), (1, 42), (7, 63)]) (tgt := 81) (tgts := [48, 54, 75]) dX0_of_12 rfl (by decide) rfl (by decide) (js_iload_n hX dX0_of_81 rfl (js_const hX (z := 2) (by unfold inI; omega) dX0_of_82 (Or.inl ⟨2, rfl, rfl, rfl⟩) (js_const hX (z := 6) (by unfold inI; omega) dX0_of_83 (Or.inr (Or.inl ⟨6, rfl, rfl, rfl⟩)) (js_callS hX MX0_in (n := 3) (lw_S q325 q326 q152 q327) npX0_in dX0_of_85 (js_if_eq hX (tgt := 107) dX0_of_88 rfl (js_const hX (z := (-2)) (by unfold inI; omega) dX0_of_107 (Or.inr (Or.inl ⟨(-2), rfl, rfl, rfl⟩)) (hK 2))
    (js_aload_n hX dX0_of_91 rfl (js_getfR hX (ci := 0) (k := 0) (RX0, TX0, 20) rfl (by decide) rfl (Or.inl q255) (fun _ h => h) dX0_of_92 (js_getfR hX (ci := 1) (k := 3) (RX1, TX1, 7) rfl (by decide) rfl (Or.inr ⟨_, q218⟩) (fun _ h => h) dX0_of_95 (js_iload_n hX dX0_of_98 rfl (js_aald hX (cd := (-5)) (by decide) rfl rfl dX0_of_99 (js_iload_n hX dX0_of_100 rfl (js_const hX (z := 2) (by unfold inI; omega) dX0_of_101 (Or.inl ⟨2, rfl, rfl, rfl⟩) (js_isub hX dX0_of_102 (js_iald hX dX0_of_103 (js_goto hX (tgt := 109) dX0_of_104 rfl (hK 2)))))))))))))))) (jswl_cons (js_aload_n hX dX0_of_48 rfl (js_iload_n hX dX0_of_49 rfl (js_callV hX MX0_whereIs (ci := 0) (n := 1) (RX0, TX0, 20) rfl rfl (lw_V q1059 q1061 qs38 q152 q1062) npX0_whereIs dX0_of_50 (js_ireturn hX hr hlk dX0_of_53)))) (jswl_cons (js_aload_n hX dX0_of_54 rfl (js_iload_n hX dX0_of_55 rfl (js_callV hX MX0_isOnShelf (ci := 0) (n := 1) (RX0, TX0, 20) rfl rfl (lw_V q1132 q1134 qs40 q152 q1135) npX0_isOnShelf dX0_of_56 (js_if_eq hX (tgt := 73) dX0_of_59 rfl (js_const hX (z := (-1)) (by unfold inI; omega) dX0_of_73 (Or.inl ⟨(-1), rfl, rfl, rfl⟩) (hK 1))
    (js_aload_n hX dX0_of_62 rfl (js_getfR hX (ci := 0) (k := 0) (RX0, TX0, 20) rfl (by decide) rfl (Or.inl q255) (fun _ h => h) dX0_of_63 (js_iload_n hX dX0_of_66 rfl (js_callV hX MX1_placeOf (ci := 1) (n := 1) (RX1, TX1, 7) rfl rfl (lw_V q1063 q1064 q1065 q153 q1066) npX1_placeOf dX0_of_67 (js_goto hX (tgt := 74) dX0_of_70 rfl (hK 1)))))))))) (jswl_cons (js_aload_n hX dX0_of_75 rfl (js_iload_n hX dX0_of_76 rfl (js_callV hX MX0_thickNow (ci := 0) (n := 1) (RX0, TX0, 20) rfl rfl (lw_V q340 q342 qs1 q152 q343) npX0_thickNow dX0_of_77 (js_ireturn hX hr hlk dX0_of_80)))) jswl_nil)))))
    (js_const hX (z := (-2)) (by unfold inI; omega) dX0_of_8 (Or.inr (Or.inl ⟨(-2), rfl, rfl, rfl⟩)) (js_ireturn hX hr hlk dX0_of_10))))))
  | 1 => exact (js_ireturn hX hr hlk dX0_of_74)
  | 2 => exact (js_ireturn hX hr hlk dX0_of_109)
  | k + 3 => intro ls st h nc ns hf; exact hf.elim
