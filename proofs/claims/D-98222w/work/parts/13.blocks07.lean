/-! blocks of the methods and their soundness -/
set_option maxRecDepth 100000
def bX2_summed : jjB := fun e K k => match k with
  | 0 => (ji_aload 0 (ji_const 0 (ji_putfI 2 17 (ji_aload 0 (ji_const 0 (ji_putfZ 2 19 (K 1)))))))
  | 1 => (ji_aload 0 (ji_getfI 2 19 (ji_if_eq (K 2)
    (ji_aload 0 (ji_callV e MX2_goesOn 2 1 (ji_if_eq (ji_aload 0 (ji_const 3 (ji_callV e MX2_settle 2 2 (ji_aload 0 (ji_getfI 2 17 (ji_if_le (ji_const 0 (K 4))
    (ji_const 1 (ji_goto (K 4)))))))))
    (K 2)))))))
  | 2 => (ji_aload 0 (ji_getfI 2 19 (ji_if_eq (ji_aload 0 (ji_callV e MX2_beginOne 2 1 (K 3)))
    (ji_aload 0 (ji_callV e MX2_behindOne 2 1 (ji_goto (K 3)))))))
  | 3 => (ji_istore 1 (ji_iload 1 (ji_if_eq (ji_goto (K 1))
    (ji_iload 1 (ji_ireturn e)))))
  | 4 => (ji_ireturn e)
  | _ => fun _ _ _ _ _ => False
def pX2_summed : Nat → Nat := fun k => match k with
  | 0 => 0
  | 1 => 10
  | 2 => 24
  | 3 => 42
  | 4 => 69
  | _ => 0
theorem sX2_summed : jSound bX2_summed pX2_summed MX2_summed := by
  intro e p ev R s m args below meth c hX hr hn hlk K hK k
  match k with
  | 0 => exact (js_aload_n hX dX2_summed_0 rfl (js_const hX (z := 0) (by unfold inI; omega) dX2_summed_1 (Or.inl ⟨0, rfl, rfl, rfl⟩) (js_putfI hX (ci := 2) (k := 17) (RX2, TX2, 43) rfl (by decide) rfl (Or.inl q1361) (fun _ h => h) (Or.inl rfl) dX2_summed_2 (js_aload_n hX dX2_summed_5 rfl (js_const hX (z := 0) (by unfold inI; omega) dX2_summed_6 (Or.inl ⟨0, rfl, rfl, rfl⟩) (js_putfZ hX (ci := 2) (k := 19) (RX2, TX2, 43) rfl (by decide) rfl (Or.inl q1363) (fun _ h => h) (Or.inl rfl) dX2_summed_7 (hK 1)))))))
  | 1 => exact (js_aload_n hX dX2_summed_10 rfl (js_getfI hX (ci := 2) (k := 19) (RX2, TX2, 43) rfl (by decide) rfl (Or.inl q1363) (fun _ h => h) dX2_summed_11 (js_if_eq hX (tgt := 24) dX2_summed_14 rfl (hK 2)
    (js_aload_n hX dX2_summed_17 rfl (js_callV hX MX2_goesOn (ci := 2) (n := 0) (RX2, TX2, 43) rfl rfl (lw_V q1574 q1576 qs81 q156 q1577) npX2_goesOn dX2_summed_18 (js_if_eq hX (tgt := 52) dX2_summed_21 rfl (js_aload_n hX dX2_summed_52 rfl (js_const hX (z := 3) (by unfold inI; omega) dX2_summed_53 (Or.inl ⟨3, rfl, rfl, rfl⟩) (js_callV hX MX2_settle (ci := 2) (n := 1) (RX2, TX2, 43) rfl rfl (lw_V q1586 q1588 qs84 q156 q1589) npX2_settle dX2_summed_54 (js_aload_n hX dX2_summed_57 rfl (js_getfI hX (ci := 2) (k := 17) (RX2, TX2, 43) rfl (by decide) rfl (Or.inl q1361) (fun _ h => h) dX2_summed_58 (js_if_le hX (tgt := 68) dX2_summed_61 rfl (js_const hX (z := 0) (by unfold inI; omega) dX2_summed_68 (Or.inl ⟨0, rfl, rfl, rfl⟩) (hK 4))
    (js_const hX (z := 1) (by unfold inI; omega) dX2_summed_64 (Or.inl ⟨1, rfl, rfl, rfl⟩) (js_goto hX (tgt := 69) dX2_summed_65 rfl (hK 4)))))))))
    (hK 2)))))))
  | 2 => exact (js_aload_n hX dX2_summed_24 rfl (js_getfI hX (ci := 2) (k := 19) (RX2, TX2, 43) rfl (by decide) rfl (Or.inl q1363) (fun _ h => h) dX2_summed_25 (js_if_eq hX (tgt := 38) dX2_summed_28 rfl (js_aload_n hX dX2_summed_38 rfl (js_callV hX MX2_beginOne (ci := 2) (n := 0) (RX2, TX2, 43) rfl rfl (lw_V q1602 q1604 qs88 q156 q1605) npX2_beginOne dX2_summed_39 (hK 3)))
    (js_aload_n hX dX2_summed_31 rfl (js_callV hX MX2_behindOne (ci := 2) (n := 0) (RX2, TX2, 43) rfl rfl (lw_V q1582 q1584 qs83 q156 q1585) npX2_behindOne dX2_summed_32 (js_goto hX (tgt := 42) dX2_summed_35 rfl (hK 3)))))))
  | 3 => exact (js_istore_n hX dX2_summed_42 rfl (by decide) (js_iload_n hX dX2_summed_43 rfl (js_if_eq hX (tgt := 49) dX2_summed_44 rfl (js_goto hX (tgt := 10) dX2_summed_49 rfl (hK 1))
    (js_iload_n hX dX2_summed_47 rfl (js_ireturn hX hr hlk dX2_summed_48)))))
  | 4 => exact (js_ireturn hX hr hlk dX2_summed_69)
  | k + 5 => intro ls st h nc ns hf; exact hf.elim
def bX2_goesOn : jjB := fun e K k => match k with
  | 0 => (ji_aload 0 (ji_getfI 2 9 (ji_const 43 (ji_icmp_eq (K 1)
    (ji_aload 0 (ji_getfI 2 9 (ji_const 45 (ji_icmp_eq (K 1)
    (ji_aload 0 (ji_getfI 2 9 (ji_const 42 (ji_icmp_eq (K 1)
    (ji_aload 0 (ji_getfI 2 9 (ji_const 47 (ji_icmp_eq (K 1)
    (ji_aload 0 (ji_getfI 2 9 (ji_const 41 (ji_icmp_ne (K 2)
    (ji_aload 0 (ji_callV e MX2_hasParen 2 1 (ji_if_eq (K 2)
    (K 1))))))))))))))))))))))))
  | 1 => (ji_const 1 (ji_goto (K 3)))
  | 2 => (ji_const 0 (K 3))
  | 3 => (ji_zreturn e)
  | _ => fun _ _ _ _ _ => False
def pX2_goesOn : Nat → Nat := fun k => match k with
  | 0 => 0
  | 1 => 52
  | 2 => 56
  | 3 => 57
  | _ => 0
theorem sX2_goesOn : jSound bX2_goesOn pX2_goesOn MX2_goesOn := by
  intro e p ev R s m args below meth c hX hr hn hlk K hK k
  match k with
  | 0 => exact (js_aload_n hX dX2_goesOn_0 rfl (js_getfI hX (ci := 2) (k := 9) (RX2, TX2, 43) rfl (by decide) rfl (Or.inl q1355) (fun _ h => h) dX2_goesOn_1 (js_const hX (z := 43) (by unfold inI; omega) dX2_goesOn_4 (Or.inr (Or.inl ⟨43, rfl, rfl, rfl⟩)) (js_icmp_eq hX (tgt := 52) dX2_goesOn_6 rfl (hK 1)
    (js_aload_n hX dX2_goesOn_9 rfl (js_getfI hX (ci := 2) (k := 9) (RX2, TX2, 43) rfl (by decide) rfl (Or.inl q1355) (fun _ h => h) dX2_goesOn_10 (js_const hX (z := 45) (by unfold inI; omega) dX2_goesOn_13 (Or.inr (Or.inl ⟨45, rfl, rfl, rfl⟩)) (js_icmp_eq hX (tgt := 52) dX2_goesOn_15 rfl (hK 1)
    (js_aload_n hX dX2_goesOn_18 rfl (js_getfI hX (ci := 2) (k := 9) (RX2, TX2, 43) rfl (by decide) rfl (Or.inl q1355) (fun _ h => h) dX2_goesOn_19 (js_const hX (z := 42) (by unfold inI; omega) dX2_goesOn_22 (Or.inr (Or.inl ⟨42, rfl, rfl, rfl⟩)) (js_icmp_eq hX (tgt := 52) dX2_goesOn_24 rfl (hK 1)
    (js_aload_n hX dX2_goesOn_27 rfl (js_getfI hX (ci := 2) (k := 9) (RX2, TX2, 43) rfl (by decide) rfl (Or.inl q1355) (fun _ h => h) dX2_goesOn_28 (js_const hX (z := 47) (by unfold inI; omega) dX2_goesOn_31 (Or.inr (Or.inl ⟨47, rfl, rfl, rfl⟩)) (js_icmp_eq hX (tgt := 52) dX2_goesOn_33 rfl (hK 1)
    (js_aload_n hX dX2_goesOn_36 rfl (js_getfI hX (ci := 2) (k := 9) (RX2, TX2, 43) rfl (by decide) rfl (Or.inl q1355) (fun _ h => h) dX2_goesOn_37 (js_const hX (z := 41) (by unfold inI; omega) dX2_goesOn_40 (Or.inr (Or.inl ⟨41, rfl, rfl, rfl⟩)) (js_icmp_ne hX (tgt := 56) dX2_goesOn_42 rfl (hK 2)
    (js_aload_n hX dX2_goesOn_45 rfl (js_callV hX MX2_hasParen (ci := 2) (n := 0) (RX2, TX2, 43) rfl rfl (lw_V q1578 q1580 qs82 q156 q1581) npX2_hasParen dX2_goesOn_46 (js_if_eq hX (tgt := 56) dX2_goesOn_49 rfl (hK 2)
    (hK 1))))))))))))))))))))))))
  | 1 => exact (js_const hX (z := 1) (by unfold inI; omega) dX2_goesOn_52 (Or.inl ⟨1, rfl, rfl, rfl⟩) (js_goto hX (tgt := 57) dX2_goesOn_53 rfl (hK 3)))
  | 2 => exact (js_const hX (z := 0) (by unfold inI; omega) dX2_goesOn_56 (Or.inl ⟨0, rfl, rfl, rfl⟩) (hK 3))
  | 3 => exact (js_zreturn hX hr hlk dX2_goesOn_57)
  | k + 4 => intro ls st h nc ns hf; exact hf.elim
def bX2_hasParen : jjB := fun e K k => match k with
  | 0 => (ji_const 0 (ji_istore 1 (K 1)))
  | 1 => (ji_iload 1 (ji_aload 0 (ji_getfI 2 17 (ji_icmp_ge (ji_const 0 (ji_zreturn e))
    (ji_aload 0 (ji_getfR 2 16 (ji_iload 1 (ji_iald (ji_const 40 (ji_icmp_ne (ji_iinc 1 1 (ji_goto (K 1)))
    (ji_const 1 (ji_zreturn e))))))))))))
  | _ => fun _ _ _ _ _ => False
def pX2_hasParen : Nat → Nat := fun k => match k with
  | 0 => 0
  | 1 => 2
  | _ => 0
theorem sX2_hasParen : jSound bX2_hasParen pX2_hasParen MX2_hasParen := by
  intro e p ev R s m args below meth c hX hr hn hlk K hK k
  match k with
  | 0 => exact (js_const hX (z := 0) (by unfold inI; omega) dX2_hasParen_0 (Or.inl ⟨0, rfl, rfl, rfl⟩) (js_istore_n hX dX2_hasParen_1 rfl (by decide) (hK 1)))
  | 1 => exact (js_iload_n hX dX2_hasParen_2 rfl (js_aload_n hX dX2_hasParen_3 rfl (js_getfI hX (ci := 2) (k := 17) (RX2, TX2, 43) rfl (by decide) rfl (Or.inl q1361) (fun _ h => h) dX2_hasParen_4 (js_icmp_ge hX (tgt := 29) dX2_hasParen_7 rfl (js_const hX (z := 0) (by unfold inI; omega) dX2_hasParen_29 (Or.inl ⟨0, rfl, rfl, rfl⟩) (js_zreturn hX hr hlk dX2_hasParen_30))
    (js_aload_n hX dX2_hasParen_10 rfl (js_getfR hX (ci := 2) (k := 16) (RX2, TX2, 43) rfl (by decide) rfl (Or.inl q1360) (fun _ h => h) dX2_hasParen_11 (js_iload_n hX dX2_hasParen_14 rfl (js_iald hX dX2_hasParen_15 (js_const hX (z := 40) (by unfold inI; omega) dX2_hasParen_16 (Or.inr (Or.inl ⟨40, rfl, rfl, rfl⟩)) (js_icmp_ne hX (tgt := 23) dX2_hasParen_18 rfl (js_iinc hX dX2_hasParen_23 (by decide) (js_goto hX (tgt := 2) dX2_hasParen_26 rfl (hK 1)))
    (js_const hX (z := 1) (by unfold inI; omega) dX2_hasParen_21 (Or.inl ⟨1, rfl, rfl, rfl⟩) (js_zreturn hX hr hlk dX2_hasParen_22))))))))))))
  | k + 2 => intro ls st h nc ns hf; exact hf.elim
def bX2_behindOne : jjB := fun e K k => match k with
  | 0 => (ji_aload 0 (ji_getfI 2 9 (ji_istore 1 (ji_iload 1 (ji_const 43 (ji_icmp_eq (K 1)
    (ji_iload 1 (ji_const 45 (ji_icmp_ne (ji_iload 1 (ji_const 42 (ji_icmp_eq (K 3)
    (ji_iload 1 (ji_const 47 (ji_icmp_ne (ji_aload 0 (ji_const 3 (ji_callV e MX2_settle 2 2 (ji_aload 0 (ji_dup (ji_getfI 2 17 (ji_const 1 (ji_isub (ji_putfI 2 17 (ji_aload 0 (ji_dup (ji_getfI 2 18 (ji_const 1 (ji_isub (ji_putfI 2 18 (ji_aload 0 (ji_callV e MX2_whole 2 1 (K 5))))))))))))))))))
    (K 3)))))))
    (K 1))))))))))
  | 1 => (ji_aload 0 (ji_const 3 (ji_callV e MX2_settle 2 2 (ji_aload 0 (ji_iload 1 (ji_const 43 (ji_icmp_ne (ji_const 4 (K 2))
    (ji_const 3 (ji_goto (K 2))))))))))
  | 2 => (ji_callV e MX2_push 2 2 (ji_aload 0 (ji_const 0 (ji_putfZ 2 19 (ji_goto (K 5))))))
  | 3 => (ji_aload 0 (ji_const 5 (ji_callV e MX2_settle 2 2 (ji_aload 0 (ji_iload 1 (ji_const 42 (ji_icmp_ne (ji_const 6 (K 4))
    (ji_const 5 (ji_goto (K 4))))))))))
  | 4 => (ji_callV e MX2_push 2 2 (ji_aload 0 (ji_const 0 (ji_putfZ 2 19 (ji_goto (K 5))))))
  | 5 => (ji_aload 0 (ji_callV e MX2_nextToken 2 1 (ji_const 0 (ji_ireturn e))))
  | _ => fun _ _ _ _ _ => False
def pX2_behindOne : Nat → Nat := fun k => match k with
  | 0 => 0
  | 1 => 17
  | 2 => 34
  | 3 => 57
  | 4 => 75
  | 5 => 115
  | _ => 0
theorem sX2_behindOne : jSound bX2_behindOne pX2_behindOne MX2_behindOne := by
  intro e p ev R s m args below meth c hX hr hn hlk K hK k
  match k with
  | 0 => exact (js_aload_n hX dX2_behindOne_0 rfl (js_getfI hX (ci := 2) (k := 9) (RX2, TX2, 43) rfl (by decide) rfl (Or.inl q1355) (fun _ h => h) dX2_behindOne_1 (js_istore_n hX dX2_behindOne_4 rfl (by decide) (js_iload_n hX dX2_behindOne_5 rfl (js_const hX (z := 43) (by unfold inI; omega) dX2_behindOne_6 (Or.inr (Or.inl ⟨43, rfl, rfl, rfl⟩)) (js_icmp_eq hX (tgt := 17) dX2_behindOne_8 rfl (hK 1)
    (js_iload_n hX dX2_behindOne_11 rfl (js_const hX (z := 45) (by unfold inI; omega) dX2_behindOne_12 (Or.inr (Or.inl ⟨45, rfl, rfl, rfl⟩)) (js_icmp_ne hX (tgt := 45) dX2_behindOne_14 rfl (js_iload_n hX dX2_behindOne_45 rfl (js_const hX (z := 42) (by unfold inI; omega) dX2_behindOne_46 (Or.inr (Or.inl ⟨42, rfl, rfl, rfl⟩)) (js_icmp_eq hX (tgt := 57) dX2_behindOne_48 rfl (hK 3)
    (js_iload_n hX dX2_behindOne_51 rfl (js_const hX (z := 47) (by unfold inI; omega) dX2_behindOne_52 (Or.inr (Or.inl ⟨47, rfl, rfl, rfl⟩)) (js_icmp_ne hX (tgt := 86) dX2_behindOne_54 rfl (js_aload_n hX dX2_behindOne_86 rfl (js_const hX (z := 3) (by unfold inI; omega) dX2_behindOne_87 (Or.inl ⟨3, rfl, rfl, rfl⟩) (js_callV hX MX2_settle (ci := 2) (n := 1) (RX2, TX2, 43) rfl rfl (lw_V q1586 q1588 qs84 q156 q1589) npX2_settle dX2_behindOne_88 (js_aload_n hX dX2_behindOne_91 rfl (js_dup hX dX2_behindOne_92 (js_getfI hX (ci := 2) (k := 17) (RX2, TX2, 43) rfl (by decide) rfl (Or.inl q1361) (fun _ h => h) dX2_behindOne_93 (js_const hX (z := 1) (by unfold inI; omega) dX2_behindOne_96 (Or.inl ⟨1, rfl, rfl, rfl⟩) (js_isub hX dX2_behindOne_97 (js_putfI hX (ci := 2) (k := 17) (RX2, TX2, 43) rfl (by decide) rfl (Or.inl q1361) (fun _ h => h) (Or.inl rfl) dX2_behindOne_98 (js_aload_n hX dX2_behindOne_101 rfl (js_dup hX dX2_behindOne_102 (js_getfI hX (ci := 2) (k := 18) (RX2, TX2, 43) rfl (by decide) rfl (Or.inl q1362) (fun _ h => h) dX2_behindOne_103 (js_const hX (z := 1) (by unfold inI; omega) dX2_behindOne_106 (Or.inl ⟨1, rfl, rfl, rfl⟩) (js_isub hX dX2_behindOne_107 (js_putfI hX (ci := 2) (k := 18) (RX2, TX2, 43) rfl (by decide) rfl (Or.inl q1362) (fun _ h => h) (Or.inl rfl) dX2_behindOne_108 (js_aload_n hX dX2_behindOne_111 rfl (js_callV hX MX2_whole (ci := 2) (n := 0) (RX2, TX2, 43) rfl rfl (lw_V q1598 q1600 qs87 q156 q1601) npX2_whole dX2_behindOne_112 (hK 5))))))))))))))))))
    (hK 3)))))))
    (hK 1))))))))))
  | 1 => exact (js_aload_n hX dX2_behindOne_17 rfl (js_const hX (z := 3) (by unfold inI; omega) dX2_behindOne_18 (Or.inl ⟨3, rfl, rfl, rfl⟩) (js_callV hX MX2_settle (ci := 2) (n := 1) (RX2, TX2, 43) rfl rfl (lw_V q1586 q1588 qs84 q156 q1589) npX2_settle dX2_behindOne_19 (js_aload_n hX dX2_behindOne_22 rfl (js_iload_n hX dX2_behindOne_23 rfl (js_const hX (z := 43) (by unfold inI; omega) dX2_behindOne_24 (Or.inr (Or.inl ⟨43, rfl, rfl, rfl⟩)) (js_icmp_ne hX (tgt := 33) dX2_behindOne_26 rfl (js_const hX (z := 4) (by unfold inI; omega) dX2_behindOne_33 (Or.inl ⟨4, rfl, rfl, rfl⟩) (hK 2))
    (js_const hX (z := 3) (by unfold inI; omega) dX2_behindOne_29 (Or.inl ⟨3, rfl, rfl, rfl⟩) (js_goto hX (tgt := 34) dX2_behindOne_30 rfl (hK 2))))))))))
  | 2 => exact (js_callV hX MX2_push (ci := 2) (n := 1) (RX2, TX2, 43) rfl rfl (lw_V q1594 q1596 qs86 q156 q1597) npX2_push dX2_behindOne_34 (js_aload_n hX dX2_behindOne_37 rfl (js_const hX (z := 0) (by unfold inI; omega) dX2_behindOne_38 (Or.inl ⟨0, rfl, rfl, rfl⟩) (js_putfZ hX (ci := 2) (k := 19) (RX2, TX2, 43) rfl (by decide) rfl (Or.inl q1363) (fun _ h => h) (Or.inl rfl) dX2_behindOne_39 (js_goto hX (tgt := 115) dX2_behindOne_42 rfl (hK 5))))))
  | 3 => exact (js_aload_n hX dX2_behindOne_57 rfl (js_const hX (z := 5) (by unfold inI; omega) dX2_behindOne_58 (Or.inl ⟨5, rfl, rfl, rfl⟩) (js_callV hX MX2_settle (ci := 2) (n := 1) (RX2, TX2, 43) rfl rfl (lw_V q1586 q1588 qs84 q156 q1589) npX2_settle dX2_behindOne_59 (js_aload_n hX dX2_behindOne_62 rfl (js_iload_n hX dX2_behindOne_63 rfl (js_const hX (z := 42) (by unfold inI; omega) dX2_behindOne_64 (Or.inr (Or.inl ⟨42, rfl, rfl, rfl⟩)) (js_icmp_ne hX (tgt := 73) dX2_behindOne_66 rfl (js_const hX (z := 6) (by unfold inI; omega) dX2_behindOne_73 (Or.inr (Or.inl ⟨6, rfl, rfl, rfl⟩)) (hK 4))
    (js_const hX (z := 5) (by unfold inI; omega) dX2_behindOne_69 (Or.inl ⟨5, rfl, rfl, rfl⟩) (js_goto hX (tgt := 75) dX2_behindOne_70 rfl (hK 4))))))))))
  | 4 => exact (js_callV hX MX2_push (ci := 2) (n := 1) (RX2, TX2, 43) rfl rfl (lw_V q1594 q1596 qs86 q156 q1597) npX2_push dX2_behindOne_75 (js_aload_n hX dX2_behindOne_78 rfl (js_const hX (z := 0) (by unfold inI; omega) dX2_behindOne_79 (Or.inl ⟨0, rfl, rfl, rfl⟩) (js_putfZ hX (ci := 2) (k := 19) (RX2, TX2, 43) rfl (by decide) rfl (Or.inl q1363) (fun _ h => h) (Or.inl rfl) dX2_behindOne_80 (js_goto hX (tgt := 115) dX2_behindOne_83 rfl (hK 5))))))
  | 5 => exact (js_aload_n hX dX2_behindOne_115 rfl (js_callV hX MX2_nextToken (ci := 2) (n := 0) (RX2, TX2, 43) rfl rfl (lw_V q1510 q1512 qs69 q156 q1513) npX2_nextToken dX2_behindOne_116 (js_const hX (z := 0) (by unfold inI; omega) dX2_behindOne_119 (Or.inl ⟨0, rfl, rfl, rfl⟩) (js_ireturn hX hr hlk dX2_behindOne_120))))
  | k + 6 => intro ls st h nc ns hf; exact hf.elim
def bX2_settle : jjB := fun e K k => match k with
  | 0 => (ji_aload 0 (ji_getfI 2 17 (ji_if_le (K 1)
    (ji_aload 0 (ji_getfR 2 16 (ji_aload 0 (ji_getfI 2 17 (ji_const 1 (ji_isub (ji_iald (ji_const 40 (ji_icmp_ge (K 1)
    (ji_aload 0 (ji_getfR 2 16 (ji_aload 0 (ji_getfI 2 17 (ji_const 1 (ji_isub (ji_iald (ji_iload 1 (ji_icmp_lt (K 1)
    (ji_aload 0 (ji_dup (ji_getfI 2 17 (ji_const 1 (ji_isub (ji_putfI 2 17 (ji_aload 0 (ji_aload 0 (ji_getfR 2 16 (ji_aload 0 (ji_getfI 2 17 (ji_iald (ji_const 0 (ji_callV e MX2_emit 2 3 (ji_goto (K 0)))))))))))))))))))))))))))))))))))))
  | 1 => (ji_return e)
  | _ => fun _ _ _ _ _ => False
def pX2_settle : Nat → Nat := fun k => match k with
  | 0 => 0
  | 1 => 65
  | _ => 0
theorem sX2_settle : jSound bX2_settle pX2_settle MX2_settle := by
  intro e p ev R s m args below meth c hX hr hn hlk K hK k
  match k with
  | 0 => exact (js_aload_n hX dX2_settle_0 rfl (js_getfI hX (ci := 2) (k := 17) (RX2, TX2, 43) rfl (by decide) rfl (Or.inl q1361) (fun _ h => h) dX2_settle_1 (js_if_le hX (tgt := 65) dX2_settle_4 rfl (hK 1)
    (js_aload_n hX dX2_settle_7 rfl (js_getfR hX (ci := 2) (k := 16) (RX2, TX2, 43) rfl (by decide) rfl (Or.inl q1360) (fun _ h => h) dX2_settle_8 (js_aload_n hX dX2_settle_11 rfl (js_getfI hX (ci := 2) (k := 17) (RX2, TX2, 43) rfl (by decide) rfl (Or.inl q1361) (fun _ h => h) dX2_settle_12 (js_const hX (z := 1) (by unfold inI; omega) dX2_settle_15 (Or.inl ⟨1, rfl, rfl, rfl⟩) (js_isub hX dX2_settle_16 (js_iald hX dX2_settle_17 (js_const hX (z := 40) (by unfold inI; omega) dX2_settle_18 (Or.inr (Or.inl ⟨40, rfl, rfl, rfl⟩)) (js_icmp_ge hX (tgt := 65) dX2_settle_20 rfl (hK 1)
    (js_aload_n hX dX2_settle_23 rfl (js_getfR hX (ci := 2) (k := 16) (RX2, TX2, 43) rfl (by decide) rfl (Or.inl q1360) (fun _ h => h) dX2_settle_24 (js_aload_n hX dX2_settle_27 rfl (js_getfI hX (ci := 2) (k := 17) (RX2, TX2, 43) rfl (by decide) rfl (Or.inl q1361) (fun _ h => h) dX2_settle_28 (js_const hX (z := 1) (by unfold inI; omega) dX2_settle_31 (Or.inl ⟨1, rfl, rfl, rfl⟩) (js_isub hX dX2_settle_32 (js_iald hX dX2_settle_33 (js_iload_n hX dX2_settle_34 rfl (js_icmp_lt hX (tgt := 65) dX2_settle_35 rfl (hK 1)
    (js_aload_n hX dX2_settle_38 rfl (js_dup hX dX2_settle_39 (js_getfI hX (ci := 2) (k := 17) (RX2, TX2, 43) rfl (by decide) rfl (Or.inl q1361) (fun _ h => h) dX2_settle_40 (js_const hX (z := 1) (by unfold inI; omega) dX2_settle_43 (Or.inl ⟨1, rfl, rfl, rfl⟩) (js_isub hX dX2_settle_44 (js_putfI hX (ci := 2) (k := 17) (RX2, TX2, 43) rfl (by decide) rfl (Or.inl q1361) (fun _ h => h) (Or.inl rfl) dX2_settle_45 (js_aload_n hX dX2_settle_48 rfl (js_aload_n hX dX2_settle_49 rfl (js_getfR hX (ci := 2) (k := 16) (RX2, TX2, 43) rfl (by decide) rfl (Or.inl q1360) (fun _ h => h) dX2_settle_50 (js_aload_n hX dX2_settle_53 rfl (js_getfI hX (ci := 2) (k := 17) (RX2, TX2, 43) rfl (by decide) rfl (Or.inl q1361) (fun _ h => h) dX2_settle_54 (js_iald hX dX2_settle_57 (js_const hX (z := 0) (by unfold inI; omega) dX2_settle_58 (Or.inl ⟨0, rfl, rfl, rfl⟩) (js_callV hX MX2_emit (ci := 2) (n := 2) (RX2, TX2, 43) rfl rfl (lw_V q1590 q1592 qs85 q156 q1593) npX2_emit dX2_settle_59 (js_goto hX (tgt := 0) dX2_settle_62 rfl (hK 0)))))))))))))))))))))))))))))))))))))
  | 1 => exact (js_return hX hr hlk dX2_settle_65)
  | k + 2 => intro ls st h nc ns hf; exact hf.elim
def bX2_emit : jjB := fun e K k => match k with
  | 0 => (ji_aload 0 (ji_getfR 2 2 (ji_aload 0 (ji_getfI 2 12 (ji_const 97 (ji_iadd (ji_const 2 (ji_aload 0 (ji_getfI 2 14 (ji_imul (ji_iadd (ji_iload 1 (ji_iast (ji_aload 0 (ji_getfR 2 2 (ji_aload 0 (ji_getfI 2 12 (ji_const 97 (ji_iadd (ji_const 2 (ji_aload 0 (ji_getfI 2 14 (ji_imul (ji_iadd (ji_const 1 (ji_iadd (ji_iload 2 (ji_iast (ji_aload 0 (ji_dup (ji_getfI 2 14 (ji_const 1 (ji_iadd (ji_putfI 2 14 (ji_return e)))))))))))))))))))))))))))))))))))
  | _ => fun _ _ _ _ _ => False
def pX2_emit : Nat → Nat := fun k => match k with
  | 0 => 0
  | _ => 0
theorem sX2_emit : jSound bX2_emit pX2_emit MX2_emit := by
  intro e p ev R s m args below meth c hX hr hn hlk K hK k
  match k with
  | 0 => exact (js_aload_n hX dX2_emit_0 rfl (js_getfR hX (ci := 2) (k := 2) (RX2, TX2, 43) rfl (by decide) rfl (Or.inl q1348) (fun _ h => h) dX2_emit_1 (js_aload_n hX dX2_emit_4 rfl (js_getfI hX (ci := 2) (k := 12) (RX2, TX2, 43) rfl (by decide) rfl (Or.inl q1358) (fun _ h => h) dX2_emit_5 (js_const hX (z := 97) (by unfold inI; omega) dX2_emit_8 (Or.inr (Or.inl ⟨97, rfl, rfl, rfl⟩)) (js_iadd hX dX2_emit_10 (js_const hX (z := 2) (by unfold inI; omega) dX2_emit_11 (Or.inl ⟨2, rfl, rfl, rfl⟩) (js_aload_n hX dX2_emit_12 rfl (js_getfI hX (ci := 2) (k := 14) (RX2, TX2, 43) rfl (by decide) rfl (Or.inl q1359) (fun _ h => h) dX2_emit_13 (js_imul hX dX2_emit_16 (js_iadd hX dX2_emit_17 (js_iload_n hX dX2_emit_18 rfl (js_iast hX dX2_emit_19 (js_aload_n hX dX2_emit_20 rfl (js_getfR hX (ci := 2) (k := 2) (RX2, TX2, 43) rfl (by decide) rfl (Or.inl q1348) (fun _ h => h) dX2_emit_21 (js_aload_n hX dX2_emit_24 rfl (js_getfI hX (ci := 2) (k := 12) (RX2, TX2, 43) rfl (by decide) rfl (Or.inl q1358) (fun _ h => h) dX2_emit_25 (js_const hX (z := 97) (by unfold inI; omega) dX2_emit_28 (Or.inr (Or.inl ⟨97, rfl, rfl, rfl⟩)) (js_iadd hX dX2_emit_30 (js_const hX (z := 2) (by unfold inI; omega) dX2_emit_31 (Or.inl ⟨2, rfl, rfl, rfl⟩) (js_aload_n hX dX2_emit_32 rfl (js_getfI hX (ci := 2) (k := 14) (RX2, TX2, 43) rfl (by decide) rfl (Or.inl q1359) (fun _ h => h) dX2_emit_33 (js_imul hX dX2_emit_36 (js_iadd hX dX2_emit_37 (js_const hX (z := 1) (by unfold inI; omega) dX2_emit_38 (Or.inl ⟨1, rfl, rfl, rfl⟩) (js_iadd hX dX2_emit_39 (js_iload_n hX dX2_emit_40 rfl (js_iast hX dX2_emit_41 (js_aload_n hX dX2_emit_42 rfl (js_dup hX dX2_emit_43 (js_getfI hX (ci := 2) (k := 14) (RX2, TX2, 43) rfl (by decide) rfl (Or.inl q1359) (fun _ h => h) dX2_emit_44 (js_const hX (z := 1) (by unfold inI; omega) dX2_emit_47 (Or.inl ⟨1, rfl, rfl, rfl⟩) (js_iadd hX dX2_emit_48 (js_putfI hX (ci := 2) (k := 14) (RX2, TX2, 43) rfl (by decide) rfl (Or.inl q1359) (fun _ h => h) (Or.inl rfl) dX2_emit_49 (js_return hX hr hlk dX2_emit_52)))))))))))))))))))))))))))))))))))
  | k + 1 => intro ls st h nc ns hf; exact hf.elim
def bX2_push : jjB := fun e K k => match k with
  | 0 => (ji_aload 0 (ji_getfR 2 16 (ji_aload 0 (ji_getfI 2 17 (ji_iload 1 (ji_iast (ji_aload 0 (ji_dup (ji_getfI 2 17 (ji_const 1 (ji_iadd (ji_putfI 2 17 (ji_return e)))))))))))))
  | _ => fun _ _ _ _ _ => False
def pX2_push : Nat → Nat := fun k => match k with
  | 0 => 0
  | _ => 0
theorem sX2_push : jSound bX2_push pX2_push MX2_push := by
  intro e p ev R s m args below meth c hX hr hn hlk K hK k
  match k with
  | 0 => exact (js_aload_n hX dX2_push_0 rfl (js_getfR hX (ci := 2) (k := 16) (RX2, TX2, 43) rfl (by decide) rfl (Or.inl q1360) (fun _ h => h) dX2_push_1 (js_aload_n hX dX2_push_4 rfl (js_getfI hX (ci := 2) (k := 17) (RX2, TX2, 43) rfl (by decide) rfl (Or.inl q1361) (fun _ h => h) dX2_push_5 (js_iload_n hX dX2_push_8 rfl (js_iast hX dX2_push_9 (js_aload_n hX dX2_push_10 rfl (js_dup hX dX2_push_11 (js_getfI hX (ci := 2) (k := 17) (RX2, TX2, 43) rfl (by decide) rfl (Or.inl q1361) (fun _ h => h) dX2_push_12 (js_const hX (z := 1) (by unfold inI; omega) dX2_push_15 (Or.inl ⟨1, rfl, rfl, rfl⟩) (js_iadd hX dX2_push_16 (js_putfI hX (ci := 2) (k := 17) (RX2, TX2, 43) rfl (by decide) rfl (Or.inl q1361) (fun _ h => h) (Or.inl rfl) dX2_push_17 (js_return hX hr hlk dX2_push_20)))))))))))))
  | k + 1 => intro ls st h nc ns hf; exact hf.elim
def bX2_whole : jjB := fun e K k => match k with
  | 0 => (ji_aload 0 (ji_const 1 (ji_putfZ 2 19 (K 1))))
  | 1 => (ji_aload 0 (ji_getfI 2 17 (ji_if_le (K 2)
    (ji_aload 0 (ji_getfR 2 16 (ji_aload 0 (ji_getfI 2 17 (ji_const 1 (ji_isub (ji_iald (ji_const 2 (ji_icmp_ne (K 2)
    (ji_aload 0 (ji_dup (ji_getfI 2 17 (ji_const 1 (ji_isub (ji_putfI 2 17 (ji_aload 0 (ji_dup (ji_getfI 2 18 (ji_const 1 (ji_isub (ji_putfI 2 18 (ji_aload 0 (ji_const 2 (ji_const 0 (ji_callV e MX2_emit 2 3 (ji_goto (K 1))))))))))))))))))))))))))))))
  | 2 => (ji_return e)
  | _ => fun _ _ _ _ _ => False
def pX2_whole : Nat → Nat := fun k => match k with
  | 0 => 0
  | 1 => 5
  | 2 => 56
  | _ => 0
theorem sX2_whole : jSound bX2_whole pX2_whole MX2_whole := by
  intro e p ev R s m args below meth c hX hr hn hlk K hK k
  match k with
  | 0 => exact (js_aload_n hX dX2_whole_0 rfl (js_const hX (z := 1) (by unfold inI; omega) dX2_whole_1 (Or.inl ⟨1, rfl, rfl, rfl⟩) (js_putfZ hX (ci := 2) (k := 19) (RX2, TX2, 43) rfl (by decide) rfl (Or.inl q1363) (fun _ h => h) (Or.inl rfl) dX2_whole_2 (hK 1))))
  | 1 => exact (js_aload_n hX dX2_whole_5 rfl (js_getfI hX (ci := 2) (k := 17) (RX2, TX2, 43) rfl (by decide) rfl (Or.inl q1361) (fun _ h => h) dX2_whole_6 (js_if_le hX (tgt := 56) dX2_whole_9 rfl (hK 2)
    (js_aload_n hX dX2_whole_12 rfl (js_getfR hX (ci := 2) (k := 16) (RX2, TX2, 43) rfl (by decide) rfl (Or.inl q1360) (fun _ h => h) dX2_whole_13 (js_aload_n hX dX2_whole_16 rfl (js_getfI hX (ci := 2) (k := 17) (RX2, TX2, 43) rfl (by decide) rfl (Or.inl q1361) (fun _ h => h) dX2_whole_17 (js_const hX (z := 1) (by unfold inI; omega) dX2_whole_20 (Or.inl ⟨1, rfl, rfl, rfl⟩) (js_isub hX dX2_whole_21 (js_iald hX dX2_whole_22 (js_const hX (z := 2) (by unfold inI; omega) dX2_whole_23 (Or.inl ⟨2, rfl, rfl, rfl⟩) (js_icmp_ne hX (tgt := 56) dX2_whole_24 rfl (hK 2)
    (js_aload_n hX dX2_whole_27 rfl (js_dup hX dX2_whole_28 (js_getfI hX (ci := 2) (k := 17) (RX2, TX2, 43) rfl (by decide) rfl (Or.inl q1361) (fun _ h => h) dX2_whole_29 (js_const hX (z := 1) (by unfold inI; omega) dX2_whole_32 (Or.inl ⟨1, rfl, rfl, rfl⟩) (js_isub hX dX2_whole_33 (js_putfI hX (ci := 2) (k := 17) (RX2, TX2, 43) rfl (by decide) rfl (Or.inl q1361) (fun _ h => h) (Or.inl rfl) dX2_whole_34 (js_aload_n hX dX2_whole_37 rfl (js_dup hX dX2_whole_38 (js_getfI hX (ci := 2) (k := 18) (RX2, TX2, 43) rfl (by decide) rfl (Or.inl q1362) (fun _ h => h) dX2_whole_39 (js_const hX (z := 1) (by unfold inI; omega) dX2_whole_42 (Or.inl ⟨1, rfl, rfl, rfl⟩) (js_isub hX dX2_whole_43 (js_putfI hX (ci := 2) (k := 18) (RX2, TX2, 43) rfl (by decide) rfl (Or.inl q1362) (fun _ h => h) (Or.inl rfl) dX2_whole_44 (js_aload_n hX dX2_whole_47 rfl (js_const hX (z := 2) (by unfold inI; omega) dX2_whole_48 (Or.inl ⟨2, rfl, rfl, rfl⟩) (js_const hX (z := 0) (by unfold inI; omega) dX2_whole_49 (Or.inl ⟨0, rfl, rfl, rfl⟩) (js_callV hX MX2_emit (ci := 2) (n := 2) (RX2, TX2, 43) rfl rfl (lw_V q1590 q1592 qs85 q156 q1593) npX2_emit dX2_whole_50 (js_goto hX (tgt := 5) dX2_whole_53 rfl (hK 1))))))))))))))))))))))))))))))
  | 2 => exact (js_return hX hr hlk dX2_whole_56)
  | k + 3 => intro ls st h nc ns hf; exact hf.elim
def bX2_beginOne : jjB := fun e K k => match k with
  | 0 => (ji_aload 0 (ji_getfI 2 9 (ji_const 1 (ji_icmp_ne (ji_aload 0 (ji_callV e MX2_nameOf 2 1 (ji_if_lt (ji_aload 0 (ji_getfI 2 9 (ji_const 40 (ji_icmp_ne (ji_aload 0 (ji_getfI 2 9 (ji_const 45 (ji_icmp_ne (ji_const 0 (K 1))
    (ji_const 2 (ji_goto (K 1)))))))
    (ji_const 40 (ji_goto (K 1)))))))
    (ji_aload 0 (ji_aload 0 (ji_callV e MX2_nameOf 2 1 (ji_callV e MX2_isBarred 2 2 (ji_if_eq (ji_aload 0 (ji_const 1 (ji_aload 0 (ji_callV e MX2_nameOf 2 1 (ji_callV e MX2_emit 2 3 (ji_aload 0 (ji_callV e MX2_nextToken 2 1 (ji_aload 0 (ji_callV e MX2_whole 2 1 (ji_const 0 (ji_ireturn e)))))))))))
    (ji_const 5 (ji_ireturn e))))))))))
    (ji_aload 0 (ji_getfI 2 10 (ji_const 9999 (ji_icmp_le (ji_aload 0 (ji_const 0 (ji_aload 0 (ji_getfI 2 10 (ji_callV e MX2_emit 2 3 (ji_aload 0 (ji_callV e MX2_nextToken 2 1 (ji_aload 0 (ji_callV e MX2_whole 2 1 (ji_const 0 (ji_ireturn e)))))))))))
    (ji_const 2 (ji_ireturn e))))))))))
  | 1 => (ji_istore 1 (ji_iload 1 (ji_if_ne (ji_aload 0 (ji_getfI 2 18 (ji_const 8 (ji_icmp_ne (ji_aload 0 (ji_dup (ji_getfI 2 18 (ji_const 1 (ji_iadd (ji_putfI 2 18 (ji_aload 0 (ji_iload 1 (ji_callV e MX2_push 2 2 (ji_aload 0 (ji_callV e MX2_nextToken 2 1 (ji_const 0 (ji_ireturn e)))))))))))))
    (ji_const 3 (ji_ireturn e))))))
    (ji_const 1 (ji_ireturn e)))))
  | _ => fun _ _ _ _ _ => False
def pX2_beginOne : Nat → Nat := fun k => match k with
  | 0 => 0
  | 1 => 106
  | _ => 0
theorem sX2_beginOne : jSound bX2_beginOne pX2_beginOne MX2_beginOne := by
  intro e p ev R s m args below meth c hX hr hn hlk K hK k
  match k with
  | 0 => exact (js_aload_n hX dX2_beginOne_0 rfl (js_getfI hX (ci := 2) (k := 9) (RX2, TX2, 43) rfl (by decide) rfl (Or.inl q1355) (fun _ h => h) dX2_beginOne_1 (js_const hX (z := 1) (by unfold inI; omega) dX2_beginOne_4 (Or.inl ⟨1, rfl, rfl, rfl⟩) (js_icmp_ne hX (tgt := 39) dX2_beginOne_5 rfl (js_aload_n hX dX2_beginOne_39 rfl (js_callV hX MX2_nameOf (ci := 2) (n := 0) (RX2, TX2, 43) rfl rfl (lw_V q1606 q1608 qs89 q156 q1609) npX2_nameOf dX2_beginOne_40 (js_if_lt hX (tgt := 78) dX2_beginOne_43 rfl (js_aload_n hX dX2_beginOne_78 rfl (js_getfI hX (ci := 2) (k := 9) (RX2, TX2, 43) rfl (by decide) rfl (Or.inl q1355) (fun _ h => h) dX2_beginOne_79 (js_const hX (z := 40) (by unfold inI; omega) dX2_beginOne_82 (Or.inr (Or.inl ⟨40, rfl, rfl, rfl⟩)) (js_icmp_ne hX (tgt := 92) dX2_beginOne_84 rfl (js_aload_n hX dX2_beginOne_92 rfl (js_getfI hX (ci := 2) (k := 9) (RX2, TX2, 43) rfl (by decide) rfl (Or.inl q1355) (fun _ h => h) dX2_beginOne_93 (js_const hX (z := 45) (by unfold inI; omega) dX2_beginOne_96 (Or.inr (Or.inl ⟨45, rfl, rfl, rfl⟩)) (js_icmp_ne hX (tgt := 105) dX2_beginOne_98 rfl (js_const hX (z := 0) (by unfold inI; omega) dX2_beginOne_105 (Or.inl ⟨0, rfl, rfl, rfl⟩) (hK 1))
    (js_const hX (z := 2) (by unfold inI; omega) dX2_beginOne_101 (Or.inl ⟨2, rfl, rfl, rfl⟩) (js_goto hX (tgt := 106) dX2_beginOne_102 rfl (hK 1)))))))
    (js_const hX (z := 40) (by unfold inI; omega) dX2_beginOne_87 (Or.inr (Or.inl ⟨40, rfl, rfl, rfl⟩)) (js_goto hX (tgt := 106) dX2_beginOne_89 rfl (hK 1)))))))
    (js_aload_n hX dX2_beginOne_46 rfl (js_aload_n hX dX2_beginOne_47 rfl (js_callV hX MX2_nameOf (ci := 2) (n := 0) (RX2, TX2, 43) rfl rfl (lw_V q1606 q1608 qs89 q156 q1609) npX2_nameOf dX2_beginOne_48 (js_callV hX MX2_isBarred (ci := 2) (n := 1) (RX2, TX2, 43) rfl rfl (lw_V q1617 q1619 qs91 q156 q1620) npX2_isBarred dX2_beginOne_51 (js_if_eq hX (tgt := 59) dX2_beginOne_54 rfl (js_aload_n hX dX2_beginOne_59 rfl (js_const hX (z := 1) (by unfold inI; omega) dX2_beginOne_60 (Or.inl ⟨1, rfl, rfl, rfl⟩) (js_aload_n hX dX2_beginOne_61 rfl (js_callV hX MX2_nameOf (ci := 2) (n := 0) (RX2, TX2, 43) rfl rfl (lw_V q1606 q1608 qs89 q156 q1609) npX2_nameOf dX2_beginOne_62 (js_callV hX MX2_emit (ci := 2) (n := 2) (RX2, TX2, 43) rfl rfl (lw_V q1590 q1592 qs85 q156 q1593) npX2_emit dX2_beginOne_65 (js_aload_n hX dX2_beginOne_68 rfl (js_callV hX MX2_nextToken (ci := 2) (n := 0) (RX2, TX2, 43) rfl rfl (lw_V q1510 q1512 qs69 q156 q1513) npX2_nextToken dX2_beginOne_69 (js_aload_n hX dX2_beginOne_72 rfl (js_callV hX MX2_whole (ci := 2) (n := 0) (RX2, TX2, 43) rfl rfl (lw_V q1598 q1600 qs87 q156 q1601) npX2_whole dX2_beginOne_73 (js_const hX (z := 0) (by unfold inI; omega) dX2_beginOne_76 (Or.inl ⟨0, rfl, rfl, rfl⟩) (js_ireturn hX hr hlk dX2_beginOne_77)))))))))))
    (js_const hX (z := 5) (by unfold inI; omega) dX2_beginOne_57 (Or.inl ⟨5, rfl, rfl, rfl⟩) (js_ireturn hX hr hlk dX2_beginOne_58))))))))))
    (js_aload_n hX dX2_beginOne_8 rfl (js_getfI hX (ci := 2) (k := 10) (RX2, TX2, 43) rfl (by decide) rfl (Or.inl q1356) (fun _ h => h) dX2_beginOne_9 (js_const hX (z := 9999) (by unfold inI; omega) dX2_beginOne_12 (Or.inr (Or.inr (Or.inl ⟨9999, rfl, rfl, rfl⟩))) (js_icmp_le hX (tgt := 20) dX2_beginOne_15 rfl (js_aload_n hX dX2_beginOne_20 rfl (js_const hX (z := 0) (by unfold inI; omega) dX2_beginOne_21 (Or.inl ⟨0, rfl, rfl, rfl⟩) (js_aload_n hX dX2_beginOne_22 rfl (js_getfI hX (ci := 2) (k := 10) (RX2, TX2, 43) rfl (by decide) rfl (Or.inl q1356) (fun _ h => h) dX2_beginOne_23 (js_callV hX MX2_emit (ci := 2) (n := 2) (RX2, TX2, 43) rfl rfl (lw_V q1590 q1592 qs85 q156 q1593) npX2_emit dX2_beginOne_26 (js_aload_n hX dX2_beginOne_29 rfl (js_callV hX MX2_nextToken (ci := 2) (n := 0) (RX2, TX2, 43) rfl rfl (lw_V q1510 q1512 qs69 q156 q1513) npX2_nextToken dX2_beginOne_30 (js_aload_n hX dX2_beginOne_33 rfl (js_callV hX MX2_whole (ci := 2) (n := 0) (RX2, TX2, 43) rfl rfl (lw_V q1598 q1600 qs87 q156 q1601) npX2_whole dX2_beginOne_34 (js_const hX (z := 0) (by unfold inI; omega) dX2_beginOne_37 (Or.inl ⟨0, rfl, rfl, rfl⟩) (js_ireturn hX hr hlk dX2_beginOne_38)))))))))))
    (js_const hX (z := 2) (by unfold inI; omega) dX2_beginOne_18 (Or.inl ⟨2, rfl, rfl, rfl⟩) (js_ireturn hX hr hlk dX2_beginOne_19))))))))))
  | 1 => exact (js_istore_n hX dX2_beginOne_106 rfl (by decide) (js_iload_n hX dX2_beginOne_107 rfl (js_if_ne hX (tgt := 113) dX2_beginOne_108 rfl (js_aload_n hX dX2_beginOne_113 rfl (js_getfI hX (ci := 2) (k := 18) (RX2, TX2, 43) rfl (by decide) rfl (Or.inl q1362) (fun _ h => h) dX2_beginOne_114 (js_const hX (z := 8) (by unfold inI; omega) dX2_beginOne_117 (Or.inr (Or.inl ⟨8, rfl, rfl, rfl⟩)) (js_icmp_ne hX (tgt := 124) dX2_beginOne_119 rfl (js_aload_n hX dX2_beginOne_124 rfl (js_dup hX dX2_beginOne_125 (js_getfI hX (ci := 2) (k := 18) (RX2, TX2, 43) rfl (by decide) rfl (Or.inl q1362) (fun _ h => h) dX2_beginOne_126 (js_const hX (z := 1) (by unfold inI; omega) dX2_beginOne_129 (Or.inl ⟨1, rfl, rfl, rfl⟩) (js_iadd hX dX2_beginOne_130 (js_putfI hX (ci := 2) (k := 18) (RX2, TX2, 43) rfl (by decide) rfl (Or.inl q1362) (fun _ h => h) (Or.inl rfl) dX2_beginOne_131 (js_aload_n hX dX2_beginOne_134 rfl (js_iload_n hX dX2_beginOne_135 rfl (js_callV hX MX2_push (ci := 2) (n := 1) (RX2, TX2, 43) rfl rfl (lw_V q1594 q1596 qs86 q156 q1597) npX2_push dX2_beginOne_136 (js_aload_n hX dX2_beginOne_139 rfl (js_callV hX MX2_nextToken (ci := 2) (n := 0) (RX2, TX2, 43) rfl rfl (lw_V q1510 q1512 qs69 q156 q1513) npX2_nextToken dX2_beginOne_140 (js_const hX (z := 0) (by unfold inI; omega) dX2_beginOne_143 (Or.inl ⟨0, rfl, rfl, rfl⟩) (js_ireturn hX hr hlk dX2_beginOne_144)))))))))))))
    (js_const hX (z := 3) (by unfold inI; omega) dX2_beginOne_122 (Or.inl ⟨3, rfl, rfl, rfl⟩) (js_ireturn hX hr hlk dX2_beginOne_123))))))
    (js_const hX (z := 1) (by unfold inI; omega) dX2_beginOne_111 (Or.inl ⟨1, rfl, rfl, rfl⟩) (js_ireturn hX hr hlk dX2_beginOne_112)))))
  | k + 2 => intro ls st h nc ns hf; exact hf.elim
def bX2_nameOf : jjB := fun e K k => match k with
  | 0 => (ji_aload 0 (ji_getfI 2 9 (ji_const 2 (ji_icmp_eq (ji_aload 0 (ji_callV e MX2_ownName 2 1 (ji_if_lt (ji_aload 0 (ji_getfL 2 11 (ji_const 111 (ji_const 104 (ji_const 117 (ji_const 101 (ji_callS e MX2_w4 4 (ji_lcmp (ji_if_ne (ji_aload 0 (ji_getfL 2 11 (ji_const 111 (ji_const 99 (ji_const 114 (ji_const 101 (ji_const 101 (ji_const 100 (ji_callS e MX2_w6 6 (ji_lcmp (ji_if_ne (ji_aload 0 (ji_getfL 2 11 (ji_const 111 (ji_const 116 (ji_const 104 (ji_const 105 (ji_const 99 (ji_const 107 (ji_callS e MX2_w6 6 (ji_lcmp (ji_if_ne (ji_aload 0 (ji_getfL 2 11 (ji_const 111 (ji_const 97 (ji_const 117 (ji_callS e MX2_w3 3 (ji_const 32 (ji_lshl (ji_const 116 (ji_const 104 (ji_const 111 (ji_const 114 (ji_callS e MX2_w4 4 (ji_lor (ji_lcmp (ji_if_ne (ji_aload 0 (ji_getfL 2 11 (ji_const 115 (ji_const 104 (ji_const 101 (ji_const 108 (ji_const 102 (ji_callS e MX2_w5 5 (ji_lcmp (ji_if_ne (ji_aload 0 (ji_getfL 2 11 (ji_const 112 (ji_const 108 (ji_const 97 (ji_const 99 (ji_const 101 (ji_callS e MX2_w5 5 (ji_lcmp (ji_if_ne (ji_aload 0 (ji_getfL 2 11 (ji_const 109 (ji_const 97 (ji_const 110 (ji_const 121 (ji_callS e MX2_w4 4 (ji_lcmp (ji_if_ne (ji_const (-1) (K 1))
    (ji_const 14 (ji_goto (K 1))))))))))))
    (ji_const 13 (ji_goto (K 1)))))))))))))
    (ji_const 12 (ji_ireturn e))))))))))))
    (ji_const 11 (ji_ireturn e))))))))))))))))))
    (ji_const 10 (ji_ireturn e)))))))))))))
    (ji_const 9 (ji_ireturn e)))))))))))))
    (ji_const 8 (ji_ireturn e)))))))))))
    (ji_aload 0 (ji_callV e MX2_ownName 2 1 (ji_ireturn e))))))
    (ji_const (-1) (ji_ireturn e))))))
  | 1 => (ji_ireturn e)
  | _ => fun _ _ _ _ _ => False
def pX2_nameOf : Nat → Nat := fun k => match k with
  | 0 => 0
  | 1 => 206
  | _ => 0
theorem sX2_nameOf : jSound bX2_nameOf pX2_nameOf MX2_nameOf := by
  intro e p ev R s m args below meth c hX hr hn hlk K hK k
  match k with
  | 0 => exact (js_aload_n hX dX2_nameOf_0 rfl (js_getfI hX (ci := 2) (k := 9) (RX2, TX2, 43) rfl (by decide) rfl (Or.inl q1355) (fun _ h => h) dX2_nameOf_1 (js_const hX (z := 2) (by unfold inI; omega) dX2_nameOf_4 (Or.inl ⟨2, rfl, rfl, rfl⟩) (js_icmp_eq hX (tgt := 10) dX2_nameOf_5 rfl (js_aload_n hX dX2_nameOf_10 rfl (js_callV hX MX2_ownName (ci := 2) (n := 0) (RX2, TX2, 43) rfl rfl (lw_V q1610 q1612 qs90 q156 q1613) npX2_ownName dX2_nameOf_11 (js_if_lt hX (tgt := 22) dX2_nameOf_14 rfl (js_aload_n hX dX2_nameOf_22 rfl (js_getfL hX (ci := 2) (k := 11) (RX2, TX2, 43) rfl (by decide) rfl (Or.inl q1357) (fun _ h => h) dX2_nameOf_23 (js_const hX (z := 111) (by unfold inI; omega) dX2_nameOf_26 (Or.inr (Or.inl ⟨111, rfl, rfl, rfl⟩)) (js_const hX (z := 104) (by unfold inI; omega) dX2_nameOf_28 (Or.inr (Or.inl ⟨104, rfl, rfl, rfl⟩)) (js_const hX (z := 117) (by unfold inI; omega) dX2_nameOf_30 (Or.inr (Or.inl ⟨117, rfl, rfl, rfl⟩)) (js_const hX (z := 101) (by unfold inI; omega) dX2_nameOf_32 (Or.inr (Or.inl ⟨101, rfl, rfl, rfl⟩)) (js_callS hX MX2_w4 (n := 4) (lw_S q1543 q1544 q156 q1545) npX2_w4 dX2_nameOf_34 (js_lcmp hX dX2_nameOf_37 (js_if_ne hX (tgt := 44) dX2_nameOf_38 rfl (js_aload_n hX dX2_nameOf_44 rfl (js_getfL hX (ci := 2) (k := 11) (RX2, TX2, 43) rfl (by decide) rfl (Or.inl q1357) (fun _ h => h) dX2_nameOf_45 (js_const hX (z := 111) (by unfold inI; omega) dX2_nameOf_48 (Or.inr (Or.inl ⟨111, rfl, rfl, rfl⟩)) (js_const hX (z := 99) (by unfold inI; omega) dX2_nameOf_50 (Or.inr (Or.inl ⟨99, rfl, rfl, rfl⟩)) (js_const hX (z := 114) (by unfold inI; omega) dX2_nameOf_52 (Or.inr (Or.inl ⟨114, rfl, rfl, rfl⟩)) (js_const hX (z := 101) (by unfold inI; omega) dX2_nameOf_54 (Or.inr (Or.inl ⟨101, rfl, rfl, rfl⟩)) (js_const hX (z := 101) (by unfold inI; omega) dX2_nameOf_56 (Or.inr (Or.inl ⟨101, rfl, rfl, rfl⟩)) (js_const hX (z := 100) (by unfold inI; omega) dX2_nameOf_58 (Or.inr (Or.inl ⟨100, rfl, rfl, rfl⟩)) (js_callS hX MX2_w6 (n := 6) (lw_S q1614 q1615 q156 q1616) npX2_w6 dX2_nameOf_60 (js_lcmp hX dX2_nameOf_63 (js_if_ne hX (tgt := 70) dX2_nameOf_64 rfl (js_aload_n hX dX2_nameOf_70 rfl (js_getfL hX (ci := 2) (k := 11) (RX2, TX2, 43) rfl (by decide) rfl (Or.inl q1357) (fun _ h => h) dX2_nameOf_71 (js_const hX (z := 111) (by unfold inI; omega) dX2_nameOf_74 (Or.inr (Or.inl ⟨111, rfl, rfl, rfl⟩)) (js_const hX (z := 116) (by unfold inI; omega) dX2_nameOf_76 (Or.inr (Or.inl ⟨116, rfl, rfl, rfl⟩)) (js_const hX (z := 104) (by unfold inI; omega) dX2_nameOf_78 (Or.inr (Or.inl ⟨104, rfl, rfl, rfl⟩)) (js_const hX (z := 105) (by unfold inI; omega) dX2_nameOf_80 (Or.inr (Or.inl ⟨105, rfl, rfl, rfl⟩)) (js_const hX (z := 99) (by unfold inI; omega) dX2_nameOf_82 (Or.inr (Or.inl ⟨99, rfl, rfl, rfl⟩)) (js_const hX (z := 107) (by unfold inI; omega) dX2_nameOf_84 (Or.inr (Or.inl ⟨107, rfl, rfl, rfl⟩)) (js_callS hX MX2_w6 (n := 6) (lw_S q1614 q1615 q156 q1616) npX2_w6 dX2_nameOf_86 (js_lcmp hX dX2_nameOf_89 (js_if_ne hX (tgt := 96) dX2_nameOf_90 rfl (js_aload_n hX dX2_nameOf_96 rfl (js_getfL hX (ci := 2) (k := 11) (RX2, TX2, 43) rfl (by decide) rfl (Or.inl q1357) (fun _ h => h) dX2_nameOf_97 (js_const hX (z := 111) (by unfold inI; omega) dX2_nameOf_100 (Or.inr (Or.inl ⟨111, rfl, rfl, rfl⟩)) (js_const hX (z := 97) (by unfold inI; omega) dX2_nameOf_102 (Or.inr (Or.inl ⟨97, rfl, rfl, rfl⟩)) (js_const hX (z := 117) (by unfold inI; omega) dX2_nameOf_104 (Or.inr (Or.inl ⟨117, rfl, rfl, rfl⟩)) (js_callS hX MX2_w3 (n := 3) (lw_S q1533 q1534 q156 q1535) npX2_w3 dX2_nameOf_106 (js_const hX (z := 32) (by unfold inI; omega) dX2_nameOf_109 (Or.inr (Or.inl ⟨32, rfl, rfl, rfl⟩)) (js_lshl hX dX2_nameOf_111 (js_const hX (z := 116) (by unfold inI; omega) dX2_nameOf_112 (Or.inr (Or.inl ⟨116, rfl, rfl, rfl⟩)) (js_const hX (z := 104) (by unfold inI; omega) dX2_nameOf_114 (Or.inr (Or.inl ⟨104, rfl, rfl, rfl⟩)) (js_const hX (z := 111) (by unfold inI; omega) dX2_nameOf_116 (Or.inr (Or.inl ⟨111, rfl, rfl, rfl⟩)) (js_const hX (z := 114) (by unfold inI; omega) dX2_nameOf_118 (Or.inr (Or.inl ⟨114, rfl, rfl, rfl⟩)) (js_callS hX MX2_w4 (n := 4) (lw_S q1543 q1544 q156 q1545) npX2_w4 dX2_nameOf_120 (js_lor hX dX2_nameOf_123 (js_lcmp hX dX2_nameOf_124 (js_if_ne hX (tgt := 131) dX2_nameOf_125 rfl (js_aload_n hX dX2_nameOf_131 rfl (js_getfL hX (ci := 2) (k := 11) (RX2, TX2, 43) rfl (by decide) rfl (Or.inl q1357) (fun _ h => h) dX2_nameOf_132 (js_const hX (z := 115) (by unfold inI; omega) dX2_nameOf_135 (Or.inr (Or.inl ⟨115, rfl, rfl, rfl⟩)) (js_const hX (z := 104) (by unfold inI; omega) dX2_nameOf_137 (Or.inr (Or.inl ⟨104, rfl, rfl, rfl⟩)) (js_const hX (z := 101) (by unfold inI; omega) dX2_nameOf_139 (Or.inr (Or.inl ⟨101, rfl, rfl, rfl⟩)) (js_const hX (z := 108) (by unfold inI; omega) dX2_nameOf_141 (Or.inr (Or.inl ⟨108, rfl, rfl, rfl⟩)) (js_const hX (z := 102) (by unfold inI; omega) dX2_nameOf_143 (Or.inr (Or.inl ⟨102, rfl, rfl, rfl⟩)) (js_callS hX MX2_w5 (n := 5) (lw_S q1540 q1541 q156 q1542) npX2_w5 dX2_nameOf_145 (js_lcmp hX dX2_nameOf_148 (js_if_ne hX (tgt := 155) dX2_nameOf_149 rfl (js_aload_n hX dX2_nameOf_155 rfl (js_getfL hX (ci := 2) (k := 11) (RX2, TX2, 43) rfl (by decide) rfl (Or.inl q1357) (fun _ h => h) dX2_nameOf_156 (js_const hX (z := 112) (by unfold inI; omega) dX2_nameOf_159 (Or.inr (Or.inl ⟨112, rfl, rfl, rfl⟩)) (js_const hX (z := 108) (by unfold inI; omega) dX2_nameOf_161 (Or.inr (Or.inl ⟨108, rfl, rfl, rfl⟩)) (js_const hX (z := 97) (by unfold inI; omega) dX2_nameOf_163 (Or.inr (Or.inl ⟨97, rfl, rfl, rfl⟩)) (js_const hX (z := 99) (by unfold inI; omega) dX2_nameOf_165 (Or.inr (Or.inl ⟨99, rfl, rfl, rfl⟩)) (js_const hX (z := 101) (by unfold inI; omega) dX2_nameOf_167 (Or.inr (Or.inl ⟨101, rfl, rfl, rfl⟩)) (js_callS hX MX2_w5 (n := 5) (lw_S q1540 q1541 q156 q1542) npX2_w5 dX2_nameOf_169 (js_lcmp hX dX2_nameOf_172 (js_if_ne hX (tgt := 181) dX2_nameOf_173 rfl (js_aload_n hX dX2_nameOf_181 rfl (js_getfL hX (ci := 2) (k := 11) (RX2, TX2, 43) rfl (by decide) rfl (Or.inl q1357) (fun _ h => h) dX2_nameOf_182 (js_const hX (z := 109) (by unfold inI; omega) dX2_nameOf_185 (Or.inr (Or.inl ⟨109, rfl, rfl, rfl⟩)) (js_const hX (z := 97) (by unfold inI; omega) dX2_nameOf_187 (Or.inr (Or.inl ⟨97, rfl, rfl, rfl⟩)) (js_const hX (z := 110) (by unfold inI; omega) dX2_nameOf_189 (Or.inr (Or.inl ⟨110, rfl, rfl, rfl⟩)) (js_const hX (z := 121) (by unfold inI; omega) dX2_nameOf_191 (Or.inr (Or.inl ⟨121, rfl, rfl, rfl⟩)) (js_callS hX MX2_w4 (n := 4) (lw_S q1543 q1544 q156 q1545) npX2_w4 dX2_nameOf_193 (js_lcmp hX dX2_nameOf_196 (js_if_ne hX (tgt := 205) dX2_nameOf_197 rfl (js_const hX (z := (-1)) (by unfold inI; omega) dX2_nameOf_205 (Or.inl ⟨(-1), rfl, rfl, rfl⟩) (hK 1))
    (js_const hX (z := 14) (by unfold inI; omega) dX2_nameOf_200 (Or.inr (Or.inl ⟨14, rfl, rfl, rfl⟩)) (js_goto hX (tgt := 206) dX2_nameOf_202 rfl (hK 1))))))))))))
    (js_const hX (z := 13) (by unfold inI; omega) dX2_nameOf_176 (Or.inr (Or.inl ⟨13, rfl, rfl, rfl⟩)) (js_goto hX (tgt := 206) dX2_nameOf_178 rfl (hK 1)))))))))))))
    (js_const hX (z := 12) (by unfold inI; omega) dX2_nameOf_152 (Or.inr (Or.inl ⟨12, rfl, rfl, rfl⟩)) (js_ireturn hX hr hlk dX2_nameOf_154))))))))))))
    (js_const hX (z := 11) (by unfold inI; omega) dX2_nameOf_128 (Or.inr (Or.inl ⟨11, rfl, rfl, rfl⟩)) (js_ireturn hX hr hlk dX2_nameOf_130))))))))))))))))))
    (js_const hX (z := 10) (by unfold inI; omega) dX2_nameOf_93 (Or.inr (Or.inl ⟨10, rfl, rfl, rfl⟩)) (js_ireturn hX hr hlk dX2_nameOf_95)))))))))))))
    (js_const hX (z := 9) (by unfold inI; omega) dX2_nameOf_67 (Or.inr (Or.inl ⟨9, rfl, rfl, rfl⟩)) (js_ireturn hX hr hlk dX2_nameOf_69)))))))))))))
    (js_const hX (z := 8) (by unfold inI; omega) dX2_nameOf_41 (Or.inr (Or.inl ⟨8, rfl, rfl, rfl⟩)) (js_ireturn hX hr hlk dX2_nameOf_43)))))))))))
    (js_aload_n hX dX2_nameOf_17 rfl (js_callV hX MX2_ownName (ci := 2) (n := 0) (RX2, TX2, 43) rfl rfl (lw_V q1610 q1612 qs90 q156 q1613) npX2_ownName dX2_nameOf_18 (js_ireturn hX hr hlk dX2_nameOf_21))))))
    (js_const hX (z := (-1)) (by unfold inI; omega) dX2_nameOf_8 (Or.inl ⟨(-1), rfl, rfl, rfl⟩) (js_ireturn hX hr hlk dX2_nameOf_9))))))
  | 1 => exact (js_ireturn hX hr hlk dX2_nameOf_206)
  | k + 2 => intro ls st h nc ns hf; exact hf.elim
def bX2_ownName : jjB := fun e K k => match k with
  | 0 => (ji_aload 0 (ji_getfL 2 11 (ji_const 98 (ji_const 111 (ji_const 111 (ji_const 107 (ji_callS e MX2_w4 4 (ji_lcmp (ji_if_ne (ji_aload 0 (ji_getfL 2 11 (ji_const 104 (ji_const 117 (ji_const 101 (ji_callS e MX2_w3 3 (ji_lcmp (ji_if_ne (ji_aload 0 (ji_getfL 2 11 (ji_const 99 (ji_const 114 (ji_const 101 (ji_const 101 (ji_const 100 (ji_callS e MX2_w5 5 (ji_lcmp (ji_if_ne (ji_aload 0 (ji_getfL 2 11 (ji_const 116 (ji_const 104 (ji_const 105 (ji_const 99 (ji_const 107 (ji_callS e MX2_w5 5 (ji_lcmp (ji_if_ne (ji_aload 0 (ji_getfL 2 11 (ji_const 97 (ji_const 117 (ji_const 116 (ji_const 104 (ji_const 111 (ji_const 114 (ji_callS e MX2_w6 6 (ji_lcmp (ji_if_ne (ji_aload 0 (ji_getfL 2 11 (ji_const 119 (ji_const 101 (ji_const 116 (ji_callS e MX2_w3 3 (ji_lcmp (ji_if_ne (ji_aload 0 (ji_getfL 2 11 (ji_const 114 (ji_const 105 (ji_const 103 (ji_const 104 (ji_const 116 (ji_callS e MX2_w5 5 (ji_lcmp (ji_if_ne (ji_aload 0 (ji_getfL 2 11 (ji_const 111 (ji_const 116 (ji_const 104 (ji_const 101 (ji_const 114 (ji_callS e MX2_w5 5 (ji_lcmp (ji_if_ne (ji_const (-1) (K 1))
    (ji_const 7 (ji_goto (K 1)))))))))))))
    (ji_const 6 (ji_goto (K 1)))))))))))))
    (ji_const 5 (ji_goto (K 1)))))))))))
    (ji_const 4 (ji_ireturn e)))))))))))))
    (ji_const 3 (ji_ireturn e))))))))))))
    (ji_const 2 (ji_ireturn e))))))))))))
    (ji_const 1 (ji_ireturn e))))))))))
    (ji_const 0 (ji_ireturn e)))))))))))
  | 1 => (ji_ireturn e)
  | _ => fun _ _ _ _ _ => False
def pX2_ownName : Nat → Nat := fun k => match k with
  | 0 => 0
  | 1 => 185
  | _ => 0
theorem sX2_ownName : jSound bX2_ownName pX2_ownName MX2_ownName := by
  intro e p ev R s m args below meth c hX hr hn hlk K hK k
  match k with
  | 0 => exact (js_aload_n hX dX2_ownName_0 rfl (js_getfL hX (ci := 2) (k := 11) (RX2, TX2, 43) rfl (by decide) rfl (Or.inl q1357) (fun _ h => h) dX2_ownName_1 (js_const hX (z := 98) (by unfold inI; omega) dX2_ownName_4 (Or.inr (Or.inl ⟨98, rfl, rfl, rfl⟩)) (js_const hX (z := 111) (by unfold inI; omega) dX2_ownName_6 (Or.inr (Or.inl ⟨111, rfl, rfl, rfl⟩)) (js_const hX (z := 111) (by unfold inI; omega) dX2_ownName_8 (Or.inr (Or.inl ⟨111, rfl, rfl, rfl⟩)) (js_const hX (z := 107) (by unfold inI; omega) dX2_ownName_10 (Or.inr (Or.inl ⟨107, rfl, rfl, rfl⟩)) (js_callS hX MX2_w4 (n := 4) (lw_S q1543 q1544 q156 q1545) npX2_w4 dX2_ownName_12 (js_lcmp hX dX2_ownName_15 (js_if_ne hX (tgt := 21) dX2_ownName_16 rfl (js_aload_n hX dX2_ownName_21 rfl (js_getfL hX (ci := 2) (k := 11) (RX2, TX2, 43) rfl (by decide) rfl (Or.inl q1357) (fun _ h => h) dX2_ownName_22 (js_const hX (z := 104) (by unfold inI; omega) dX2_ownName_25 (Or.inr (Or.inl ⟨104, rfl, rfl, rfl⟩)) (js_const hX (z := 117) (by unfold inI; omega) dX2_ownName_27 (Or.inr (Or.inl ⟨117, rfl, rfl, rfl⟩)) (js_const hX (z := 101) (by unfold inI; omega) dX2_ownName_29 (Or.inr (Or.inl ⟨101, rfl, rfl, rfl⟩)) (js_callS hX MX2_w3 (n := 3) (lw_S q1533 q1534 q156 q1535) npX2_w3 dX2_ownName_31 (js_lcmp hX dX2_ownName_34 (js_if_ne hX (tgt := 40) dX2_ownName_35 rfl (js_aload_n hX dX2_ownName_40 rfl (js_getfL hX (ci := 2) (k := 11) (RX2, TX2, 43) rfl (by decide) rfl (Or.inl q1357) (fun _ h => h) dX2_ownName_41 (js_const hX (z := 99) (by unfold inI; omega) dX2_ownName_44 (Or.inr (Or.inl ⟨99, rfl, rfl, rfl⟩)) (js_const hX (z := 114) (by unfold inI; omega) dX2_ownName_46 (Or.inr (Or.inl ⟨114, rfl, rfl, rfl⟩)) (js_const hX (z := 101) (by unfold inI; omega) dX2_ownName_48 (Or.inr (Or.inl ⟨101, rfl, rfl, rfl⟩)) (js_const hX (z := 101) (by unfold inI; omega) dX2_ownName_50 (Or.inr (Or.inl ⟨101, rfl, rfl, rfl⟩)) (js_const hX (z := 100) (by unfold inI; omega) dX2_ownName_52 (Or.inr (Or.inl ⟨100, rfl, rfl, rfl⟩)) (js_callS hX MX2_w5 (n := 5) (lw_S q1540 q1541 q156 q1542) npX2_w5 dX2_ownName_54 (js_lcmp hX dX2_ownName_57 (js_if_ne hX (tgt := 63) dX2_ownName_58 rfl (js_aload_n hX dX2_ownName_63 rfl (js_getfL hX (ci := 2) (k := 11) (RX2, TX2, 43) rfl (by decide) rfl (Or.inl q1357) (fun _ h => h) dX2_ownName_64 (js_const hX (z := 116) (by unfold inI; omega) dX2_ownName_67 (Or.inr (Or.inl ⟨116, rfl, rfl, rfl⟩)) (js_const hX (z := 104) (by unfold inI; omega) dX2_ownName_69 (Or.inr (Or.inl ⟨104, rfl, rfl, rfl⟩)) (js_const hX (z := 105) (by unfold inI; omega) dX2_ownName_71 (Or.inr (Or.inl ⟨105, rfl, rfl, rfl⟩)) (js_const hX (z := 99) (by unfold inI; omega) dX2_ownName_73 (Or.inr (Or.inl ⟨99, rfl, rfl, rfl⟩)) (js_const hX (z := 107) (by unfold inI; omega) dX2_ownName_75 (Or.inr (Or.inl ⟨107, rfl, rfl, rfl⟩)) (js_callS hX MX2_w5 (n := 5) (lw_S q1540 q1541 q156 q1542) npX2_w5 dX2_ownName_77 (js_lcmp hX dX2_ownName_80 (js_if_ne hX (tgt := 86) dX2_ownName_81 rfl (js_aload_n hX dX2_ownName_86 rfl (js_getfL hX (ci := 2) (k := 11) (RX2, TX2, 43) rfl (by decide) rfl (Or.inl q1357) (fun _ h => h) dX2_ownName_87 (js_const hX (z := 97) (by unfold inI; omega) dX2_ownName_90 (Or.inr (Or.inl ⟨97, rfl, rfl, rfl⟩)) (js_const hX (z := 117) (by unfold inI; omega) dX2_ownName_92 (Or.inr (Or.inl ⟨117, rfl, rfl, rfl⟩)) (js_const hX (z := 116) (by unfold inI; omega) dX2_ownName_94 (Or.inr (Or.inl ⟨116, rfl, rfl, rfl⟩)) (js_const hX (z := 104) (by unfold inI; omega) dX2_ownName_96 (Or.inr (Or.inl ⟨104, rfl, rfl, rfl⟩)) (js_const hX (z := 111) (by unfold inI; omega) dX2_ownName_98 (Or.inr (Or.inl ⟨111, rfl, rfl, rfl⟩)) (js_const hX (z := 114) (by unfold inI; omega) dX2_ownName_100 (Or.inr (Or.inl ⟨114, rfl, rfl, rfl⟩)) (js_callS hX MX2_w6 (n := 6) (lw_S q1614 q1615 q156 q1616) npX2_w6 dX2_ownName_102 (js_lcmp hX dX2_ownName_105 (js_if_ne hX (tgt := 111) dX2_ownName_106 rfl (js_aload_n hX dX2_ownName_111 rfl (js_getfL hX (ci := 2) (k := 11) (RX2, TX2, 43) rfl (by decide) rfl (Or.inl q1357) (fun _ h => h) dX2_ownName_112 (js_const hX (z := 119) (by unfold inI; omega) dX2_ownName_115 (Or.inr (Or.inl ⟨119, rfl, rfl, rfl⟩)) (js_const hX (z := 101) (by unfold inI; omega) dX2_ownName_117 (Or.inr (Or.inl ⟨101, rfl, rfl, rfl⟩)) (js_const hX (z := 116) (by unfold inI; omega) dX2_ownName_119 (Or.inr (Or.inl ⟨116, rfl, rfl, rfl⟩)) (js_callS hX MX2_w3 (n := 3) (lw_S q1533 q1534 q156 q1535) npX2_w3 dX2_ownName_121 (js_lcmp hX dX2_ownName_124 (js_if_ne hX (tgt := 132) dX2_ownName_125 rfl (js_aload_n hX dX2_ownName_132 rfl (js_getfL hX (ci := 2) (k := 11) (RX2, TX2, 43) rfl (by decide) rfl (Or.inl q1357) (fun _ h => h) dX2_ownName_133 (js_const hX (z := 114) (by unfold inI; omega) dX2_ownName_136 (Or.inr (Or.inl ⟨114, rfl, rfl, rfl⟩)) (js_const hX (z := 105) (by unfold inI; omega) dX2_ownName_138 (Or.inr (Or.inl ⟨105, rfl, rfl, rfl⟩)) (js_const hX (z := 103) (by unfold inI; omega) dX2_ownName_140 (Or.inr (Or.inl ⟨103, rfl, rfl, rfl⟩)) (js_const hX (z := 104) (by unfold inI; omega) dX2_ownName_142 (Or.inr (Or.inl ⟨104, rfl, rfl, rfl⟩)) (js_const hX (z := 116) (by unfold inI; omega) dX2_ownName_144 (Or.inr (Or.inl ⟨116, rfl, rfl, rfl⟩)) (js_callS hX MX2_w5 (n := 5) (lw_S q1540 q1541 q156 q1542) npX2_w5 dX2_ownName_146 (js_lcmp hX dX2_ownName_149 (js_if_ne hX (tgt := 158) dX2_ownName_150 rfl (js_aload_n hX dX2_ownName_158 rfl (js_getfL hX (ci := 2) (k := 11) (RX2, TX2, 43) rfl (by decide) rfl (Or.inl q1357) (fun _ h => h) dX2_ownName_159 (js_const hX (z := 111) (by unfold inI; omega) dX2_ownName_162 (Or.inr (Or.inl ⟨111, rfl, rfl, rfl⟩)) (js_const hX (z := 116) (by unfold inI; omega) dX2_ownName_164 (Or.inr (Or.inl ⟨116, rfl, rfl, rfl⟩)) (js_const hX (z := 104) (by unfold inI; omega) dX2_ownName_166 (Or.inr (Or.inl ⟨104, rfl, rfl, rfl⟩)) (js_const hX (z := 101) (by unfold inI; omega) dX2_ownName_168 (Or.inr (Or.inl ⟨101, rfl, rfl, rfl⟩)) (js_const hX (z := 114) (by unfold inI; omega) dX2_ownName_170 (Or.inr (Or.inl ⟨114, rfl, rfl, rfl⟩)) (js_callS hX MX2_w5 (n := 5) (lw_S q1540 q1541 q156 q1542) npX2_w5 dX2_ownName_172 (js_lcmp hX dX2_ownName_175 (js_if_ne hX (tgt := 184) dX2_ownName_176 rfl (js_const hX (z := (-1)) (by unfold inI; omega) dX2_ownName_184 (Or.inl ⟨(-1), rfl, rfl, rfl⟩) (hK 1))
    (js_const hX (z := 7) (by unfold inI; omega) dX2_ownName_179 (Or.inr (Or.inl ⟨7, rfl, rfl, rfl⟩)) (js_goto hX (tgt := 185) dX2_ownName_181 rfl (hK 1)))))))))))))
    (js_const hX (z := 6) (by unfold inI; omega) dX2_ownName_153 (Or.inr (Or.inl ⟨6, rfl, rfl, rfl⟩)) (js_goto hX (tgt := 185) dX2_ownName_155 rfl (hK 1)))))))))))))
    (js_const hX (z := 5) (by unfold inI; omega) dX2_ownName_128 (Or.inl ⟨5, rfl, rfl, rfl⟩) (js_goto hX (tgt := 185) dX2_ownName_129 rfl (hK 1)))))))))))
    (js_const hX (z := 4) (by unfold inI; omega) dX2_ownName_109 (Or.inl ⟨4, rfl, rfl, rfl⟩) (js_ireturn hX hr hlk dX2_ownName_110)))))))))))))
    (js_const hX (z := 3) (by unfold inI; omega) dX2_ownName_84 (Or.inl ⟨3, rfl, rfl, rfl⟩) (js_ireturn hX hr hlk dX2_ownName_85))))))))))))
    (js_const hX (z := 2) (by unfold inI; omega) dX2_ownName_61 (Or.inl ⟨2, rfl, rfl, rfl⟩) (js_ireturn hX hr hlk dX2_ownName_62))))))))))))
    (js_const hX (z := 1) (by unfold inI; omega) dX2_ownName_38 (Or.inl ⟨1, rfl, rfl, rfl⟩) (js_ireturn hX hr hlk dX2_ownName_39))))))))))
    (js_const hX (z := 0) (by unfold inI; omega) dX2_ownName_19 (Or.inl ⟨0, rfl, rfl, rfl⟩) (js_ireturn hX hr hlk dX2_ownName_20)))))))))))
  | 1 => exact (js_ireturn hX hr hlk dX2_ownName_185)
  | k + 2 => intro ls st h nc ns hf; exact hf.elim
def bX2_w6 : jjB := fun e K k => match k with
  | 0 => (ji_iload 0 (ji_iload 1 (ji_iload 2 (ji_iload 3 (ji_iload 4 (ji_callS e MX2_w5 5 (ji_const 8 (ji_lshl (ji_iload 5 (ji_i2l (ji_lor (ji_lreturn e))))))))))))
  | _ => fun _ _ _ _ _ => False
def pX2_w6 : Nat → Nat := fun k => match k with
  | 0 => 0
  | _ => 0
theorem sX2_w6 : jSound bX2_w6 pX2_w6 MX2_w6 := by
  intro e p ev R s m args below meth c hX hr hn hlk K hK k
  match k with
  | 0 => exact (js_iload_n hX dX2_w6_0 rfl (js_iload_n hX dX2_w6_1 rfl (js_iload_n hX dX2_w6_2 rfl (js_iload_n hX dX2_w6_3 rfl (js_iload hX dX2_w6_4 (js_callS hX MX2_w5 (n := 5) (lw_S q1540 q1541 q156 q1542) npX2_w5 dX2_w6_6 (js_const hX (z := 8) (by unfold inI; omega) dX2_w6_9 (Or.inr (Or.inl ⟨8, rfl, rfl, rfl⟩)) (js_lshl hX dX2_w6_11 (js_iload hX dX2_w6_12 (js_i2l hX dX2_w6_14 (js_lor hX dX2_w6_15 (js_lreturn hX hr hlk dX2_w6_16))))))))))))
  | k + 1 => intro ls st h nc ns hf; exact hf.elim
def bX2_isBarred : jjB := fun e K k => match k with
  | 0 => (ji_iload 1 (ji_const 5 (ji_icmp_le (K 2)
    (ji_iload 1 (ji_const 12 (ji_icmp_ge (ji_aload 0 (ji_getfI 2 20 (ji_const 1 (ji_icmp_eq (K 2)
    (K 1)))))
    (ji_aload 0 (ji_getfI 2 20 (ji_if_eq (K 2)
    (ji_goto (K 1)))))))))))
  | 1 => (ji_const 1 (ji_goto (K 3)))
  | 2 => (ji_const 0 (K 3))
  | 3 => (ji_zreturn e)
  | _ => fun _ _ _ _ _ => False
def pX2_isBarred : Nat → Nat := fun k => match k with
  | 0 => 0
  | 1 => 29
  | 2 => 33
  | 3 => 34
  | _ => 0
theorem sX2_isBarred : jSound bX2_isBarred pX2_isBarred MX2_isBarred := by
  intro e p ev R s m args below meth c hX hr hn hlk K hK k
  match k with
  | 0 => exact (js_iload_n hX dX2_isBarred_0 rfl (js_const hX (z := 5) (by unfold inI; omega) dX2_isBarred_1 (Or.inl ⟨5, rfl, rfl, rfl⟩) (js_icmp_le hX (tgt := 33) dX2_isBarred_2 rfl (hK 2)
    (js_iload_n hX dX2_isBarred_5 rfl (js_const hX (z := 12) (by unfold inI; omega) dX2_isBarred_6 (Or.inr (Or.inl ⟨12, rfl, rfl, rfl⟩)) (js_icmp_ge hX (tgt := 21) dX2_isBarred_8 rfl (js_aload_n hX dX2_isBarred_21 rfl (js_getfI hX (ci := 2) (k := 20) (RX2, TX2, 43) rfl (by decide) rfl (Or.inl q1364) (fun _ h => h) dX2_isBarred_22 (js_const hX (z := 1) (by unfold inI; omega) dX2_isBarred_25 (Or.inl ⟨1, rfl, rfl, rfl⟩) (js_icmp_eq hX (tgt := 33) dX2_isBarred_26 rfl (hK 2)
    (hK 1)))))
    (js_aload_n hX dX2_isBarred_11 rfl (js_getfI hX (ci := 2) (k := 20) (RX2, TX2, 43) rfl (by decide) rfl (Or.inl q1364) (fun _ h => h) dX2_isBarred_12 (js_if_eq hX (tgt := 33) dX2_isBarred_15 rfl (hK 2)
    (js_goto hX (tgt := 29) dX2_isBarred_18 rfl (hK 1)))))))))))
  | 1 => exact (js_const hX (z := 1) (by unfold inI; omega) dX2_isBarred_29 (Or.inl ⟨1, rfl, rfl, rfl⟩) (js_goto hX (tgt := 34) dX2_isBarred_30 rfl (hK 3)))
  | 2 => exact (js_const hX (z := 0) (by unfold inI; omega) dX2_isBarred_33 (Or.inl ⟨0, rfl, rfl, rfl⟩) (hK 3))
  | 3 => exact (js_zreturn hX hr hlk dX2_isBarred_34)
  | k + 4 => intro ls st h nc ns hf; exact hf.elim
def bX2_compareOf : jjB := fun e K k => match k with
  | 0 => (ji_aload 0 (ji_getfI 2 9 (ji_const 60 (ji_icmp_ne (ji_aload 0 (ji_getfI 2 9 (ji_const 4 (ji_icmp_ne (ji_aload 0 (ji_getfI 2 9 (ji_const 62 (ji_icmp_ne (ji_aload 0 (ji_getfI 2 9 (ji_const 5 (ji_icmp_ne (ji_aload 0 (ji_getfI 2 9 (ji_const 61 (ji_icmp_ne (ji_aload 0 (ji_getfI 2 9 (ji_const 35 (ji_icmp_ne (ji_const (-1) (K 1))
    (ji_const 15 (ji_goto (K 1)))))))
    (ji_const 14 (ji_goto (K 1)))))))
    (ji_const 13 (ji_goto (K 1)))))))
    (ji_const 12 (ji_goto (K 1)))))))
    (ji_const 11 (ji_goto (K 1)))))))
    (ji_const 10 (ji_goto (K 1)))))))
  | 1 => (ji_ireturn e)
  | _ => fun _ _ _ _ _ => False
def pX2_compareOf : Nat → Nat := fun k => match k with
  | 0 => 0
  | 1 => 83
  | _ => 0
theorem sX2_compareOf : jSound bX2_compareOf pX2_compareOf MX2_compareOf := by
  intro e p ev R s m args below meth c hX hr hn hlk K hK k
  match k with
  | 0 => exact (js_aload_n hX dX2_compareOf_0 rfl (js_getfI hX (ci := 2) (k := 9) (RX2, TX2, 43) rfl (by decide) rfl (Or.inl q1355) (fun _ h => h) dX2_compareOf_1 (js_const hX (z := 60) (by unfold inI; omega) dX2_compareOf_4 (Or.inr (Or.inl ⟨60, rfl, rfl, rfl⟩)) (js_icmp_ne hX (tgt := 14) dX2_compareOf_6 rfl (js_aload_n hX dX2_compareOf_14 rfl (js_getfI hX (ci := 2) (k := 9) (RX2, TX2, 43) rfl (by decide) rfl (Or.inl q1355) (fun _ h => h) dX2_compareOf_15 (js_const hX (z := 4) (by unfold inI; omega) dX2_compareOf_18 (Or.inl ⟨4, rfl, rfl, rfl⟩) (js_icmp_ne hX (tgt := 27) dX2_compareOf_19 rfl (js_aload_n hX dX2_compareOf_27 rfl (js_getfI hX (ci := 2) (k := 9) (RX2, TX2, 43) rfl (by decide) rfl (Or.inl q1355) (fun _ h => h) dX2_compareOf_28 (js_const hX (z := 62) (by unfold inI; omega) dX2_compareOf_31 (Or.inr (Or.inl ⟨62, rfl, rfl, rfl⟩)) (js_icmp_ne hX (tgt := 41) dX2_compareOf_33 rfl (js_aload_n hX dX2_compareOf_41 rfl (js_getfI hX (ci := 2) (k := 9) (RX2, TX2, 43) rfl (by decide) rfl (Or.inl q1355) (fun _ h => h) dX2_compareOf_42 (js_const hX (z := 5) (by unfold inI; omega) dX2_compareOf_45 (Or.inl ⟨5, rfl, rfl, rfl⟩) (js_icmp_ne hX (tgt := 54) dX2_compareOf_46 rfl (js_aload_n hX dX2_compareOf_54 rfl (js_getfI hX (ci := 2) (k := 9) (RX2, TX2, 43) rfl (by decide) rfl (Or.inl q1355) (fun _ h => h) dX2_compareOf_55 (js_const hX (z := 61) (by unfold inI; omega) dX2_compareOf_58 (Or.inr (Or.inl ⟨61, rfl, rfl, rfl⟩)) (js_icmp_ne hX (tgt := 68) dX2_compareOf_60 rfl (js_aload_n hX dX2_compareOf_68 rfl (js_getfI hX (ci := 2) (k := 9) (RX2, TX2, 43) rfl (by decide) rfl (Or.inl q1355) (fun _ h => h) dX2_compareOf_69 (js_const hX (z := 35) (by unfold inI; omega) dX2_compareOf_72 (Or.inr (Or.inl ⟨35, rfl, rfl, rfl⟩)) (js_icmp_ne hX (tgt := 82) dX2_compareOf_74 rfl (js_const hX (z := (-1)) (by unfold inI; omega) dX2_compareOf_82 (Or.inl ⟨(-1), rfl, rfl, rfl⟩) (hK 1))
    (js_const hX (z := 15) (by unfold inI; omega) dX2_compareOf_77 (Or.inr (Or.inl ⟨15, rfl, rfl, rfl⟩)) (js_goto hX (tgt := 83) dX2_compareOf_79 rfl (hK 1)))))))
    (js_const hX (z := 14) (by unfold inI; omega) dX2_compareOf_63 (Or.inr (Or.inl ⟨14, rfl, rfl, rfl⟩)) (js_goto hX (tgt := 83) dX2_compareOf_65 rfl (hK 1)))))))
    (js_const hX (z := 13) (by unfold inI; omega) dX2_compareOf_49 (Or.inr (Or.inl ⟨13, rfl, rfl, rfl⟩)) (js_goto hX (tgt := 83) dX2_compareOf_51 rfl (hK 1)))))))
    (js_const hX (z := 12) (by unfold inI; omega) dX2_compareOf_36 (Or.inr (Or.inl ⟨12, rfl, rfl, rfl⟩)) (js_goto hX (tgt := 83) dX2_compareOf_38 rfl (hK 1)))))))
    (js_const hX (z := 11) (by unfold inI; omega) dX2_compareOf_22 (Or.inr (Or.inl ⟨11, rfl, rfl, rfl⟩)) (js_goto hX (tgt := 83) dX2_compareOf_24 rfl (hK 1)))))))
    (js_const hX (z := 10) (by unfold inI; omega) dX2_compareOf_9 (Or.inr (Or.inl ⟨10, rfl, rfl, rfl⟩)) (js_goto hX (tgt := 83) dX2_compareOf_11 rfl (hK 1)))))))
  | 1 => exact (js_ireturn hX hr hlk dX2_compareOf_83)
  | k + 2 => intro ls st h nc ns hf; exact hf.elim
def bX2_sumClause : jjB := fun e K k => match k with
  | 0 => (ji_aload 0 (ji_getfR 2 2 (ji_iload 2 (ji_const 2 (ji_iadd (ji_aload 0 (ji_getfI 2 14 (ji_iast (ji_iload 1 (ji_const 2 (ji_icmp_ne (ji_aload 0 (ji_callV e MX2_either 2 1 (K 1)))
    (ji_aload 0 (ji_callV e MX2_summed 2 1 (ji_goto (K 1)))))))))))))))
  | 1 => (ji_istore 3 (ji_aload 0 (ji_getfR 2 2 (ji_iload 2 (ji_const 3 (ji_iadd (ji_aload 0 (ji_getfI 2 14 (ji_iast (ji_iload 3 (ji_ireturn e)))))))))))
  | _ => fun _ _ _ _ _ => False
def pX2_sumClause : Nat → Nat := fun k => match k with
  | 0 => 0
  | 1 => 28
  | _ => 0
theorem sX2_sumClause : jSound bX2_sumClause pX2_sumClause MX2_sumClause := by
  intro e p ev R s m args below meth c hX hr hn hlk K hK k
  match k with
  | 0 => exact (js_aload_n hX dX2_sumClause_0 rfl (js_getfR hX (ci := 2) (k := 2) (RX2, TX2, 43) rfl (by decide) rfl (Or.inl q1348) (fun _ h => h) dX2_sumClause_1 (js_iload_n hX dX2_sumClause_4 rfl (js_const hX (z := 2) (by unfold inI; omega) dX2_sumClause_5 (Or.inl ⟨2, rfl, rfl, rfl⟩) (js_iadd hX dX2_sumClause_6 (js_aload_n hX dX2_sumClause_7 rfl (js_getfI hX (ci := 2) (k := 14) (RX2, TX2, 43) rfl (by decide) rfl (Or.inl q1359) (fun _ h => h) dX2_sumClause_8 (js_iast hX dX2_sumClause_11 (js_iload_n hX dX2_sumClause_12 rfl (js_const hX (z := 2) (by unfold inI; omega) dX2_sumClause_13 (Or.inl ⟨2, rfl, rfl, rfl⟩) (js_icmp_ne hX (tgt := 24) dX2_sumClause_14 rfl (js_aload_n hX dX2_sumClause_24 rfl (js_callV hX MX2_either (ci := 2) (n := 0) (RX2, TX2, 43) rfl rfl (lw_V q1562 q1564 qs78 q156 q1565) npX2_either dX2_sumClause_25 (hK 1)))
    (js_aload_n hX dX2_sumClause_17 rfl (js_callV hX MX2_summed (ci := 2) (n := 0) (RX2, TX2, 43) rfl rfl (lw_V q1570 q1572 qs80 q156 q1573) npX2_summed dX2_sumClause_18 (js_goto hX (tgt := 28) dX2_sumClause_21 rfl (hK 1)))))))))))))))
  | 1 => exact (js_istore_n hX dX2_sumClause_28 rfl (by decide) (js_aload_n hX dX2_sumClause_29 rfl (js_getfR hX (ci := 2) (k := 2) (RX2, TX2, 43) rfl (by decide) rfl (Or.inl q1348) (fun _ h => h) dX2_sumClause_30 (js_iload_n hX dX2_sumClause_33 rfl (js_const hX (z := 3) (by unfold inI; omega) dX2_sumClause_34 (Or.inl ⟨3, rfl, rfl, rfl⟩) (js_iadd hX dX2_sumClause_35 (js_aload_n hX dX2_sumClause_36 rfl (js_getfI hX (ci := 2) (k := 14) (RX2, TX2, 43) rfl (by decide) rfl (Or.inl q1359) (fun _ h => h) dX2_sumClause_37 (js_iast hX dX2_sumClause_40 (js_iload_n hX dX2_sumClause_41 rfl (js_ireturn hX hr hlk dX2_sumClause_42)))))))))))
  | k + 2 => intro ls st h nc ns hf; exact hf.elim
def bX2_worded : jjB := fun e K k => match k with
  | 0 => (ji_aload 0 (ji_getfI 2 9 (ji_const 2 (ji_icmp_ne (K 1)
    (ji_aload 0 (ji_getfL 2 11 (ji_iload 1 (ji_const 8 (ji_ishl (ji_iload 2 (ji_ior (ji_i2l (ji_lcmp (ji_if_eq (ji_aload 0 (ji_callV e MX2_nextToken 2 1 (ji_aload 0 (ji_iload 3 (ji_const 0 (ji_iload 4 (ji_callV e MX2_figure 2 4 (ji_ireturn e))))))))
    (K 1)))))))))))))))
  | 1 => (ji_const 1 (ji_ireturn e))
  | _ => fun _ _ _ _ _ => False
def pX2_worded : Nat → Nat := fun k => match k with
  | 0 => 0
  | 1 => 23
  | _ => 0
theorem sX2_worded : jSound bX2_worded pX2_worded MX2_worded := by
  intro e p ev R s m args below meth c hX hr hn hlk K hK k
  match k with
  | 0 => exact (js_aload_n hX dX2_worded_0 rfl (js_getfI hX (ci := 2) (k := 9) (RX2, TX2, 43) rfl (by decide) rfl (Or.inl q1355) (fun _ h => h) dX2_worded_1 (js_const hX (z := 2) (by unfold inI; omega) dX2_worded_4 (Or.inl ⟨2, rfl, rfl, rfl⟩) (js_icmp_ne hX (tgt := 23) dX2_worded_5 rfl (hK 1)
    (js_aload_n hX dX2_worded_8 rfl (js_getfL hX (ci := 2) (k := 11) (RX2, TX2, 43) rfl (by decide) rfl (Or.inl q1357) (fun _ h => h) dX2_worded_9 (js_iload_n hX dX2_worded_12 rfl (js_const hX (z := 8) (by unfold inI; omega) dX2_worded_13 (Or.inr (Or.inl ⟨8, rfl, rfl, rfl⟩)) (js_ishl hX dX2_worded_15 (js_iload_n hX dX2_worded_16 rfl (js_ior hX dX2_worded_17 (js_i2l hX dX2_worded_18 (js_lcmp hX dX2_worded_19 (js_if_eq hX (tgt := 25) dX2_worded_20 rfl (js_aload_n hX dX2_worded_25 rfl (js_callV hX MX2_nextToken (ci := 2) (n := 0) (RX2, TX2, 43) rfl rfl (lw_V q1510 q1512 qs69 q156 q1513) npX2_nextToken dX2_worded_26 (js_aload_n hX dX2_worded_29 rfl (js_iload_n hX dX2_worded_30 rfl (js_const hX (z := 0) (by unfold inI; omega) dX2_worded_31 (Or.inl ⟨0, rfl, rfl, rfl⟩) (js_iload hX dX2_worded_32 (js_callV hX MX2_figure (ci := 2) (n := 3) (RX2, TX2, 43) rfl rfl (lw_V q1558 q1560 qs77 q156 q1561) npX2_figure dX2_worded_34 (js_ireturn hX hr hlk dX2_worded_37))))))))
    (hK 1)))))))))))))))
  | 1 => exact (js_const hX (z := 1) (by unfold inI; omega) dX2_worded_23 (Or.inl ⟨1, rfl, rfl, rfl⟩) (js_ireturn hX hr hlk dX2_worded_24))
  | k + 2 => intro ls st h nc ns hf; exact hf.elim
def bX2_putClause : jjB := fun e K k => match k with
  | 0 => (ji_aload 0 (ji_iload 1 (ji_const 1 (ji_iadd (ji_const 0 (ji_const 9 (ji_callV e MX2_figure 2 4 (ji_istore 2 (ji_iload 2 (ji_if_ne (K 1)
    (ji_aload 0 (ji_const 111 (ji_const 110 (ji_iload 1 (ji_const 2 (ji_iadd (ji_const 2 (ji_callV e MX2_worded 2 5 (ji_istore 2 (K 1))))))))))))))))))))
  | 1 => (ji_iload 2 (ji_if_eq (ji_aload 0 (ji_const 97 (ji_const 116 (ji_iload 1 (ji_const 3 (ji_iadd (ji_const 9 (ji_callV e MX2_worded 2 5 (K 2)))))))))
    (ji_iload 2 (ji_goto (K 2)))))
  | 2 => (ji_ireturn e)
  | _ => fun _ _ _ _ _ => False
def pX2_putClause : Nat → Nat := fun k => match k with
  | 0 => 0
  | 1 => 28
  | 2 => 49
  | _ => 0
theorem sX2_putClause : jSound bX2_putClause pX2_putClause MX2_putClause := by
  intro e p ev R s m args below meth c hX hr hn hlk K hK k
  match k with
  | 0 => exact (js_aload_n hX dX2_putClause_0 rfl (js_iload_n hX dX2_putClause_1 rfl (js_const hX (z := 1) (by unfold inI; omega) dX2_putClause_2 (Or.inl ⟨1, rfl, rfl, rfl⟩) (js_iadd hX dX2_putClause_3 (js_const hX (z := 0) (by unfold inI; omega) dX2_putClause_4 (Or.inl ⟨0, rfl, rfl, rfl⟩) (js_const hX (z := 9) (by unfold inI; omega) dX2_putClause_5 (Or.inr (Or.inl ⟨9, rfl, rfl, rfl⟩)) (js_callV hX MX2_figure (ci := 2) (n := 3) (RX2, TX2, 43) rfl rfl (lw_V q1558 q1560 qs77 q156 q1561) npX2_figure dX2_putClause_7 (js_istore_n hX dX2_putClause_10 rfl (by decide) (js_iload_n hX dX2_putClause_11 rfl (js_if_ne hX (tgt := 28) dX2_putClause_12 rfl (hK 1)
    (js_aload_n hX dX2_putClause_15 rfl (js_const hX (z := 111) (by unfold inI; omega) dX2_putClause_16 (Or.inr (Or.inl ⟨111, rfl, rfl, rfl⟩)) (js_const hX (z := 110) (by unfold inI; omega) dX2_putClause_18 (Or.inr (Or.inl ⟨110, rfl, rfl, rfl⟩)) (js_iload_n hX dX2_putClause_20 rfl (js_const hX (z := 2) (by unfold inI; omega) dX2_putClause_21 (Or.inl ⟨2, rfl, rfl, rfl⟩) (js_iadd hX dX2_putClause_22 (js_const hX (z := 2) (by unfold inI; omega) dX2_putClause_23 (Or.inl ⟨2, rfl, rfl, rfl⟩) (js_callV hX MX2_worded (ci := 2) (n := 4) (RX2, TX2, 43) rfl rfl (lw_V q1630 q1632 qs94 q156 q1633) npX2_worded dX2_putClause_24 (js_istore_n hX dX2_putClause_27 rfl (by decide) (hK 1))))))))))))))))))))
  | 1 => exact (js_iload_n hX dX2_putClause_28 rfl (js_if_eq hX (tgt := 36) dX2_putClause_29 rfl (js_aload_n hX dX2_putClause_36 rfl (js_const hX (z := 97) (by unfold inI; omega) dX2_putClause_37 (Or.inr (Or.inl ⟨97, rfl, rfl, rfl⟩)) (js_const hX (z := 116) (by unfold inI; omega) dX2_putClause_39 (Or.inr (Or.inl ⟨116, rfl, rfl, rfl⟩)) (js_iload_n hX dX2_putClause_41 rfl (js_const hX (z := 3) (by unfold inI; omega) dX2_putClause_42 (Or.inl ⟨3, rfl, rfl, rfl⟩) (js_iadd hX dX2_putClause_43 (js_const hX (z := 9) (by unfold inI; omega) dX2_putClause_44 (Or.inr (Or.inl ⟨9, rfl, rfl, rfl⟩)) (js_callV hX MX2_worded (ci := 2) (n := 4) (RX2, TX2, 43) rfl rfl (lw_V q1630 q1632 qs94 q156 q1633) npX2_worded dX2_putClause_46 (hK 2)))))))))
    (js_iload_n hX dX2_putClause_32 rfl (js_goto hX (tgt := 49) dX2_putClause_33 rfl (hK 2)))))
  | 2 => exact (js_ireturn hX hr hlk dX2_putClause_49)
  | k + 3 => intro ls st h nc ns hf; exact hf.elim
def bX2_fault : jjB := fun e K k => match k with
  | 0 => (ji_iload 1 (ji_if_ne (ji_iload 1 (ji_const 1 (ji_icmp_ne (ji_const (-1) (K 1))
    (ji_aload 0 (ji_getfI 2 6 (ji_goto (K 1)))))))
    (ji_aload 0 (ji_getfI 2 5 (ji_goto (K 1))))))
  | 1 => (ji_ireturn e)
  | _ => fun _ _ _ _ _ => False
def pX2_fault : Nat → Nat := fun k => match k with
  | 0 => 0
  | 1 => 24
  | _ => 0
theorem sX2_fault : jSound bX2_fault pX2_fault MX2_fault := by
  intro e p ev R s m args below meth c hX hr hn hlk K hK k
  match k with
  | 0 => exact (js_iload_n hX dX2_fault_0 rfl (js_if_ne hX (tgt := 11) dX2_fault_1 rfl (js_iload_n hX dX2_fault_11 rfl (js_const hX (z := 1) (by unfold inI; omega) dX2_fault_12 (Or.inl ⟨1, rfl, rfl, rfl⟩) (js_icmp_ne hX (tgt := 23) dX2_fault_13 rfl (js_const hX (z := (-1)) (by unfold inI; omega) dX2_fault_23 (Or.inl ⟨(-1), rfl, rfl, rfl⟩) (hK 1))
    (js_aload_n hX dX2_fault_16 rfl (js_getfI hX (ci := 2) (k := 6) (RX2, TX2, 43) rfl (by decide) rfl (Or.inl q1352) (fun _ h => h) dX2_fault_17 (js_goto hX (tgt := 24) dX2_fault_20 rfl (hK 1)))))))
    (js_aload_n hX dX2_fault_4 rfl (js_getfI hX (ci := 2) (k := 5) (RX2, TX2, 43) rfl (by decide) rfl (Or.inl q1351) (fun _ h => h) dX2_fault_5 (js_goto hX (tgt := 24) dX2_fault_8 rfl (hK 1))))))
  | 1 => exact (js_ireturn hX hr hlk dX2_fault_24)
  | k + 2 => intro ls st h nc ns hf; exact hf.elim
def bX2_by : jjB := fun e K k => match k with
  | 0 => (ji_iload 1 (ji_const (-1) (ji_aload 0 (ji_getfR 2 0 (ji_const 5 (ji_iald (ji_const 1 (ji_isub (ji_callS e MX2_isIn 3 (ji_if_ne (ji_aload 0 (ji_getfR 2 0 (ji_const 6 (ji_iload 1 (ji_iast (ji_const 1 (ji_zreturn e)))))))
    (ji_const 0 (ji_zreturn e))))))))))))
  | _ => fun _ _ _ _ _ => False
def pX2_by : Nat → Nat := fun k => match k with
  | 0 => 0
  | _ => 0
theorem sX2_by : jSound bX2_by pX2_by MX2_by := by
  intro e p ev R s m args below meth c hX hr hn hlk K hK k
  match k with
  | 0 => exact (js_iload_n hX dX2_by_0 rfl (js_const hX (z := (-1)) (by unfold inI; omega) dX2_by_1 (Or.inl ⟨(-1), rfl, rfl, rfl⟩) (js_aload_n hX dX2_by_2 rfl (js_getfR hX (ci := 2) (k := 0) (RX2, TX2, 43) rfl (by decide) rfl (Or.inl q1346) (fun _ h => h) dX2_by_3 (js_const hX (z := 5) (by unfold inI; omega) dX2_by_6 (Or.inl ⟨5, rfl, rfl, rfl⟩) (js_iald hX dX2_by_7 (js_const hX (z := 1) (by unfold inI; omega) dX2_by_8 (Or.inl ⟨1, rfl, rfl, rfl⟩) (js_isub hX dX2_by_9 (js_callS hX MX2_isIn (n := 3) (lw_S q1479 q1480 q156 q1481) npX2_isIn dX2_by_10 (js_if_ne hX (tgt := 18) dX2_by_13 rfl (js_aload_n hX dX2_by_18 rfl (js_getfR hX (ci := 2) (k := 0) (RX2, TX2, 43) rfl (by decide) rfl (Or.inl q1346) (fun _ h => h) dX2_by_19 (js_const hX (z := 6) (by unfold inI; omega) dX2_by_22 (Or.inr (Or.inl ⟨6, rfl, rfl, rfl⟩)) (js_iload_n hX dX2_by_24 rfl (js_iast hX dX2_by_25 (js_const hX (z := 1) (by unfold inI; omega) dX2_by_26 (Or.inl ⟨1, rfl, rfl, rfl⟩) (js_zreturn hX hr hlk dX2_by_27)))))))
    (js_const hX (z := 0) (by unfold inI; omega) dX2_by_16 (Or.inl ⟨0, rfl, rfl, rfl⟩) (js_zreturn hX hr hlk dX2_by_17))))))))))))
  | k + 1 => intro ls st h nc ns hf; exact hf.elim
def bX2_pushes : jjB := fun e K k => match k with
  | 0 => (ji_aload 0 (ji_iload 1 (ji_callV e MX2_isBook 2 2 (ji_if_eq (K 1)
    (ji_aload 0 (ji_iload 2 (ji_callV e MX2_isBook 2 2 (ji_if_eq (K 1)
    (ji_iload 1 (ji_iload 2 (ji_icmp_eq (K 1)
    (ji_aload 0 (ji_iload 1 (ji_iload 2 (ji_iload 3 (ji_callV e MX2_doesPush 2 4 (ji_if_eq (K 1)
    (ji_const 1 (ji_goto (K 2))))))))))))))))))))
  | 1 => (ji_const 0 (K 2))
  | 2 => (ji_zreturn e)
  | _ => fun _ _ _ _ _ => False
def pX2_pushes : Nat → Nat := fun k => match k with
  | 0 => 0
  | 1 => 35
  | 2 => 36
  | _ => 0
theorem sX2_pushes : jSound bX2_pushes pX2_pushes MX2_pushes := by
  intro e p ev R s m args below meth c hX hr hn hlk K hK k
  match k with
  | 0 => exact (js_aload_n hX dX2_pushes_0 rfl (js_iload_n hX dX2_pushes_1 rfl (js_callV hX MX2_isBook (ci := 2) (n := 1) (RX2, TX2, 43) rfl rfl (lw_V q1650 q1652 qs96 q156 q1653) npX2_isBook dX2_pushes_2 (js_if_eq hX (tgt := 35) dX2_pushes_5 rfl (hK 1)
    (js_aload_n hX dX2_pushes_8 rfl (js_iload_n hX dX2_pushes_9 rfl (js_callV hX MX2_isBook (ci := 2) (n := 1) (RX2, TX2, 43) rfl rfl (lw_V q1650 q1652 qs96 q156 q1653) npX2_isBook dX2_pushes_10 (js_if_eq hX (tgt := 35) dX2_pushes_13 rfl (hK 1)
    (js_iload_n hX dX2_pushes_16 rfl (js_iload_n hX dX2_pushes_17 rfl (js_icmp_eq hX (tgt := 35) dX2_pushes_18 rfl (hK 1)
    (js_aload_n hX dX2_pushes_21 rfl (js_iload_n hX dX2_pushes_22 rfl (js_iload_n hX dX2_pushes_23 rfl (js_iload_n hX dX2_pushes_24 rfl (js_callV hX MX2_doesPush (ci := 2) (n := 3) (RX2, TX2, 43) rfl rfl (lw_V q1654 q1656 qs97 q156 q1657) npX2_doesPush dX2_pushes_25 (js_if_eq hX (tgt := 35) dX2_pushes_28 rfl (hK 1)
    (js_const hX (z := 1) (by unfold inI; omega) dX2_pushes_31 (Or.inl ⟨1, rfl, rfl, rfl⟩) (js_goto hX (tgt := 36) dX2_pushes_32 rfl (hK 2))))))))))))))))))))
  | 1 => exact (js_const hX (z := 0) (by unfold inI; omega) dX2_pushes_35 (Or.inl ⟨0, rfl, rfl, rfl⟩) (hK 2))
  | 2 => exact (js_zreturn hX hr hlk dX2_pushes_36)
  | k + 3 => intro ls st h nc ns hf; exact hf.elim
def bX2_isBook : jjB := fun e K k => match k with
  | 0 => (ji_iload 1 (ji_const 0 (ji_aload 0 (ji_getfR 2 0 (ji_const 0 (ji_iald (ji_const 1 (ji_isub (ji_callS e MX2_isIn 3 (ji_zreturn e))))))))))
  | _ => fun _ _ _ _ _ => False
def pX2_isBook : Nat → Nat := fun k => match k with
  | 0 => 0
  | _ => 0
theorem sX2_isBook : jSound bX2_isBook pX2_isBook MX2_isBook := by
  intro e p ev R s m args below meth c hX hr hn hlk K hK k
  match k with
  | 0 => exact (js_iload_n hX dX2_isBook_0 rfl (js_const hX (z := 0) (by unfold inI; omega) dX2_isBook_1 (Or.inl ⟨0, rfl, rfl, rfl⟩) (js_aload_n hX dX2_isBook_2 rfl (js_getfR hX (ci := 2) (k := 0) (RX2, TX2, 43) rfl (by decide) rfl (Or.inl q1346) (fun _ h => h) dX2_isBook_3 (js_const hX (z := 0) (by unfold inI; omega) dX2_isBook_6 (Or.inl ⟨0, rfl, rfl, rfl⟩) (js_iald hX dX2_isBook_7 (js_const hX (z := 1) (by unfold inI; omega) dX2_isBook_8 (Or.inl ⟨1, rfl, rfl, rfl⟩) (js_isub hX dX2_isBook_9 (js_callS hX MX2_isIn (n := 3) (lw_S q1479 q1480 q156 q1481) npX2_isIn dX2_isBook_10 (js_zreturn hX hr hlk dX2_isBook_13))))))))))
  | k + 1 => intro ls st h nc ns hf; exact hf.elim
def bX2_doesPush : jjB := fun e K k => match k with
  | 0 => (ji_aload 0 (ji_aload 0 (ji_iload 1 (ji_const 4 (ji_callV e MX2_get 2 3 (ji_iload 1 (ji_iload 2 (ji_iload 3 (ji_callV e MX2_pushesBy 2 5 (ji_zreturn e))))))))))
  | _ => fun _ _ _ _ _ => False
def pX2_doesPush : Nat → Nat := fun k => match k with
  | 0 => 0
  | _ => 0
theorem sX2_doesPush : jSound bX2_doesPush pX2_doesPush MX2_doesPush := by
  intro e p ev R s m args below meth c hX hr hn hlk K hK k
  match k with
  | 0 => exact (js_aload_n hX dX2_doesPush_0 rfl (js_aload_n hX dX2_doesPush_1 rfl (js_iload_n hX dX2_doesPush_2 rfl (js_const hX (z := 4) (by unfold inI; omega) dX2_doesPush_3 (Or.inl ⟨4, rfl, rfl, rfl⟩) (js_callV hX MX2_get (ci := 2) (n := 2) (RX2, TX2, 43) rfl rfl (lw_V q1658 q1660 qs98 q156 q1661) npX2_get dX2_doesPush_4 (js_iload_n hX dX2_doesPush_7 rfl (js_iload_n hX dX2_doesPush_8 rfl (js_iload_n hX dX2_doesPush_9 rfl (js_callV hX MX2_pushesBy (ci := 2) (n := 4) (RX2, TX2, 43) rfl rfl (lw_V q1662 q1664 qs99 q156 q1665) npX2_pushesBy dX2_doesPush_10 (js_zreturn hX hr hlk dX2_doesPush_13))))))))))
  | k + 1 => intro ls st h nc ns hf; exact hf.elim
def bX2_get : jjB := fun e K k => match k with
  | 0 => (ji_aload 0 (ji_getfR 2 0 (ji_const 46 (ji_const 6 (ji_iload 1 (ji_imul (ji_iadd (ji_iload 2 (ji_iadd (ji_iald (ji_ireturn e)))))))))))
  | _ => fun _ _ _ _ _ => False
def pX2_get : Nat → Nat := fun k => match k with
  | 0 => 0
  | _ => 0
theorem sX2_get : jSound bX2_get pX2_get MX2_get := by
  intro e p ev R s m args below meth c hX hr hn hlk K hK k
  match k with
  | 0 => exact (js_aload_n hX dX2_get_0 rfl (js_getfR hX (ci := 2) (k := 0) (RX2, TX2, 43) rfl (by decide) rfl (Or.inl q1346) (fun _ h => h) dX2_get_1 (js_const hX (z := 46) (by unfold inI; omega) dX2_get_4 (Or.inr (Or.inl ⟨46, rfl, rfl, rfl⟩)) (js_const hX (z := 6) (by unfold inI; omega) dX2_get_6 (Or.inr (Or.inl ⟨6, rfl, rfl, rfl⟩)) (js_iload_n hX dX2_get_8 rfl (js_imul hX dX2_get_9 (js_iadd hX dX2_get_10 (js_iload_n hX dX2_get_11 rfl (js_iadd hX dX2_get_12 (js_iald hX dX2_get_13 (js_ireturn hX hr hlk dX2_get_14)))))))))))
  | k + 1 => intro ls st h nc ns hf; exact hf.elim
def bX2_pushesBy : jjB := fun e K k => match k with
  | 0 => (ji_aload 0 (ji_const 0 (ji_iload 1 (ji_callV e MX2_clauseOf 2 3 (ji_istore 5 (ji_iload 5 (ji_if_ge (ji_aload 0 (ji_iload 2 (ji_callV e MX2_name 2 2 (ji_aload 0 (ji_getfR 2 22 (ji_const 6 (ji_iload 4 (ji_if_eq (ji_const 0 (K 1))
    (ji_const 1 (ji_goto (K 1)))))))))))
    (ji_const 0 (ji_zreturn e)))))))))
  | 1 => (ji_iast (ji_aload 0 (ji_getfR 2 22 (ji_const 7 (ji_iload 3 (ji_iast (ji_const 0 (ji_istore 6 (K 2)))))))))
  | 2 => (ji_iload 6 (ji_const 4 (ji_icmp_ge (ji_aload 0 (ji_iload 5 (ji_callV e MX2_work 2 2 (ji_aload 0 (ji_getfR 2 24 (ji_const 0 (ji_zald (ji_zreturn e))))))))
    (ji_aload 0 (ji_getfR 2 22 (ji_const 8 (ji_iload 6 (ji_iadd (ji_aload 0 (ji_iload 3 (ji_iload 6 (ji_callV e MX2_get 2 3 (ji_iast (ji_iinc 6 1 (ji_goto (K 2))))))))))))))))
  | _ => fun _ _ _ _ _ => False
def pX2_pushesBy : Nat → Nat := fun k => match k with
  | 0 => 0
  | 1 => 36
  | 2 => 48
  | _ => 0
theorem sX2_pushesBy : jSound bX2_pushesBy pX2_pushesBy MX2_pushesBy := by
  intro e p ev R s m args below meth c hX hr hn hlk K hK k
  match k with
  | 0 => exact (js_aload_n hX dX2_pushesBy_0 rfl (js_const hX (z := 0) (by unfold inI; omega) dX2_pushesBy_1 (Or.inl ⟨0, rfl, rfl, rfl⟩) (js_iload_n hX dX2_pushesBy_2 rfl (js_callV hX MX2_clauseOf (ci := 2) (n := 2) (RX2, TX2, 43) rfl rfl (lw_V q1666 q1668 qs100 q156 q1669) npX2_clauseOf dX2_pushesBy_3 (js_istore hX dX2_pushesBy_6 (by decide) (js_iload hX dX2_pushesBy_8 (js_if_ge hX (tgt := 15) dX2_pushesBy_10 rfl (js_aload_n hX dX2_pushesBy_15 rfl (js_iload_n hX dX2_pushesBy_16 rfl (js_callV hX MX2_name (ci := 2) (n := 1) (RX2, TX2, 43) rfl rfl (lw_V q1670 q1672 qs101 q156 q1673) npX2_name dX2_pushesBy_17 (js_aload_n hX dX2_pushesBy_20 rfl (js_getfR hX (ci := 2) (k := 22) (RX2, TX2, 43) rfl (by decide) rfl (Or.inl q1366) (fun _ h => h) dX2_pushesBy_21 (js_const hX (z := 6) (by unfold inI; omega) dX2_pushesBy_24 (Or.inr (Or.inl ⟨6, rfl, rfl, rfl⟩)) (js_iload hX dX2_pushesBy_26 (js_if_eq hX (tgt := 35) dX2_pushesBy_28 rfl (js_const hX (z := 0) (by unfold inI; omega) dX2_pushesBy_35 (Or.inl ⟨0, rfl, rfl, rfl⟩) (hK 1))
    (js_const hX (z := 1) (by unfold inI; omega) dX2_pushesBy_31 (Or.inl ⟨1, rfl, rfl, rfl⟩) (js_goto hX (tgt := 36) dX2_pushesBy_32 rfl (hK 1)))))))))))
    (js_const hX (z := 0) (by unfold inI; omega) dX2_pushesBy_13 (Or.inl ⟨0, rfl, rfl, rfl⟩) (js_zreturn hX hr hlk dX2_pushesBy_14)))))))))
  | 1 => exact (js_iast hX dX2_pushesBy_36 (js_aload_n hX dX2_pushesBy_37 rfl (js_getfR hX (ci := 2) (k := 22) (RX2, TX2, 43) rfl (by decide) rfl (Or.inl q1366) (fun _ h => h) dX2_pushesBy_38 (js_const hX (z := 7) (by unfold inI; omega) dX2_pushesBy_41 (Or.inr (Or.inl ⟨7, rfl, rfl, rfl⟩)) (js_iload_n hX dX2_pushesBy_43 rfl (js_iast hX dX2_pushesBy_44 (js_const hX (z := 0) (by unfold inI; omega) dX2_pushesBy_45 (Or.inl ⟨0, rfl, rfl, rfl⟩) (js_istore hX dX2_pushesBy_46 (by decide) (hK 2)))))))))
  | 2 => exact (js_iload hX dX2_pushesBy_48 (js_const hX (z := 4) (by unfold inI; omega) dX2_pushesBy_50 (Or.inl ⟨4, rfl, rfl, rfl⟩) (js_icmp_ge hX (tgt := 77) dX2_pushesBy_51 rfl (js_aload_n hX dX2_pushesBy_77 rfl (js_iload hX dX2_pushesBy_78 (js_callV hX MX2_work (ci := 2) (n := 1) (RX2, TX2, 43) rfl rfl (lw_V q1674 q1676 qs102 q156 q1677) npX2_work dX2_pushesBy_80 (js_aload_n hX dX2_pushesBy_83 rfl (js_getfR hX (ci := 2) (k := 24) (RX2, TX2, 43) rfl (by decide) rfl (Or.inl q1368) (fun _ h => h) dX2_pushesBy_84 (js_const hX (z := 0) (by unfold inI; omega) dX2_pushesBy_87 (Or.inl ⟨0, rfl, rfl, rfl⟩) (js_zald hX dX2_pushesBy_88 (js_zreturn hX hr hlk dX2_pushesBy_89))))))))
    (js_aload_n hX dX2_pushesBy_54 rfl (js_getfR hX (ci := 2) (k := 22) (RX2, TX2, 43) rfl (by decide) rfl (Or.inl q1366) (fun _ h => h) dX2_pushesBy_55 (js_const hX (z := 8) (by unfold inI; omega) dX2_pushesBy_58 (Or.inr (Or.inl ⟨8, rfl, rfl, rfl⟩)) (js_iload hX dX2_pushesBy_60 (js_iadd hX dX2_pushesBy_62 (js_aload_n hX dX2_pushesBy_63 rfl (js_iload_n hX dX2_pushesBy_64 rfl (js_iload hX dX2_pushesBy_65 (js_callV hX MX2_get (ci := 2) (n := 2) (RX2, TX2, 43) rfl rfl (lw_V q1658 q1660 qs98 q156 q1661) npX2_get dX2_pushesBy_67 (js_iast hX dX2_pushesBy_70 (js_iinc hX dX2_pushesBy_71 (by decide) (js_goto hX (tgt := 48) dX2_pushesBy_74 rfl (hK 2))))))))))))))))
  | k + 3 => intro ls st h nc ns hf; exact hf.elim
def bX2_clauseOf : jjB := fun e K k => match k with
  | 0 => (ji_const 0 (ji_istore 3 (K 1)))
  | 1 => (ji_aload 0 (ji_getfR 2 0 (ji_const 6 (ji_iald (ji_if_lt (K 4)
    (ji_iload 3 (ji_aload 0 (ji_getfR 2 2 (ji_const 705 (ji_aload 0 (ji_getfR 2 0 (ji_const 6 (ji_iald (ji_imul (ji_iald (ji_icmp_ge (K 4)
    (ji_const 705 (ji_aload 0 (ji_getfR 2 0 (ji_const 6 (ji_iald (ji_imul (ji_const 1 (ji_iadd (ji_const 4 (ji_iload 3 (ji_imul (ji_iadd (ji_istore 4 (ji_aload 0 (ji_getfR 2 2 (ji_iload 4 (ji_iald (ji_iload 1 (ji_icmp_ne (K 3)
    (ji_iload 1 (ji_if_ne (K 2)
    (ji_aload 0 (ji_getfR 2 2 (ji_iload 4 (ji_const 1 (ji_iadd (ji_iald (ji_iload 2 (ji_icmp_ne (K 3)
    (K 2))))))))))))))))))))))))))))))))))))))))))))))
  | 2 => (ji_iload 3 (ji_ireturn e))
  | 3 => (ji_iinc 3 1 (ji_goto (K 1)))
  | 4 => (ji_const (-1) (ji_ireturn e))
  | _ => fun _ _ _ _ _ => False
def pX2_clauseOf : Nat → Nat := fun k => match k with
  | 0 => 0
  | 1 => 2
  | 2 => 79
  | 3 => 81
  | 4 => 87
  | _ => 0
theorem sX2_clauseOf : jSound bX2_clauseOf pX2_clauseOf MX2_clauseOf := by
  intro e p ev R s m args below meth c hX hr hn hlk K hK k
  match k with
  | 0 => exact (js_const hX (z := 0) (by unfold inI; omega) dX2_clauseOf_0 (Or.inl ⟨0, rfl, rfl, rfl⟩) (js_istore_n hX dX2_clauseOf_1 rfl (by decide) (hK 1)))
  | 1 => exact (js_aload_n hX dX2_clauseOf_2 rfl (js_getfR hX (ci := 2) (k := 0) (RX2, TX2, 43) rfl (by decide) rfl (Or.inl q1346) (fun _ h => h) dX2_clauseOf_3 (js_const hX (z := 6) (by unfold inI; omega) dX2_clauseOf_6 (Or.inr (Or.inl ⟨6, rfl, rfl, rfl⟩)) (js_iald hX dX2_clauseOf_8 (js_if_lt hX (tgt := 87) dX2_clauseOf_9 rfl (hK 4)
    (js_iload_n hX dX2_clauseOf_12 rfl (js_aload_n hX dX2_clauseOf_13 rfl (js_getfR hX (ci := 2) (k := 2) (RX2, TX2, 43) rfl (by decide) rfl (Or.inl q1348) (fun _ h => h) dX2_clauseOf_14 (js_const hX (z := 705) (by unfold inI; omega) dX2_clauseOf_17 (Or.inr (Or.inr (Or.inl ⟨705, rfl, rfl, rfl⟩))) (js_aload_n hX dX2_clauseOf_20 rfl (js_getfR hX (ci := 2) (k := 0) (RX2, TX2, 43) rfl (by decide) rfl (Or.inl q1346) (fun _ h => h) dX2_clauseOf_21 (js_const hX (z := 6) (by unfold inI; omega) dX2_clauseOf_24 (Or.inr (Or.inl ⟨6, rfl, rfl, rfl⟩)) (js_iald hX dX2_clauseOf_26 (js_imul hX dX2_clauseOf_27 (js_iald hX dX2_clauseOf_28 (js_icmp_ge hX (tgt := 87) dX2_clauseOf_29 rfl (hK 4)
    (js_const hX (z := 705) (by unfold inI; omega) dX2_clauseOf_32 (Or.inr (Or.inr (Or.inl ⟨705, rfl, rfl, rfl⟩))) (js_aload_n hX dX2_clauseOf_35 rfl (js_getfR hX (ci := 2) (k := 0) (RX2, TX2, 43) rfl (by decide) rfl (Or.inl q1346) (fun _ h => h) dX2_clauseOf_36 (js_const hX (z := 6) (by unfold inI; omega) dX2_clauseOf_39 (Or.inr (Or.inl ⟨6, rfl, rfl, rfl⟩)) (js_iald hX dX2_clauseOf_41 (js_imul hX dX2_clauseOf_42 (js_const hX (z := 1) (by unfold inI; omega) dX2_clauseOf_43 (Or.inl ⟨1, rfl, rfl, rfl⟩) (js_iadd hX dX2_clauseOf_44 (js_const hX (z := 4) (by unfold inI; omega) dX2_clauseOf_45 (Or.inl ⟨4, rfl, rfl, rfl⟩) (js_iload_n hX dX2_clauseOf_46 rfl (js_imul hX dX2_clauseOf_47 (js_iadd hX dX2_clauseOf_48 (js_istore hX dX2_clauseOf_49 (by decide) (js_aload_n hX dX2_clauseOf_51 rfl (js_getfR hX (ci := 2) (k := 2) (RX2, TX2, 43) rfl (by decide) rfl (Or.inl q1348) (fun _ h => h) dX2_clauseOf_52 (js_iload hX dX2_clauseOf_55 (js_iald hX dX2_clauseOf_57 (js_iload_n hX dX2_clauseOf_58 rfl (js_icmp_ne hX (tgt := 81) dX2_clauseOf_59 rfl (hK 3)
    (js_iload_n hX dX2_clauseOf_62 rfl (js_if_ne hX (tgt := 79) dX2_clauseOf_63 rfl (hK 2)
    (js_aload_n hX dX2_clauseOf_66 rfl (js_getfR hX (ci := 2) (k := 2) (RX2, TX2, 43) rfl (by decide) rfl (Or.inl q1348) (fun _ h => h) dX2_clauseOf_67 (js_iload hX dX2_clauseOf_70 (js_const hX (z := 1) (by unfold inI; omega) dX2_clauseOf_72 (Or.inl ⟨1, rfl, rfl, rfl⟩) (js_iadd hX dX2_clauseOf_73 (js_iald hX dX2_clauseOf_74 (js_iload_n hX dX2_clauseOf_75 rfl (js_icmp_ne hX (tgt := 81) dX2_clauseOf_76 rfl (hK 3)
    (hK 2))))))))))))))))))))))))))))))))))))))))))))))
  | 2 => exact (js_iload_n hX dX2_clauseOf_79 rfl (js_ireturn hX hr hlk dX2_clauseOf_80))
  | 3 => exact (js_iinc hX dX2_clauseOf_81 (by decide) (js_goto hX (tgt := 2) dX2_clauseOf_84 rfl (hK 1)))
  | 4 => exact (js_const hX (z := (-1)) (by unfold inI; omega) dX2_clauseOf_87 (Or.inl ⟨(-1), rfl, rfl, rfl⟩) (js_ireturn hX hr hlk dX2_clauseOf_88))
  | k + 5 => intro ls st h nc ns hf; exact hf.elim
def bX2_name : jjB := fun e K k => match k with
  | 0 => (ji_aload 0 (ji_getfR 2 22 (ji_const 0 (ji_iload 1 (ji_iast (ji_const 0 (ji_istore 2 (K 1))))))))
  | 1 => (ji_iload 2 (ji_const 4 (ji_icmp_ge (ji_aload 0 (ji_getfR 2 22 (ji_const 5 (ji_aload 0 (ji_getfR 2 0 (ji_const 2 (ji_iald (ji_iast (ji_return e)))))))))
    (ji_aload 0 (ji_getfR 2 22 (ji_const 1 (ji_iload 2 (ji_iadd (ji_aload 0 (ji_iload 1 (ji_iload 2 (ji_callV e MX2_get 2 3 (ji_iast (ji_iinc 2 1 (ji_goto (K 1))))))))))))))))
  | _ => fun _ _ _ _ _ => False
def pX2_name : Nat → Nat := fun k => match k with
  | 0 => 0
  | 1 => 9
  | _ => 0
theorem sX2_name : jSound bX2_name pX2_name MX2_name := by
  intro e p ev R s m args below meth c hX hr hn hlk K hK k
  match k with
  | 0 => exact (js_aload_n hX dX2_name_0 rfl (js_getfR hX (ci := 2) (k := 22) (RX2, TX2, 43) rfl (by decide) rfl (Or.inl q1366) (fun _ h => h) dX2_name_1 (js_const hX (z := 0) (by unfold inI; omega) dX2_name_4 (Or.inl ⟨0, rfl, rfl, rfl⟩) (js_iload_n hX dX2_name_5 rfl (js_iast hX dX2_name_6 (js_const hX (z := 0) (by unfold inI; omega) dX2_name_7 (Or.inl ⟨0, rfl, rfl, rfl⟩) (js_istore_n hX dX2_name_8 rfl (by decide) (hK 1))))))))
  | 1 => exact (js_iload_n hX dX2_name_9 rfl (js_const hX (z := 4) (by unfold inI; omega) dX2_name_10 (Or.inl ⟨4, rfl, rfl, rfl⟩) (js_icmp_ge hX (tgt := 34) dX2_name_11 rfl (js_aload_n hX dX2_name_34 rfl (js_getfR hX (ci := 2) (k := 22) (RX2, TX2, 43) rfl (by decide) rfl (Or.inl q1366) (fun _ h => h) dX2_name_35 (js_const hX (z := 5) (by unfold inI; omega) dX2_name_38 (Or.inl ⟨5, rfl, rfl, rfl⟩) (js_aload_n hX dX2_name_39 rfl (js_getfR hX (ci := 2) (k := 0) (RX2, TX2, 43) rfl (by decide) rfl (Or.inl q1346) (fun _ h => h) dX2_name_40 (js_const hX (z := 2) (by unfold inI; omega) dX2_name_43 (Or.inl ⟨2, rfl, rfl, rfl⟩) (js_iald hX dX2_name_44 (js_iast hX dX2_name_45 (js_return hX hr hlk dX2_name_46)))))))))
    (js_aload_n hX dX2_name_14 rfl (js_getfR hX (ci := 2) (k := 22) (RX2, TX2, 43) rfl (by decide) rfl (Or.inl q1366) (fun _ h => h) dX2_name_15 (js_const hX (z := 1) (by unfold inI; omega) dX2_name_18 (Or.inl ⟨1, rfl, rfl, rfl⟩) (js_iload_n hX dX2_name_19 rfl (js_iadd hX dX2_name_20 (js_aload_n hX dX2_name_21 rfl (js_iload_n hX dX2_name_22 rfl (js_iload_n hX dX2_name_23 rfl (js_callV hX MX2_get (ci := 2) (n := 2) (RX2, TX2, 43) rfl rfl (lw_V q1658 q1660 qs98 q156 q1661) npX2_get dX2_name_24 (js_iast hX dX2_name_27 (js_iinc hX dX2_name_28 (by decide) (js_goto hX (tgt := 9) dX2_name_31 rfl (hK 1))))))))))))))))
  | k + 2 => intro ls st h nc ns hf; exact hf.elim
