/-! blocks of the methods and their soundness -/
set_option maxRecDepth 100000
def bX2_feed : jjB := fun e K k => match k with
  | 0 => (ji_aload 0 (ji_getfI 2 4 (ji_const 20 (ji_iadd (ji_const 300 (ji_icmp_le (ji_aload 0 (ji_iload 1 (ji_callV e MX2_four 2 2 (ji_aload 0 (ji_iload 2 (ji_callV e MX2_four 2 2 (ji_aload 0 (ji_iload 3 (ji_callV e MX2_four 2 2 (ji_aload 0 (ji_iload 4 (ji_callV e MX2_four 2 2 (ji_aload 0 (ji_iload 5 (ji_callV e MX2_four 2 2 (ji_aload 0 (ji_getfI 2 4 (ji_ireturn e))))))))))))))))))
    (ji_const (-1) (ji_ireturn e))))))))
  | _ => fun _ _ _ _ _ => False
def pX2_feed : Nat → Nat := fun k => match k with
  | 0 => 0
  | _ => 0
theorem sX2_feed : jSound bX2_feed pX2_feed MX2_feed := by
  intro e p ev R s m args below meth c hX hr hn hlk K hK k
  match k with
  | 0 => exact (js_aload_n hX dX2_feed_0 rfl (js_getfI hX (ci := 2) (k := 4) (RX2, TX2, 43) rfl (by decide) rfl (Or.inl q1350) (fun _ h => h) dX2_feed_1 (js_const hX (z := 20) (by unfold inI; omega) dX2_feed_4 (Or.inr (Or.inl ⟨20, rfl, rfl, rfl⟩)) (js_iadd hX dX2_feed_6 (js_const hX (z := 300) (by unfold inI; omega) dX2_feed_7 (Or.inr (Or.inr (Or.inl ⟨300, rfl, rfl, rfl⟩))) (js_icmp_le hX (tgt := 15) dX2_feed_10 rfl (js_aload_n hX dX2_feed_15 rfl (js_iload_n hX dX2_feed_16 rfl (js_callV hX MX2_four (ci := 2) (n := 1) (RX2, TX2, 43) rfl rfl (lw_V q1494 q1496 qs67 q156 q1497) npX2_four dX2_feed_17 (js_aload_n hX dX2_feed_20 rfl (js_iload_n hX dX2_feed_21 rfl (js_callV hX MX2_four (ci := 2) (n := 1) (RX2, TX2, 43) rfl rfl (lw_V q1494 q1496 qs67 q156 q1497) npX2_four dX2_feed_22 (js_aload_n hX dX2_feed_25 rfl (js_iload_n hX dX2_feed_26 rfl (js_callV hX MX2_four (ci := 2) (n := 1) (RX2, TX2, 43) rfl rfl (lw_V q1494 q1496 qs67 q156 q1497) npX2_four dX2_feed_27 (js_aload_n hX dX2_feed_30 rfl (js_iload hX dX2_feed_31 (js_callV hX MX2_four (ci := 2) (n := 1) (RX2, TX2, 43) rfl rfl (lw_V q1494 q1496 qs67 q156 q1497) npX2_four dX2_feed_33 (js_aload_n hX dX2_feed_36 rfl (js_iload hX dX2_feed_37 (js_callV hX MX2_four (ci := 2) (n := 1) (RX2, TX2, 43) rfl rfl (lw_V q1494 q1496 qs67 q156 q1497) npX2_four dX2_feed_39 (js_aload_n hX dX2_feed_42 rfl (js_getfI hX (ci := 2) (k := 4) (RX2, TX2, 43) rfl (by decide) rfl (Or.inl q1350) (fun _ h => h) dX2_feed_43 (js_ireturn hX hr hlk dX2_feed_46))))))))))))))))))
    (js_const hX (z := (-1)) (by unfold inI; omega) dX2_feed_13 (Or.inl ⟨(-1), rfl, rfl, rfl⟩) (js_ireturn hX hr hlk dX2_feed_14))))))))
  | k + 1 => intro ls st h nc ns hf; exact hf.elim
def bX2_four : jjB := fun e K k => match k with
  | 0 => (ji_const 24 (ji_istore 2 (K 1)))
  | 1 => (ji_iload 2 (ji_if_lt (ji_return e)
    (ji_aload 0 (ji_getfR 2 3 (ji_aload 0 (ji_getfI 2 4 (ji_iload 1 (ji_iload 2 (ji_ishr (ji_const 255 (ji_iand (ji_iast (ji_aload 0 (ji_dup (ji_getfI 2 4 (ji_const 1 (ji_iadd (ji_putfI 2 4 (ji_iinc 2 (-8) (ji_goto (K 1)))))))))))))))))))))
  | _ => fun _ _ _ _ _ => False
def pX2_four : Nat → Nat := fun k => match k with
  | 0 => 0
  | 1 => 3
  | _ => 0
theorem sX2_four : jSound bX2_four pX2_four MX2_four := by
  intro e p ev R s m args below meth c hX hr hn hlk K hK k
  match k with
  | 0 => exact (js_const hX (z := 24) (by unfold inI; omega) dX2_four_0 (Or.inr (Or.inl ⟨24, rfl, rfl, rfl⟩)) (js_istore_n hX dX2_four_2 rfl (by decide) (hK 1)))
  | 1 => exact (js_iload_n hX dX2_four_3 rfl (js_if_lt hX (tgt := 39) dX2_four_4 rfl (js_return hX hr hlk dX2_four_39)
    (js_aload_n hX dX2_four_7 rfl (js_getfR hX (ci := 2) (k := 3) (RX2, TX2, 43) rfl (by decide) rfl (Or.inl q1349) (fun _ h => h) dX2_four_8 (js_aload_n hX dX2_four_11 rfl (js_getfI hX (ci := 2) (k := 4) (RX2, TX2, 43) rfl (by decide) rfl (Or.inl q1350) (fun _ h => h) dX2_four_12 (js_iload_n hX dX2_four_15 rfl (js_iload_n hX dX2_four_16 rfl (js_ishr hX dX2_four_17 (js_const hX (z := 255) (by unfold inI; omega) dX2_four_18 (Or.inr (Or.inr (Or.inl ⟨255, rfl, rfl, rfl⟩))) (js_iand hX dX2_four_21 (js_iast hX dX2_four_22 (js_aload_n hX dX2_four_23 rfl (js_dup hX dX2_four_24 (js_getfI hX (ci := 2) (k := 4) (RX2, TX2, 43) rfl (by decide) rfl (Or.inl q1350) (fun _ h => h) dX2_four_25 (js_const hX (z := 1) (by unfold inI; omega) dX2_four_28 (Or.inl ⟨1, rfl, rfl, rfl⟩) (js_iadd hX dX2_four_29 (js_putfI hX (ci := 2) (k := 4) (RX2, TX2, 43) rfl (by decide) rfl (Or.inl q1350) (fun _ h => h) (Or.inl rfl) dX2_four_30 (js_iinc hX dX2_four_33 (by decide) (js_goto hX (tgt := 3) dX2_four_36 rfl (hK 1)))))))))))))))))))))
  | k + 2 => intro ls st h nc ns hf; exact hf.elim
def bX2_end : jjB := fun e K k => match k with
  | 0 => (ji_iload 1 (ji_const 0 (ji_aload 0 (ji_getfI 2 4 (ji_callS e MX2_isIn 3 (ji_if_ne (ji_aload 0 (ji_iload 1 (ji_putfI 2 4 (ji_iload 1 (ji_ireturn e)))))
    (ji_const (-1) (ji_ireturn e))))))))
  | _ => fun _ _ _ _ _ => False
def pX2_end : Nat → Nat := fun k => match k with
  | 0 => 0
  | _ => 0
theorem sX2_end : jSound bX2_end pX2_end MX2_end := by
  intro e p ev R s m args below meth c hX hr hn hlk K hK k
  match k with
  | 0 => exact (js_iload_n hX dX2_end_0 rfl (js_const hX (z := 0) (by unfold inI; omega) dX2_end_1 (Or.inl ⟨0, rfl, rfl, rfl⟩) (js_aload_n hX dX2_end_2 rfl (js_getfI hX (ci := 2) (k := 4) (RX2, TX2, 43) rfl (by decide) rfl (Or.inl q1350) (fun _ h => h) dX2_end_3 (js_callS hX MX2_isIn (n := 3) (lw_S q1479 q1480 q156 q1481) npX2_isIn dX2_end_6 (js_if_ne hX (tgt := 14) dX2_end_9 rfl (js_aload_n hX dX2_end_14 rfl (js_iload_n hX dX2_end_15 rfl (js_putfI hX (ci := 2) (k := 4) (RX2, TX2, 43) rfl (by decide) rfl (Or.inl q1350) (fun _ h => h) (Or.inl rfl) dX2_end_16 (js_iload_n hX dX2_end_19 rfl (js_ireturn hX hr hlk dX2_end_20)))))
    (js_const hX (z := (-1)) (by unfold inI; omega) dX2_end_12 (Or.inl ⟨(-1), rfl, rfl, rfl⟩) (js_ireturn hX hr hlk dX2_end_13))))))))
  | k + 1 => intro ls st h nc ns hf; exact hf.elim
def bX2_text : jjB := fun e K k => match k with
  | 0 => (ji_aload 0 (ji_getfR 2 0 (ji_const 5 (ji_iald (ji_const 4 (ji_icmp_ne (ji_aload 0 (ji_aload 0 (ji_callV e MX2_readText 2 1 (ji_putfI 2 5 (ji_aload 0 (ji_aload 0 (ji_getfI 2 5 (ji_if_ne (ji_aload 0 (ji_getfI 2 8 (K 1)))
    (ji_const (-1) (ji_goto (K 1)))))))))))
    (ji_const (-1) (ji_ireturn e))))))))
  | 1 => (ji_putfI 2 6 (ji_aload 0 (ji_const 0 (ji_putfI 2 4 (ji_aload 0 (ji_getfI 2 5 (ji_if_eq (ji_aload 0 (ji_getfR 2 0 (ji_const 5 (ji_dup2 (ji_iald (ji_const 1 (ji_iadd (ji_iast (ji_aload 0 (ji_getfR 2 0 (ji_const 5 (ji_iald (ji_const 1 (ji_isub (ji_ireturn e)))))))))))))))
    (ji_const (-1) (ji_ireturn e)))))))))
  | _ => fun _ _ _ _ _ => False
def pX2_text : Nat → Nat := fun k => match k with
  | 0 => 0
  | 1 => 36
  | _ => 0
theorem sX2_text : jSound bX2_text pX2_text MX2_text := by
  intro e p ev R s m args below meth c hX hr hn hlk K hK k
  match k with
  | 0 => exact (js_aload_n hX dX2_text_0 rfl (js_getfR hX (ci := 2) (k := 0) (RX2, TX2, 43) rfl (by decide) rfl (Or.inl q1346) (fun _ h => h) dX2_text_1 (js_const hX (z := 5) (by unfold inI; omega) dX2_text_4 (Or.inl ⟨5, rfl, rfl, rfl⟩) (js_iald hX dX2_text_5 (js_const hX (z := 4) (by unfold inI; omega) dX2_text_6 (Or.inl ⟨4, rfl, rfl, rfl⟩) (js_icmp_ne hX (tgt := 12) dX2_text_7 rfl (js_aload_n hX dX2_text_12 rfl (js_aload_n hX dX2_text_13 rfl (js_callV hX MX2_readText (ci := 2) (n := 0) (RX2, TX2, 43) rfl rfl (lw_V q1506 q1508 qs68 q156 q1509) npX2_readText dX2_text_14 (js_putfI hX (ci := 2) (k := 5) (RX2, TX2, 43) rfl (by decide) rfl (Or.inl q1351) (fun _ h => h) (Or.inl rfl) dX2_text_17 (js_aload_n hX dX2_text_20 rfl (js_aload_n hX dX2_text_21 rfl (js_getfI hX (ci := 2) (k := 5) (RX2, TX2, 43) rfl (by decide) rfl (Or.inl q1351) (fun _ h => h) dX2_text_22 (js_if_ne hX (tgt := 32) dX2_text_25 rfl (js_aload_n hX dX2_text_32 rfl (js_getfI hX (ci := 2) (k := 8) (RX2, TX2, 43) rfl (by decide) rfl (Or.inl q1354) (fun _ h => h) dX2_text_33 (hK 1)))
    (js_const hX (z := (-1)) (by unfold inI; omega) dX2_text_28 (Or.inl ⟨(-1), rfl, rfl, rfl⟩) (js_goto hX (tgt := 36) dX2_text_29 rfl (hK 1)))))))))))
    (js_const hX (z := (-1)) (by unfold inI; omega) dX2_text_10 (Or.inl ⟨(-1), rfl, rfl, rfl⟩) (js_ireturn hX hr hlk dX2_text_11))))))))
  | 1 => exact (js_putfI hX (ci := 2) (k := 6) (RX2, TX2, 43) rfl (by decide) rfl (Or.inl q1352) (fun _ h => h) (Or.inl rfl) dX2_text_36 (js_aload_n hX dX2_text_39 rfl (js_const hX (z := 0) (by unfold inI; omega) dX2_text_40 (Or.inl ⟨0, rfl, rfl, rfl⟩) (js_putfI hX (ci := 2) (k := 4) (RX2, TX2, 43) rfl (by decide) rfl (Or.inl q1350) (fun _ h => h) (Or.inl rfl) dX2_text_41 (js_aload_n hX dX2_text_44 rfl (js_getfI hX (ci := 2) (k := 5) (RX2, TX2, 43) rfl (by decide) rfl (Or.inl q1351) (fun _ h => h) dX2_text_45 (js_if_eq hX (tgt := 53) dX2_text_48 rfl (js_aload_n hX dX2_text_53 rfl (js_getfR hX (ci := 2) (k := 0) (RX2, TX2, 43) rfl (by decide) rfl (Or.inl q1346) (fun _ h => h) dX2_text_54 (js_const hX (z := 5) (by unfold inI; omega) dX2_text_57 (Or.inl ⟨5, rfl, rfl, rfl⟩) (js_dup2 hX dX2_text_58 (js_iald hX dX2_text_59 (js_const hX (z := 1) (by unfold inI; omega) dX2_text_60 (Or.inl ⟨1, rfl, rfl, rfl⟩) (js_iadd hX dX2_text_61 (js_iast hX dX2_text_62 (js_aload_n hX dX2_text_63 rfl (js_getfR hX (ci := 2) (k := 0) (RX2, TX2, 43) rfl (by decide) rfl (Or.inl q1346) (fun _ h => h) dX2_text_64 (js_const hX (z := 5) (by unfold inI; omega) dX2_text_67 (Or.inl ⟨5, rfl, rfl, rfl⟩) (js_iald hX dX2_text_68 (js_const hX (z := 1) (by unfold inI; omega) dX2_text_69 (Or.inl ⟨1, rfl, rfl, rfl⟩) (js_isub hX dX2_text_70 (js_ireturn hX hr hlk dX2_text_71)))))))))))))))
    (js_const hX (z := (-1)) (by unfold inI; omega) dX2_text_51 (Or.inl ⟨(-1), rfl, rfl, rfl⟩) (js_ireturn hX hr hlk dX2_text_52)))))))))
  | k + 2 => intro ls st h nc ns hf; exact hf.elim
def bX2_readText : jjB := fun e K k => match k with
  | 0 => (ji_aload 0 (ji_const 705 (ji_aload 0 (ji_getfR 2 0 (ji_const 5 (ji_iald (ji_imul (ji_putfI 2 12 (ji_aload 0 (ji_getfR 2 2 (ji_aload 0 (ji_getfI 2 12 (ji_const 0 (ji_iast (ji_aload 0 (ji_const 0 (ji_putfI 2 14 (ji_aload 0 (ji_const 0 (ji_putfI 2 18 (ji_aload 0 (ji_const 0 (ji_putfI 2 21 (ji_aload 0 (ji_const 0 (ji_putfI 2 7 (ji_aload 0 (ji_callV e MX2_nextToken 2 1 (K 1)))))))))))))))))))))))))))))
  | 1 => (ji_aload 0 (ji_getfI 2 9 (ji_if_eq (ji_const 0 (ji_ireturn e))
    (ji_aload 0 (ji_callV e MX2_clause 2 1 (ji_istore 1 (ji_iload 1 (ji_if_eq (ji_goto (K 1))
    (ji_iload 1 (ji_ireturn e))))))))))
  | _ => fun _ _ _ _ _ => False
def pX2_readText : Nat → Nat := fun k => match k with
  | 0 => 0
  | 1 => 48
  | _ => 0
theorem sX2_readText : jSound bX2_readText pX2_readText MX2_readText := by
  intro e p ev R s m args below meth c hX hr hn hlk K hK k
  match k with
  | 0 => exact (js_aload_n hX dX2_readText_0 rfl (js_const hX (z := 705) (by unfold inI; omega) dX2_readText_1 (Or.inr (Or.inr (Or.inl ⟨705, rfl, rfl, rfl⟩))) (js_aload_n hX dX2_readText_4 rfl (js_getfR hX (ci := 2) (k := 0) (RX2, TX2, 43) rfl (by decide) rfl (Or.inl q1346) (fun _ h => h) dX2_readText_5 (js_const hX (z := 5) (by unfold inI; omega) dX2_readText_8 (Or.inl ⟨5, rfl, rfl, rfl⟩) (js_iald hX dX2_readText_9 (js_imul hX dX2_readText_10 (js_putfI hX (ci := 2) (k := 12) (RX2, TX2, 43) rfl (by decide) rfl (Or.inl q1358) (fun _ h => h) (Or.inl rfl) dX2_readText_11 (js_aload_n hX dX2_readText_14 rfl (js_getfR hX (ci := 2) (k := 2) (RX2, TX2, 43) rfl (by decide) rfl (Or.inl q1348) (fun _ h => h) dX2_readText_15 (js_aload_n hX dX2_readText_18 rfl (js_getfI hX (ci := 2) (k := 12) (RX2, TX2, 43) rfl (by decide) rfl (Or.inl q1358) (fun _ h => h) dX2_readText_19 (js_const hX (z := 0) (by unfold inI; omega) dX2_readText_22 (Or.inl ⟨0, rfl, rfl, rfl⟩) (js_iast hX dX2_readText_23 (js_aload_n hX dX2_readText_24 rfl (js_const hX (z := 0) (by unfold inI; omega) dX2_readText_25 (Or.inl ⟨0, rfl, rfl, rfl⟩) (js_putfI hX (ci := 2) (k := 14) (RX2, TX2, 43) rfl (by decide) rfl (Or.inl q1359) (fun _ h => h) (Or.inl rfl) dX2_readText_26 (js_aload_n hX dX2_readText_29 rfl (js_const hX (z := 0) (by unfold inI; omega) dX2_readText_30 (Or.inl ⟨0, rfl, rfl, rfl⟩) (js_putfI hX (ci := 2) (k := 18) (RX2, TX2, 43) rfl (by decide) rfl (Or.inl q1362) (fun _ h => h) (Or.inl rfl) dX2_readText_31 (js_aload_n hX dX2_readText_34 rfl (js_const hX (z := 0) (by unfold inI; omega) dX2_readText_35 (Or.inl ⟨0, rfl, rfl, rfl⟩) (js_putfI hX (ci := 2) (k := 21) (RX2, TX2, 43) rfl (by decide) rfl (Or.inl q1365) (fun _ h => h) (Or.inl rfl) dX2_readText_36 (js_aload_n hX dX2_readText_39 rfl (js_const hX (z := 0) (by unfold inI; omega) dX2_readText_40 (Or.inl ⟨0, rfl, rfl, rfl⟩) (js_putfI hX (ci := 2) (k := 7) (RX2, TX2, 43) rfl (by decide) rfl (Or.inl q1353) (fun _ h => h) (Or.inl rfl) dX2_readText_41 (js_aload_n hX dX2_readText_44 rfl (js_callV hX MX2_nextToken (ci := 2) (n := 0) (RX2, TX2, 43) rfl rfl (lw_V q1510 q1512 qs69 q156 q1513) npX2_nextToken dX2_readText_45 (hK 1)))))))))))))))))))))))))))))
  | 1 => exact (js_aload_n hX dX2_readText_48 rfl (js_getfI hX (ci := 2) (k := 9) (RX2, TX2, 43) rfl (by decide) rfl (Or.inl q1355) (fun _ h => h) dX2_readText_49 (js_if_eq hX (tgt := 69) dX2_readText_52 rfl (js_const hX (z := 0) (by unfold inI; omega) dX2_readText_69 (Or.inl ⟨0, rfl, rfl, rfl⟩) (js_ireturn hX hr hlk dX2_readText_70))
    (js_aload_n hX dX2_readText_55 rfl (js_callV hX MX2_clause (ci := 2) (n := 0) (RX2, TX2, 43) rfl rfl (lw_V q1525 q1527 qs71 q156 q1528) npX2_clause dX2_readText_56 (js_istore_n hX dX2_readText_59 rfl (by decide) (js_iload_n hX dX2_readText_60 rfl (js_if_eq hX (tgt := 66) dX2_readText_61 rfl (js_goto hX (tgt := 48) dX2_readText_66 rfl (hK 1))
    (js_iload_n hX dX2_readText_64 rfl (js_ireturn hX hr hlk dX2_readText_65))))))))))
  | k + 2 => intro ls st h nc ns hf; exact hf.elim
def bX2_nextToken : jjB := fun e K k => match k with
  | 0 => (ji_aload 0 (ji_aload 0 (ji_getfI 2 7 (ji_callV e MX2_byteAt 2 2 (ji_const 32 (ji_icmp_eq (K 1)
    (ji_aload 0 (ji_aload 0 (ji_getfI 2 7 (ji_callV e MX2_byteAt 2 2 (ji_const 10 (ji_icmp_ne (ji_aload 0 (ji_aload 0 (ji_getfI 2 7 (ji_putfI 2 8 (ji_aload 0 (ji_aload 0 (ji_getfI 2 7 (ji_callV e MX2_byteAt 2 2 (ji_istore 1 (ji_iload 1 (ji_if_ge (ji_iload 1 (ji_callS e MX2_isDigit 1 (ji_if_eq (ji_iload 1 (ji_callS e MX2_isLetter 1 (ji_if_eq (ji_aload 0 (ji_dup (ji_getfI 2 7 (ji_const 1 (ji_iadd (ji_putfI 2 7 (ji_iload 1 (ji_const 60 (ji_icmp_eq (K 6)
    (ji_iload 1 (ji_const 62 (ji_icmp_eq (K 6)
    (ji_iload 1 (ji_const 61 (ji_icmp_eq (K 6)
    (ji_iload 1 (ji_const 35 (ji_icmp_eq (K 6)
    (ji_iload 1 (ji_const 43 (ji_icmp_eq (K 6)
    (ji_iload 1 (ji_const 45 (ji_icmp_eq (K 6)
    (ji_iload 1 (ji_const 42 (ji_icmp_eq (K 6)
    (ji_iload 1 (ji_const 47 (ji_icmp_eq (K 6)
    (ji_iload 1 (ji_const 40 (ji_icmp_eq (K 6)
    (ji_iload 1 (ji_const 41 (ji_icmp_eq (K 6)
    (ji_iload 1 (ji_const 59 (ji_icmp_ne (ji_const 0 (K 7))
    (K 6))))))))))))))))))))))))))))))))))))))))
    (ji_aload 0 (ji_const 2 (ji_putfI 2 9 (ji_aload 0 (ji_lconst 0 (ji_putfL 2 11 (K 4))))))))))
    (ji_aload 0 (ji_const 1 (ji_putfI 2 9 (ji_aload 0 (ji_const 0 (ji_putfI 2 10 (K 2))))))))))
    (ji_aload 0 (ji_const 0 (ji_putfI 2 9 (ji_goto (K 11))))))))))))))))
    (K 1)))))))))))))
  | 1 => (ji_aload 0 (ji_dup (ji_getfI 2 7 (ji_const 1 (ji_iadd (ji_putfI 2 7 (ji_goto (K 0))))))))
  | 2 => (ji_aload 0 (ji_aload 0 (ji_getfI 2 7 (ji_callV e MX2_byteAt 2 2 (ji_callS e MX2_isDigit 1 (ji_if_eq (K 11)
    (ji_aload 0 (ji_getfI 2 10 (ji_const 100000 (ji_icmp_ge (K 3)
    (ji_aload 0 (ji_const 10 (ji_aload 0 (ji_getfI 2 10 (ji_imul (ji_aload 0 (ji_aload 0 (ji_getfI 2 7 (ji_callV e MX2_byteAt 2 2 (ji_iadd (ji_const 48 (ji_isub (ji_putfI 2 10 (K 3))))))))))))))))))))))))
  | 3 => (ji_aload 0 (ji_dup (ji_getfI 2 7 (ji_const 1 (ji_iadd (ji_putfI 2 7 (ji_goto (K 2))))))))
  | 4 => (ji_aload 0 (ji_aload 0 (ji_getfI 2 7 (ji_callV e MX2_byteAt 2 2 (ji_callS e MX2_isLetter 1 (ji_if_eq (ji_aload 0 (ji_getfI 2 7 (ji_aload 0 (ji_getfI 2 8 (ji_isub (ji_const 7 (ji_icmp_le (K 11)
    (ji_aload 0 (ji_lconst 0 (ji_putfL 2 11 (ji_goto (K 11))))))))))))
    (ji_aload 0 (ji_getfI 2 7 (ji_aload 0 (ji_getfI 2 8 (ji_isub (ji_const 7 (ji_icmp_ge (K 5)
    (ji_aload 0 (ji_aload 0 (ji_getfL 2 11 (ji_const 8 (ji_lshl (ji_aload 0 (ji_aload 0 (ji_getfI 2 7 (ji_callV e MX2_byteAt 2 2 (ji_i2l (ji_lor (ji_putfL 2 11 (K 5))))))))))))))))))))))))))
  | 5 => (ji_aload 0 (ji_dup (ji_getfI 2 7 (ji_const 1 (ji_iadd (ji_putfI 2 7 (ji_goto (K 4))))))))
  | 6 => (ji_const 1 (ji_goto (K 7)))
  | 7 => (ji_istore 2 (ji_aload 0 (ji_iload 2 (ji_if_eq (ji_const 3 (K 8))
    (ji_iload 1 (ji_goto (K 8)))))))
  | 8 => (ji_putfI 2 9 (ji_iload 1 (ji_const 60 (ji_icmp_eq (K 9)
    (ji_iload 1 (ji_const 62 (ji_icmp_ne (K 11)
    (K 9))))))))
  | 9 => (ji_aload 0 (ji_aload 0 (ji_getfI 2 7 (ji_callV e MX2_byteAt 2 2 (ji_const 61 (ji_icmp_ne (K 11)
    (ji_aload 0 (ji_dup (ji_getfI 2 7 (ji_const 1 (ji_iadd (ji_putfI 2 7 (ji_aload 0 (ji_iload 1 (ji_const 60 (ji_icmp_ne (ji_const 5 (K 10))
    (ji_const 4 (ji_goto (K 10)))))))))))))))))))
  | 10 => (ji_putfI 2 9 (K 11))
  | 11 => (ji_return e)
  | _ => fun _ _ _ _ _ => False
def pX2_nextToken : Nat → Nat := fun k => match k with
  | 0 => 0
  | 1 => 26
  | 2 => 85
  | 3 => 131
  | 4 => 161
  | 5 => 210
  | 6 => 321
  | 7 => 326
  | 8 => 337
  | 9 => 352
  | 10 => 387
  | 11 => 390
  | _ => 0
theorem sX2_nextToken : jSound bX2_nextToken pX2_nextToken MX2_nextToken := by
  intro e p ev R s m args below meth c hX hr hn hlk K hK k
  match k with
  | 0 => exact (js_aload_n hX dX2_nextToken_0 rfl (js_aload_n hX dX2_nextToken_1 rfl (js_getfI hX (ci := 2) (k := 7) (RX2, TX2, 43) rfl (by decide) rfl (Or.inl q1353) (fun _ h => h) dX2_nextToken_2 (js_callV hX MX2_byteAt (ci := 2) (n := 1) (RX2, TX2, 43) rfl rfl (lw_V q1514 q1516 qs70 q156 q1517) npX2_byteAt dX2_nextToken_5 (js_const hX (z := 32) (by unfold inI; omega) dX2_nextToken_8 (Or.inr (Or.inl ⟨32, rfl, rfl, rfl⟩)) (js_icmp_eq hX (tgt := 26) dX2_nextToken_10 rfl (hK 1)
    (js_aload_n hX dX2_nextToken_13 rfl (js_aload_n hX dX2_nextToken_14 rfl (js_getfI hX (ci := 2) (k := 7) (RX2, TX2, 43) rfl (by decide) rfl (Or.inl q1353) (fun _ h => h) dX2_nextToken_15 (js_callV hX MX2_byteAt (ci := 2) (n := 1) (RX2, TX2, 43) rfl rfl (lw_V q1514 q1516 qs70 q156 q1517) npX2_byteAt dX2_nextToken_18 (js_const hX (z := 10) (by unfold inI; omega) dX2_nextToken_21 (Or.inr (Or.inl ⟨10, rfl, rfl, rfl⟩)) (js_icmp_ne hX (tgt := 39) dX2_nextToken_23 rfl (js_aload_n hX dX2_nextToken_39 rfl (js_aload_n hX dX2_nextToken_40 rfl (js_getfI hX (ci := 2) (k := 7) (RX2, TX2, 43) rfl (by decide) rfl (Or.inl q1353) (fun _ h => h) dX2_nextToken_41 (js_putfI hX (ci := 2) (k := 8) (RX2, TX2, 43) rfl (by decide) rfl (Or.inl q1354) (fun _ h => h) (Or.inl rfl) dX2_nextToken_44 (js_aload_n hX dX2_nextToken_47 rfl (js_aload_n hX dX2_nextToken_48 rfl (js_getfI hX (ci := 2) (k := 7) (RX2, TX2, 43) rfl (by decide) rfl (Or.inl q1353) (fun _ h => h) dX2_nextToken_49 (js_callV hX MX2_byteAt (ci := 2) (n := 1) (RX2, TX2, 43) rfl rfl (lw_V q1514 q1516 qs70 q156 q1517) npX2_byteAt dX2_nextToken_52 (js_istore_n hX dX2_nextToken_55 rfl (by decide) (js_iload_n hX dX2_nextToken_56 rfl (js_if_ge hX (tgt := 68) dX2_nextToken_57 rfl (js_iload_n hX dX2_nextToken_68 rfl (js_callS hX MX2_isDigit (n := 1) (lw_S q1518 q1519 q156 q1520) npX2_isDigit dX2_nextToken_69 (js_if_eq hX (tgt := 144) dX2_nextToken_72 rfl (js_iload_n hX dX2_nextToken_144 rfl (js_callS hX MX2_isLetter (n := 1) (lw_S q1522 q1523 q156 q1524) npX2_isLetter dX2_nextToken_145 (js_if_eq hX (tgt := 245) dX2_nextToken_148 rfl (js_aload_n hX dX2_nextToken_245 rfl (js_dup hX dX2_nextToken_246 (js_getfI hX (ci := 2) (k := 7) (RX2, TX2, 43) rfl (by decide) rfl (Or.inl q1353) (fun _ h => h) dX2_nextToken_247 (js_const hX (z := 1) (by unfold inI; omega) dX2_nextToken_250 (Or.inl ⟨1, rfl, rfl, rfl⟩) (js_iadd hX dX2_nextToken_251 (js_putfI hX (ci := 2) (k := 7) (RX2, TX2, 43) rfl (by decide) rfl (Or.inl q1353) (fun _ h => h) (Or.inl rfl) dX2_nextToken_252 (js_iload_n hX dX2_nextToken_255 rfl (js_const hX (z := 60) (by unfold inI; omega) dX2_nextToken_256 (Or.inr (Or.inl ⟨60, rfl, rfl, rfl⟩)) (js_icmp_eq hX (tgt := 321) dX2_nextToken_258 rfl (hK 6)
    (js_iload_n hX dX2_nextToken_261 rfl (js_const hX (z := 62) (by unfold inI; omega) dX2_nextToken_262 (Or.inr (Or.inl ⟨62, rfl, rfl, rfl⟩)) (js_icmp_eq hX (tgt := 321) dX2_nextToken_264 rfl (hK 6)
    (js_iload_n hX dX2_nextToken_267 rfl (js_const hX (z := 61) (by unfold inI; omega) dX2_nextToken_268 (Or.inr (Or.inl ⟨61, rfl, rfl, rfl⟩)) (js_icmp_eq hX (tgt := 321) dX2_nextToken_270 rfl (hK 6)
    (js_iload_n hX dX2_nextToken_273 rfl (js_const hX (z := 35) (by unfold inI; omega) dX2_nextToken_274 (Or.inr (Or.inl ⟨35, rfl, rfl, rfl⟩)) (js_icmp_eq hX (tgt := 321) dX2_nextToken_276 rfl (hK 6)
    (js_iload_n hX dX2_nextToken_279 rfl (js_const hX (z := 43) (by unfold inI; omega) dX2_nextToken_280 (Or.inr (Or.inl ⟨43, rfl, rfl, rfl⟩)) (js_icmp_eq hX (tgt := 321) dX2_nextToken_282 rfl (hK 6)
    (js_iload_n hX dX2_nextToken_285 rfl (js_const hX (z := 45) (by unfold inI; omega) dX2_nextToken_286 (Or.inr (Or.inl ⟨45, rfl, rfl, rfl⟩)) (js_icmp_eq hX (tgt := 321) dX2_nextToken_288 rfl (hK 6)
    (js_iload_n hX dX2_nextToken_291 rfl (js_const hX (z := 42) (by unfold inI; omega) dX2_nextToken_292 (Or.inr (Or.inl ⟨42, rfl, rfl, rfl⟩)) (js_icmp_eq hX (tgt := 321) dX2_nextToken_294 rfl (hK 6)
    (js_iload_n hX dX2_nextToken_297 rfl (js_const hX (z := 47) (by unfold inI; omega) dX2_nextToken_298 (Or.inr (Or.inl ⟨47, rfl, rfl, rfl⟩)) (js_icmp_eq hX (tgt := 321) dX2_nextToken_300 rfl (hK 6)
    (js_iload_n hX dX2_nextToken_303 rfl (js_const hX (z := 40) (by unfold inI; omega) dX2_nextToken_304 (Or.inr (Or.inl ⟨40, rfl, rfl, rfl⟩)) (js_icmp_eq hX (tgt := 321) dX2_nextToken_306 rfl (hK 6)
    (js_iload_n hX dX2_nextToken_309 rfl (js_const hX (z := 41) (by unfold inI; omega) dX2_nextToken_310 (Or.inr (Or.inl ⟨41, rfl, rfl, rfl⟩)) (js_icmp_eq hX (tgt := 321) dX2_nextToken_312 rfl (hK 6)
    (js_iload_n hX dX2_nextToken_315 rfl (js_const hX (z := 59) (by unfold inI; omega) dX2_nextToken_316 (Or.inr (Or.inl ⟨59, rfl, rfl, rfl⟩)) (js_icmp_ne hX (tgt := 325) dX2_nextToken_318 rfl (js_const hX (z := 0) (by unfold inI; omega) dX2_nextToken_325 (Or.inl ⟨0, rfl, rfl, rfl⟩) (hK 7))
    (hK 6))))))))))))))))))))))))))))))))))))))))
    (js_aload_n hX dX2_nextToken_151 rfl (js_const hX (z := 2) (by unfold inI; omega) dX2_nextToken_152 (Or.inl ⟨2, rfl, rfl, rfl⟩) (js_putfI hX (ci := 2) (k := 9) (RX2, TX2, 43) rfl (by decide) rfl (Or.inl q1355) (fun _ h => h) (Or.inl rfl) dX2_nextToken_153 (js_aload_n hX dX2_nextToken_156 rfl (js_lconst hX (z := 0) (by unfold inL; omega) dX2_nextToken_157 rfl (js_putfL hX (ci := 2) (k := 11) (RX2, TX2, 43) rfl (by decide) rfl (Or.inl q1357) (fun _ h => h) (Or.inl rfl) dX2_nextToken_158 (hK 4))))))))))
    (js_aload_n hX dX2_nextToken_75 rfl (js_const hX (z := 1) (by unfold inI; omega) dX2_nextToken_76 (Or.inl ⟨1, rfl, rfl, rfl⟩) (js_putfI hX (ci := 2) (k := 9) (RX2, TX2, 43) rfl (by decide) rfl (Or.inl q1355) (fun _ h => h) (Or.inl rfl) dX2_nextToken_77 (js_aload_n hX dX2_nextToken_80 rfl (js_const hX (z := 0) (by unfold inI; omega) dX2_nextToken_81 (Or.inl ⟨0, rfl, rfl, rfl⟩) (js_putfI hX (ci := 2) (k := 10) (RX2, TX2, 43) rfl (by decide) rfl (Or.inl q1356) (fun _ h => h) (Or.inl rfl) dX2_nextToken_82 (hK 2))))))))))
    (js_aload_n hX dX2_nextToken_60 rfl (js_const hX (z := 0) (by unfold inI; omega) dX2_nextToken_61 (Or.inl ⟨0, rfl, rfl, rfl⟩) (js_putfI hX (ci := 2) (k := 9) (RX2, TX2, 43) rfl (by decide) rfl (Or.inl q1355) (fun _ h => h) (Or.inl rfl) dX2_nextToken_62 (js_goto hX (tgt := 390) dX2_nextToken_65 rfl (hK 11))))))))))))))))
    (hK 1)))))))))))))
  | 1 => exact (js_aload_n hX dX2_nextToken_26 rfl (js_dup hX dX2_nextToken_27 (js_getfI hX (ci := 2) (k := 7) (RX2, TX2, 43) rfl (by decide) rfl (Or.inl q1353) (fun _ h => h) dX2_nextToken_28 (js_const hX (z := 1) (by unfold inI; omega) dX2_nextToken_31 (Or.inl ⟨1, rfl, rfl, rfl⟩) (js_iadd hX dX2_nextToken_32 (js_putfI hX (ci := 2) (k := 7) (RX2, TX2, 43) rfl (by decide) rfl (Or.inl q1353) (fun _ h => h) (Or.inl rfl) dX2_nextToken_33 (js_goto hX (tgt := 0) dX2_nextToken_36 rfl (hK 0))))))))
  | 2 => exact (js_aload_n hX dX2_nextToken_85 rfl (js_aload_n hX dX2_nextToken_86 rfl (js_getfI hX (ci := 2) (k := 7) (RX2, TX2, 43) rfl (by decide) rfl (Or.inl q1353) (fun _ h => h) dX2_nextToken_87 (js_callV hX MX2_byteAt (ci := 2) (n := 1) (RX2, TX2, 43) rfl rfl (lw_V q1514 q1516 qs70 q156 q1517) npX2_byteAt dX2_nextToken_90 (js_callS hX MX2_isDigit (n := 1) (lw_S q1518 q1519 q156 q1520) npX2_isDigit dX2_nextToken_93 (js_if_eq hX (tgt := 390) dX2_nextToken_96 rfl (hK 11)
    (js_aload_n hX dX2_nextToken_99 rfl (js_getfI hX (ci := 2) (k := 10) (RX2, TX2, 43) rfl (by decide) rfl (Or.inl q1356) (fun _ h => h) dX2_nextToken_100 (js_const hX (z := 100000) (by unfold inI; omega) dX2_nextToken_103 (Or.inr (Or.inr (Or.inr (Or.inl ⟨134, rfl, rfl, q1521⟩)))) (js_icmp_ge hX (tgt := 131) dX2_nextToken_105 rfl (hK 3)
    (js_aload_n hX dX2_nextToken_108 rfl (js_const hX (z := 10) (by unfold inI; omega) dX2_nextToken_109 (Or.inr (Or.inl ⟨10, rfl, rfl, rfl⟩)) (js_aload_n hX dX2_nextToken_111 rfl (js_getfI hX (ci := 2) (k := 10) (RX2, TX2, 43) rfl (by decide) rfl (Or.inl q1356) (fun _ h => h) dX2_nextToken_112 (js_imul hX dX2_nextToken_115 (js_aload_n hX dX2_nextToken_116 rfl (js_aload_n hX dX2_nextToken_117 rfl (js_getfI hX (ci := 2) (k := 7) (RX2, TX2, 43) rfl (by decide) rfl (Or.inl q1353) (fun _ h => h) dX2_nextToken_118 (js_callV hX MX2_byteAt (ci := 2) (n := 1) (RX2, TX2, 43) rfl rfl (lw_V q1514 q1516 qs70 q156 q1517) npX2_byteAt dX2_nextToken_121 (js_iadd hX dX2_nextToken_124 (js_const hX (z := 48) (by unfold inI; omega) dX2_nextToken_125 (Or.inr (Or.inl ⟨48, rfl, rfl, rfl⟩)) (js_isub hX dX2_nextToken_127 (js_putfI hX (ci := 2) (k := 10) (RX2, TX2, 43) rfl (by decide) rfl (Or.inl q1356) (fun _ h => h) (Or.inl rfl) dX2_nextToken_128 (hK 3))))))))))))))))))))))))
  | 3 => exact (js_aload_n hX dX2_nextToken_131 rfl (js_dup hX dX2_nextToken_132 (js_getfI hX (ci := 2) (k := 7) (RX2, TX2, 43) rfl (by decide) rfl (Or.inl q1353) (fun _ h => h) dX2_nextToken_133 (js_const hX (z := 1) (by unfold inI; omega) dX2_nextToken_136 (Or.inl ⟨1, rfl, rfl, rfl⟩) (js_iadd hX dX2_nextToken_137 (js_putfI hX (ci := 2) (k := 7) (RX2, TX2, 43) rfl (by decide) rfl (Or.inl q1353) (fun _ h => h) (Or.inl rfl) dX2_nextToken_138 (js_goto hX (tgt := 85) dX2_nextToken_141 rfl (hK 2))))))))
  | 4 => exact (js_aload_n hX dX2_nextToken_161 rfl (js_aload_n hX dX2_nextToken_162 rfl (js_getfI hX (ci := 2) (k := 7) (RX2, TX2, 43) rfl (by decide) rfl (Or.inl q1353) (fun _ h => h) dX2_nextToken_163 (js_callV hX MX2_byteAt (ci := 2) (n := 1) (RX2, TX2, 43) rfl rfl (lw_V q1514 q1516 qs70 q156 q1517) npX2_byteAt dX2_nextToken_166 (js_callS hX MX2_isLetter (n := 1) (lw_S q1522 q1523 q156 q1524) npX2_isLetter dX2_nextToken_169 (js_if_eq hX (tgt := 223) dX2_nextToken_172 rfl (js_aload_n hX dX2_nextToken_223 rfl (js_getfI hX (ci := 2) (k := 7) (RX2, TX2, 43) rfl (by decide) rfl (Or.inl q1353) (fun _ h => h) dX2_nextToken_224 (js_aload_n hX dX2_nextToken_227 rfl (js_getfI hX (ci := 2) (k := 8) (RX2, TX2, 43) rfl (by decide) rfl (Or.inl q1354) (fun _ h => h) dX2_nextToken_228 (js_isub hX dX2_nextToken_231 (js_const hX (z := 7) (by unfold inI; omega) dX2_nextToken_232 (Or.inr (Or.inl ⟨7, rfl, rfl, rfl⟩)) (js_icmp_le hX (tgt := 390) dX2_nextToken_234 rfl (hK 11)
    (js_aload_n hX dX2_nextToken_237 rfl (js_lconst hX (z := 0) (by unfold inL; omega) dX2_nextToken_238 rfl (js_putfL hX (ci := 2) (k := 11) (RX2, TX2, 43) rfl (by decide) rfl (Or.inl q1357) (fun _ h => h) (Or.inl rfl) dX2_nextToken_239 (js_goto hX (tgt := 390) dX2_nextToken_242 rfl (hK 11))))))))))))
    (js_aload_n hX dX2_nextToken_175 rfl (js_getfI hX (ci := 2) (k := 7) (RX2, TX2, 43) rfl (by decide) rfl (Or.inl q1353) (fun _ h => h) dX2_nextToken_176 (js_aload_n hX dX2_nextToken_179 rfl (js_getfI hX (ci := 2) (k := 8) (RX2, TX2, 43) rfl (by decide) rfl (Or.inl q1354) (fun _ h => h) dX2_nextToken_180 (js_isub hX dX2_nextToken_183 (js_const hX (z := 7) (by unfold inI; omega) dX2_nextToken_184 (Or.inr (Or.inl ⟨7, rfl, rfl, rfl⟩)) (js_icmp_ge hX (tgt := 210) dX2_nextToken_186 rfl (hK 5)
    (js_aload_n hX dX2_nextToken_189 rfl (js_aload_n hX dX2_nextToken_190 rfl (js_getfL hX (ci := 2) (k := 11) (RX2, TX2, 43) rfl (by decide) rfl (Or.inl q1357) (fun _ h => h) dX2_nextToken_191 (js_const hX (z := 8) (by unfold inI; omega) dX2_nextToken_194 (Or.inr (Or.inl ⟨8, rfl, rfl, rfl⟩)) (js_lshl hX dX2_nextToken_196 (js_aload_n hX dX2_nextToken_197 rfl (js_aload_n hX dX2_nextToken_198 rfl (js_getfI hX (ci := 2) (k := 7) (RX2, TX2, 43) rfl (by decide) rfl (Or.inl q1353) (fun _ h => h) dX2_nextToken_199 (js_callV hX MX2_byteAt (ci := 2) (n := 1) (RX2, TX2, 43) rfl rfl (lw_V q1514 q1516 qs70 q156 q1517) npX2_byteAt dX2_nextToken_202 (js_i2l hX dX2_nextToken_205 (js_lor hX dX2_nextToken_206 (js_putfL hX (ci := 2) (k := 11) (RX2, TX2, 43) rfl (by decide) rfl (Or.inl q1357) (fun _ h => h) (Or.inl rfl) dX2_nextToken_207 (hK 5))))))))))))))))))))))))))
  | 5 => exact (js_aload_n hX dX2_nextToken_210 rfl (js_dup hX dX2_nextToken_211 (js_getfI hX (ci := 2) (k := 7) (RX2, TX2, 43) rfl (by decide) rfl (Or.inl q1353) (fun _ h => h) dX2_nextToken_212 (js_const hX (z := 1) (by unfold inI; omega) dX2_nextToken_215 (Or.inl ⟨1, rfl, rfl, rfl⟩) (js_iadd hX dX2_nextToken_216 (js_putfI hX (ci := 2) (k := 7) (RX2, TX2, 43) rfl (by decide) rfl (Or.inl q1353) (fun _ h => h) (Or.inl rfl) dX2_nextToken_217 (js_goto hX (tgt := 161) dX2_nextToken_220 rfl (hK 4))))))))
  | 6 => exact (js_const hX (z := 1) (by unfold inI; omega) dX2_nextToken_321 (Or.inl ⟨1, rfl, rfl, rfl⟩) (js_goto hX (tgt := 326) dX2_nextToken_322 rfl (hK 7)))
  | 7 => exact (js_istore_n hX dX2_nextToken_326 rfl (by decide) (js_aload_n hX dX2_nextToken_327 rfl (js_iload_n hX dX2_nextToken_328 rfl (js_if_eq hX (tgt := 336) dX2_nextToken_329 rfl (js_const hX (z := 3) (by unfold inI; omega) dX2_nextToken_336 (Or.inl ⟨3, rfl, rfl, rfl⟩) (hK 8))
    (js_iload_n hX dX2_nextToken_332 rfl (js_goto hX (tgt := 337) dX2_nextToken_333 rfl (hK 8)))))))
  | 8 => exact (js_putfI hX (ci := 2) (k := 9) (RX2, TX2, 43) rfl (by decide) rfl (Or.inl q1355) (fun _ h => h) (Or.inl rfl) dX2_nextToken_337 (js_iload_n hX dX2_nextToken_340 rfl (js_const hX (z := 60) (by unfold inI; omega) dX2_nextToken_341 (Or.inr (Or.inl ⟨60, rfl, rfl, rfl⟩)) (js_icmp_eq hX (tgt := 352) dX2_nextToken_343 rfl (hK 9)
    (js_iload_n hX dX2_nextToken_346 rfl (js_const hX (z := 62) (by unfold inI; omega) dX2_nextToken_347 (Or.inr (Or.inl ⟨62, rfl, rfl, rfl⟩)) (js_icmp_ne hX (tgt := 390) dX2_nextToken_349 rfl (hK 11)
    (hK 9))))))))
  | 9 => exact (js_aload_n hX dX2_nextToken_352 rfl (js_aload_n hX dX2_nextToken_353 rfl (js_getfI hX (ci := 2) (k := 7) (RX2, TX2, 43) rfl (by decide) rfl (Or.inl q1353) (fun _ h => h) dX2_nextToken_354 (js_callV hX MX2_byteAt (ci := 2) (n := 1) (RX2, TX2, 43) rfl rfl (lw_V q1514 q1516 qs70 q156 q1517) npX2_byteAt dX2_nextToken_357 (js_const hX (z := 61) (by unfold inI; omega) dX2_nextToken_360 (Or.inr (Or.inl ⟨61, rfl, rfl, rfl⟩)) (js_icmp_ne hX (tgt := 390) dX2_nextToken_362 rfl (hK 11)
    (js_aload_n hX dX2_nextToken_365 rfl (js_dup hX dX2_nextToken_366 (js_getfI hX (ci := 2) (k := 7) (RX2, TX2, 43) rfl (by decide) rfl (Or.inl q1353) (fun _ h => h) dX2_nextToken_367 (js_const hX (z := 1) (by unfold inI; omega) dX2_nextToken_370 (Or.inl ⟨1, rfl, rfl, rfl⟩) (js_iadd hX dX2_nextToken_371 (js_putfI hX (ci := 2) (k := 7) (RX2, TX2, 43) rfl (by decide) rfl (Or.inl q1353) (fun _ h => h) (Or.inl rfl) dX2_nextToken_372 (js_aload_n hX dX2_nextToken_375 rfl (js_iload_n hX dX2_nextToken_376 rfl (js_const hX (z := 60) (by unfold inI; omega) dX2_nextToken_377 (Or.inr (Or.inl ⟨60, rfl, rfl, rfl⟩)) (js_icmp_ne hX (tgt := 386) dX2_nextToken_379 rfl (js_const hX (z := 5) (by unfold inI; omega) dX2_nextToken_386 (Or.inl ⟨5, rfl, rfl, rfl⟩) (hK 10))
    (js_const hX (z := 4) (by unfold inI; omega) dX2_nextToken_382 (Or.inl ⟨4, rfl, rfl, rfl⟩) (js_goto hX (tgt := 387) dX2_nextToken_383 rfl (hK 10)))))))))))))))))))
  | 10 => exact (js_putfI hX (ci := 2) (k := 9) (RX2, TX2, 43) rfl (by decide) rfl (Or.inl q1355) (fun _ h => h) (Or.inl rfl) dX2_nextToken_387 (hK 11))
  | 11 => exact (js_return hX hr hlk dX2_nextToken_390)
  | k + 12 => intro ls st h nc ns hf; exact hf.elim
def bX2_byteAt : jjB := fun e K k => match k with
  | 0 => (ji_iload 1 (ji_aload 0 (ji_getfI 2 4 (ji_icmp_ge (ji_const (-1) (K 1))
    (ji_aload 0 (ji_getfR 2 3 (ji_iload 1 (ji_iald (ji_goto (K 1))))))))))
  | 1 => (ji_ireturn e)
  | _ => fun _ _ _ _ _ => False
def pX2_byteAt : Nat → Nat := fun k => match k with
  | 0 => 0
  | 1 => 18
  | _ => 0
theorem sX2_byteAt : jSound bX2_byteAt pX2_byteAt MX2_byteAt := by
  intro e p ev R s m args below meth c hX hr hn hlk K hK k
  match k with
  | 0 => exact (js_iload_n hX dX2_byteAt_0 rfl (js_aload_n hX dX2_byteAt_1 rfl (js_getfI hX (ci := 2) (k := 4) (RX2, TX2, 43) rfl (by decide) rfl (Or.inl q1350) (fun _ h => h) dX2_byteAt_2 (js_icmp_ge hX (tgt := 17) dX2_byteAt_5 rfl (js_const hX (z := (-1)) (by unfold inI; omega) dX2_byteAt_17 (Or.inl ⟨(-1), rfl, rfl, rfl⟩) (hK 1))
    (js_aload_n hX dX2_byteAt_8 rfl (js_getfR hX (ci := 2) (k := 3) (RX2, TX2, 43) rfl (by decide) rfl (Or.inl q1349) (fun _ h => h) dX2_byteAt_9 (js_iload_n hX dX2_byteAt_12 rfl (js_iald hX dX2_byteAt_13 (js_goto hX (tgt := 18) dX2_byteAt_14 rfl (hK 1))))))))))
  | 1 => exact (js_ireturn hX hr hlk dX2_byteAt_18)
  | k + 2 => intro ls st h nc ns hf; exact hf.elim
def bX2_isDigit : jjB := fun e K k => match k with
  | 0 => (ji_iload 0 (ji_const 48 (ji_const 57 (ji_callS e MX2_isIn 3 (ji_zreturn e)))))
  | _ => fun _ _ _ _ _ => False
def pX2_isDigit : Nat → Nat := fun k => match k with
  | 0 => 0
  | _ => 0
theorem sX2_isDigit : jSound bX2_isDigit pX2_isDigit MX2_isDigit := by
  intro e p ev R s m args below meth c hX hr hn hlk K hK k
  match k with
  | 0 => exact (js_iload_n hX dX2_isDigit_0 rfl (js_const hX (z := 48) (by unfold inI; omega) dX2_isDigit_1 (Or.inr (Or.inl ⟨48, rfl, rfl, rfl⟩)) (js_const hX (z := 57) (by unfold inI; omega) dX2_isDigit_3 (Or.inr (Or.inl ⟨57, rfl, rfl, rfl⟩)) (js_callS hX MX2_isIn (n := 3) (lw_S q1479 q1480 q156 q1481) npX2_isIn dX2_isDigit_5 (js_zreturn hX hr hlk dX2_isDigit_8)))))
  | k + 1 => intro ls st h nc ns hf; exact hf.elim
def bX2_isLetter : jjB := fun e K k => match k with
  | 0 => (ji_iload 0 (ji_const 97 (ji_const 122 (ji_callS e MX2_isIn 3 (ji_if_ne (K 1)
    (ji_iload 0 (ji_const 65 (ji_const 90 (ji_callS e MX2_isIn 3 (ji_if_eq (ji_const 0 (K 2))
    (K 1)))))))))))
  | 1 => (ji_const 1 (ji_goto (K 2)))
  | 2 => (ji_zreturn e)
  | _ => fun _ _ _ _ _ => False
def pX2_isLetter : Nat → Nat := fun k => match k with
  | 0 => 0
  | 1 => 22
  | 2 => 27
  | _ => 0
theorem sX2_isLetter : jSound bX2_isLetter pX2_isLetter MX2_isLetter := by
  intro e p ev R s m args below meth c hX hr hn hlk K hK k
  match k with
  | 0 => exact (js_iload_n hX dX2_isLetter_0 rfl (js_const hX (z := 97) (by unfold inI; omega) dX2_isLetter_1 (Or.inr (Or.inl ⟨97, rfl, rfl, rfl⟩)) (js_const hX (z := 122) (by unfold inI; omega) dX2_isLetter_3 (Or.inr (Or.inl ⟨122, rfl, rfl, rfl⟩)) (js_callS hX MX2_isIn (n := 3) (lw_S q1479 q1480 q156 q1481) npX2_isIn dX2_isLetter_5 (js_if_ne hX (tgt := 22) dX2_isLetter_8 rfl (hK 1)
    (js_iload_n hX dX2_isLetter_11 rfl (js_const hX (z := 65) (by unfold inI; omega) dX2_isLetter_12 (Or.inr (Or.inl ⟨65, rfl, rfl, rfl⟩)) (js_const hX (z := 90) (by unfold inI; omega) dX2_isLetter_14 (Or.inr (Or.inl ⟨90, rfl, rfl, rfl⟩)) (js_callS hX MX2_isIn (n := 3) (lw_S q1479 q1480 q156 q1481) npX2_isIn dX2_isLetter_16 (js_if_eq hX (tgt := 26) dX2_isLetter_19 rfl (js_const hX (z := 0) (by unfold inI; omega) dX2_isLetter_26 (Or.inl ⟨0, rfl, rfl, rfl⟩) (hK 2))
    (hK 1)))))))))))
  | 1 => exact (js_const hX (z := 1) (by unfold inI; omega) dX2_isLetter_22 (Or.inl ⟨1, rfl, rfl, rfl⟩) (js_goto hX (tgt := 27) dX2_isLetter_23 rfl (hK 2)))
  | 2 => exact (js_zreturn hX hr hlk dX2_isLetter_27)
  | k + 3 => intro ls st h nc ns hf; exact hf.elim
def bX2_clause : jjB := fun e K k => match k with
  | 0 => (ji_aload 0 (ji_callV e MX2_sortOf 2 1 (ji_istore 1 (ji_iload 1 (ji_if_ge (ji_iload 1 (ji_const 1 (ji_const 3 (ji_callS e MX2_isIn 3 (ji_istore 2 (ji_iload 2 (ji_if_eq (K 1)
    (ji_aload 0 (ji_getfI 2 21 (ji_iload 1 (ji_ishr (ji_const 1 (ji_iand (ji_const 1 (ji_icmp_ne (K 1)
    (ji_const 4 (ji_ireturn e)))))))))))))))))
    (ji_const 1 (ji_ireturn e)))))))
  | 1 => (ji_aload 0 (ji_getfR 2 2 (ji_aload 0 (ji_getfI 2 12 (ji_iald (ji_istore 3 (ji_iload 3 (ji_const 24 (ji_icmp_ne (ji_iload 2 (ji_if_eq (K 2)
    (ji_aload 0 (ji_dup (ji_getfI 2 21 (ji_const 1 (ji_iload 1 (ji_ishl (ji_ior (ji_putfI 2 21 (K 2)))))))))))
    (ji_const 6 (ji_ireturn e)))))))))))
  | 2 => (ji_aload 0 (ji_iload 1 (ji_putfI 2 20 (ji_aload 0 (ji_callV e MX2_nextToken 2 1 (ji_aload 0 (ji_getfI 2 12 (ji_const 1 (ji_iadd (ji_const 4 (ji_iload 3 (ji_imul (ji_iadd (ji_istore 4 (ji_aload 0 (ji_iload 1 (ji_iload 4 (ji_callV e MX2_body 2 3 (ji_istore 5 (ji_iload 5 (ji_if_eq (ji_aload 0 (ji_getfR 2 2 (ji_iload 4 (ji_iload 1 (ji_iast (ji_aload 0 (ji_getfR 2 2 (ji_aload 0 (ji_getfI 2 12 (ji_dup2 (ji_iald (ji_const 1 (ji_iadd (ji_iast (ji_aload 0 (ji_getfI 2 9 (ji_const 59 (ji_icmp_eq (ji_aload 0 (ji_callV e MX2_nextToken 2 1 (ji_const 0 (ji_ireturn e))))
    (ji_const 1 (ji_ireturn e))))))))))))))))))))
    (ji_iload 5 (ji_ireturn e)))))))))))))))))))))))
  | _ => fun _ _ _ _ _ => False
def pX2_clause : Nat → Nat := fun k => match k with
  | 0 => 0
  | 1 => 36
  | 2 => 71
  | _ => 0
theorem sX2_clause : jSound bX2_clause pX2_clause MX2_clause := by
  intro e p ev R s m args below meth c hX hr hn hlk K hK k
  match k with
  | 0 => exact (js_aload_n hX dX2_clause_0 rfl (js_callV hX MX2_sortOf (ci := 2) (n := 0) (RX2, TX2, 43) rfl rfl (lw_V q1529 q1531 qs72 q156 q1532) npX2_sortOf dX2_clause_1 (js_istore_n hX dX2_clause_4 rfl (by decide) (js_iload_n hX dX2_clause_5 rfl (js_if_ge hX (tgt := 11) dX2_clause_6 rfl (js_iload_n hX dX2_clause_11 rfl (js_const hX (z := 1) (by unfold inI; omega) dX2_clause_12 (Or.inl ⟨1, rfl, rfl, rfl⟩) (js_const hX (z := 3) (by unfold inI; omega) dX2_clause_13 (Or.inl ⟨3, rfl, rfl, rfl⟩) (js_callS hX MX2_isIn (n := 3) (lw_S q1479 q1480 q156 q1481) npX2_isIn dX2_clause_14 (js_istore_n hX dX2_clause_17 rfl (by decide) (js_iload_n hX dX2_clause_18 rfl (js_if_eq hX (tgt := 36) dX2_clause_19 rfl (hK 1)
    (js_aload_n hX dX2_clause_22 rfl (js_getfI hX (ci := 2) (k := 21) (RX2, TX2, 43) rfl (by decide) rfl (Or.inl q1365) (fun _ h => h) dX2_clause_23 (js_iload_n hX dX2_clause_26 rfl (js_ishr hX dX2_clause_27 (js_const hX (z := 1) (by unfold inI; omega) dX2_clause_28 (Or.inl ⟨1, rfl, rfl, rfl⟩) (js_iand hX dX2_clause_29 (js_const hX (z := 1) (by unfold inI; omega) dX2_clause_30 (Or.inl ⟨1, rfl, rfl, rfl⟩) (js_icmp_ne hX (tgt := 36) dX2_clause_31 rfl (hK 1)
    (js_const hX (z := 4) (by unfold inI; omega) dX2_clause_34 (Or.inl ⟨4, rfl, rfl, rfl⟩) (js_ireturn hX hr hlk dX2_clause_35)))))))))))))))))
    (js_const hX (z := 1) (by unfold inI; omega) dX2_clause_9 (Or.inl ⟨1, rfl, rfl, rfl⟩) (js_ireturn hX hr hlk dX2_clause_10)))))))
  | 1 => exact (js_aload_n hX dX2_clause_36 rfl (js_getfR hX (ci := 2) (k := 2) (RX2, TX2, 43) rfl (by decide) rfl (Or.inl q1348) (fun _ h => h) dX2_clause_37 (js_aload_n hX dX2_clause_40 rfl (js_getfI hX (ci := 2) (k := 12) (RX2, TX2, 43) rfl (by decide) rfl (Or.inl q1358) (fun _ h => h) dX2_clause_41 (js_iald hX dX2_clause_44 (js_istore_n hX dX2_clause_45 rfl (by decide) (js_iload_n hX dX2_clause_46 rfl (js_const hX (z := 24) (by unfold inI; omega) dX2_clause_47 (Or.inr (Or.inl ⟨24, rfl, rfl, rfl⟩)) (js_icmp_ne hX (tgt := 55) dX2_clause_49 rfl (js_iload_n hX dX2_clause_55 rfl (js_if_eq hX (tgt := 71) dX2_clause_56 rfl (hK 2)
    (js_aload_n hX dX2_clause_59 rfl (js_dup hX dX2_clause_60 (js_getfI hX (ci := 2) (k := 21) (RX2, TX2, 43) rfl (by decide) rfl (Or.inl q1365) (fun _ h => h) dX2_clause_61 (js_const hX (z := 1) (by unfold inI; omega) dX2_clause_64 (Or.inl ⟨1, rfl, rfl, rfl⟩) (js_iload_n hX dX2_clause_65 rfl (js_ishl hX dX2_clause_66 (js_ior hX dX2_clause_67 (js_putfI hX (ci := 2) (k := 21) (RX2, TX2, 43) rfl (by decide) rfl (Or.inl q1365) (fun _ h => h) (Or.inl rfl) dX2_clause_68 (hK 2)))))))))))
    (js_const hX (z := 6) (by unfold inI; omega) dX2_clause_52 (Or.inr (Or.inl ⟨6, rfl, rfl, rfl⟩)) (js_ireturn hX hr hlk dX2_clause_54)))))))))))
  | 2 => exact (js_aload_n hX dX2_clause_71 rfl (js_iload_n hX dX2_clause_72 rfl (js_putfI hX (ci := 2) (k := 20) (RX2, TX2, 43) rfl (by decide) rfl (Or.inl q1364) (fun _ h => h) (Or.inl rfl) dX2_clause_73 (js_aload_n hX dX2_clause_76 rfl (js_callV hX MX2_nextToken (ci := 2) (n := 0) (RX2, TX2, 43) rfl rfl (lw_V q1510 q1512 qs69 q156 q1513) npX2_nextToken dX2_clause_77 (js_aload_n hX dX2_clause_80 rfl (js_getfI hX (ci := 2) (k := 12) (RX2, TX2, 43) rfl (by decide) rfl (Or.inl q1358) (fun _ h => h) dX2_clause_81 (js_const hX (z := 1) (by unfold inI; omega) dX2_clause_84 (Or.inl ⟨1, rfl, rfl, rfl⟩) (js_iadd hX dX2_clause_85 (js_const hX (z := 4) (by unfold inI; omega) dX2_clause_86 (Or.inl ⟨4, rfl, rfl, rfl⟩) (js_iload_n hX dX2_clause_87 rfl (js_imul hX dX2_clause_88 (js_iadd hX dX2_clause_89 (js_istore hX dX2_clause_90 (by decide) (js_aload_n hX dX2_clause_92 rfl (js_iload_n hX dX2_clause_93 rfl (js_iload hX dX2_clause_94 (js_callV hX MX2_body (ci := 2) (n := 2) (RX2, TX2, 43) rfl rfl (lw_V q1546 q1548 qs74 q156 q1549) npX2_body dX2_clause_96 (js_istore hX dX2_clause_99 (by decide) (js_iload hX dX2_clause_101 (js_if_eq hX (tgt := 109) dX2_clause_103 rfl (js_aload_n hX dX2_clause_109 rfl (js_getfR hX (ci := 2) (k := 2) (RX2, TX2, 43) rfl (by decide) rfl (Or.inl q1348) (fun _ h => h) dX2_clause_110 (js_iload hX dX2_clause_113 (js_iload_n hX dX2_clause_115 rfl (js_iast hX dX2_clause_116 (js_aload_n hX dX2_clause_117 rfl (js_getfR hX (ci := 2) (k := 2) (RX2, TX2, 43) rfl (by decide) rfl (Or.inl q1348) (fun _ h => h) dX2_clause_118 (js_aload_n hX dX2_clause_121 rfl (js_getfI hX (ci := 2) (k := 12) (RX2, TX2, 43) rfl (by decide) rfl (Or.inl q1358) (fun _ h => h) dX2_clause_122 (js_dup2 hX dX2_clause_125 (js_iald hX dX2_clause_126 (js_const hX (z := 1) (by unfold inI; omega) dX2_clause_127 (Or.inl ⟨1, rfl, rfl, rfl⟩) (js_iadd hX dX2_clause_128 (js_iast hX dX2_clause_129 (js_aload_n hX dX2_clause_130 rfl (js_getfI hX (ci := 2) (k := 9) (RX2, TX2, 43) rfl (by decide) rfl (Or.inl q1355) (fun _ h => h) dX2_clause_131 (js_const hX (z := 59) (by unfold inI; omega) dX2_clause_134 (Or.inr (Or.inl ⟨59, rfl, rfl, rfl⟩)) (js_icmp_eq hX (tgt := 141) dX2_clause_136 rfl (js_aload_n hX dX2_clause_141 rfl (js_callV hX MX2_nextToken (ci := 2) (n := 0) (RX2, TX2, 43) rfl rfl (lw_V q1510 q1512 qs69 q156 q1513) npX2_nextToken dX2_clause_142 (js_const hX (z := 0) (by unfold inI; omega) dX2_clause_145 (Or.inl ⟨0, rfl, rfl, rfl⟩) (js_ireturn hX hr hlk dX2_clause_146))))
    (js_const hX (z := 1) (by unfold inI; omega) dX2_clause_139 (Or.inl ⟨1, rfl, rfl, rfl⟩) (js_ireturn hX hr hlk dX2_clause_140))))))))))))))))))))
    (js_iload hX dX2_clause_106 (js_ireturn hX hr hlk dX2_clause_108)))))))))))))))))))))))
  | k + 3 => intro ls st h nc ns hf; exact hf.elim
def bX2_sortOf : jjB := fun e K k => match k with
  | 0 => (ji_aload 0 (ji_const 108 (ji_const 97 (ji_const 119 (ji_callS e MX2_w3 3 (ji_callV e MX2_isWord 2 2 (ji_if_eq (ji_aload 0 (ji_const 102 (ji_const 97 (ji_const 108 (ji_const 108 (ji_const 115 (ji_callS e MX2_w5 5 (ji_callV e MX2_isWord 2 2 (ji_if_eq (ji_aload 0 (ji_const 115 (ji_const 119 (ji_const 101 (ji_const 108 (ji_const 108 (ji_callS e MX2_w5 5 (ji_callV e MX2_isWord 2 2 (ji_if_eq (ji_aload 0 (ji_const 110 (ji_const 101 (ji_const 101 (ji_const 100 (ji_callS e MX2_w4 4 (ji_callV e MX2_isWord 2 2 (ji_if_eq (ji_aload 0 (ji_const 110 (ji_const 105 (ji_const 103 (ji_const 104 (ji_const 116 (ji_callS e MX2_w5 5 (ji_callV e MX2_isWord 2 2 (ji_if_eq (ji_aload 0 (ji_const 110 (ji_const 117 (ji_const 100 (ji_const 103 (ji_const 101 (ji_callS e MX2_w5 5 (ji_callV e MX2_isWord 2 2 (ji_if_eq (ji_aload 0 (ji_const 116 (ji_const 97 (ji_const 107 (ji_const 101 (ji_callS e MX2_w4 4 (ji_callV e MX2_isWord 2 2 (ji_if_eq (ji_aload 0 (ji_const 112 (ji_const 117 (ji_const 116 (ji_callS e MX2_w3 3 (ji_callV e MX2_isWord 2 2 (ji_if_eq (ji_aload 0 (ji_const 119 (ji_const 101 (ji_const 116 (ji_callS e MX2_w3 3 (ji_callV e MX2_isWord 2 2 (ji_if_eq (ji_aload 0 (ji_const 100 (ji_const 114 (ji_const 121 (ji_callS e MX2_w3 3 (ji_callV e MX2_isWord 2 2 (ji_if_eq (ji_const (-1) (K 1))
    (ji_const 9 (ji_goto (K 1))))))))))
    (ji_const 8 (ji_goto (K 1))))))))))
    (ji_const 7 (ji_ireturn e)))))))))
    (ji_const 6 (ji_ireturn e))))))))))
    (ji_const 5 (ji_ireturn e)))))))))))
    (ji_const 4 (ji_ireturn e)))))))))))
    (ji_const 3 (ji_ireturn e))))))))))
    (ji_const 2 (ji_ireturn e)))))))))))
    (ji_const 1 (ji_ireturn e)))))))))))
    (ji_const 0 (ji_ireturn e)))))))))
  | 1 => (ji_ireturn e)
  | _ => fun _ _ _ _ _ => False
def pX2_sortOf : Nat → Nat := fun k => match k with
  | 0 => 0
  | 1 => 209
  | _ => 0
theorem sX2_sortOf : jSound bX2_sortOf pX2_sortOf MX2_sortOf := by
  intro e p ev R s m args below meth c hX hr hn hlk K hK k
  match k with
  | 0 => exact (js_aload_n hX dX2_sortOf_0 rfl (js_const hX (z := 108) (by unfold inI; omega) dX2_sortOf_1 (Or.inr (Or.inl ⟨108, rfl, rfl, rfl⟩)) (js_const hX (z := 97) (by unfold inI; omega) dX2_sortOf_3 (Or.inr (Or.inl ⟨97, rfl, rfl, rfl⟩)) (js_const hX (z := 119) (by unfold inI; omega) dX2_sortOf_5 (Or.inr (Or.inl ⟨119, rfl, rfl, rfl⟩)) (js_callS hX MX2_w3 (n := 3) (lw_S q1533 q1534 q156 q1535) npX2_w3 dX2_sortOf_7 (js_callV hX MX2_isWord (ci := 2) (n := 1) (RX2, TX2, 43) rfl rfl (lw_V q1536 q1538 qs73 q156 q1539) npX2_isWord dX2_sortOf_10 (js_if_eq hX (tgt := 18) dX2_sortOf_13 rfl (js_aload_n hX dX2_sortOf_18 rfl (js_const hX (z := 102) (by unfold inI; omega) dX2_sortOf_19 (Or.inr (Or.inl ⟨102, rfl, rfl, rfl⟩)) (js_const hX (z := 97) (by unfold inI; omega) dX2_sortOf_21 (Or.inr (Or.inl ⟨97, rfl, rfl, rfl⟩)) (js_const hX (z := 108) (by unfold inI; omega) dX2_sortOf_23 (Or.inr (Or.inl ⟨108, rfl, rfl, rfl⟩)) (js_const hX (z := 108) (by unfold inI; omega) dX2_sortOf_25 (Or.inr (Or.inl ⟨108, rfl, rfl, rfl⟩)) (js_const hX (z := 115) (by unfold inI; omega) dX2_sortOf_27 (Or.inr (Or.inl ⟨115, rfl, rfl, rfl⟩)) (js_callS hX MX2_w5 (n := 5) (lw_S q1540 q1541 q156 q1542) npX2_w5 dX2_sortOf_29 (js_callV hX MX2_isWord (ci := 2) (n := 1) (RX2, TX2, 43) rfl rfl (lw_V q1536 q1538 qs73 q156 q1539) npX2_isWord dX2_sortOf_32 (js_if_eq hX (tgt := 40) dX2_sortOf_35 rfl (js_aload_n hX dX2_sortOf_40 rfl (js_const hX (z := 115) (by unfold inI; omega) dX2_sortOf_41 (Or.inr (Or.inl ⟨115, rfl, rfl, rfl⟩)) (js_const hX (z := 119) (by unfold inI; omega) dX2_sortOf_43 (Or.inr (Or.inl ⟨119, rfl, rfl, rfl⟩)) (js_const hX (z := 101) (by unfold inI; omega) dX2_sortOf_45 (Or.inr (Or.inl ⟨101, rfl, rfl, rfl⟩)) (js_const hX (z := 108) (by unfold inI; omega) dX2_sortOf_47 (Or.inr (Or.inl ⟨108, rfl, rfl, rfl⟩)) (js_const hX (z := 108) (by unfold inI; omega) dX2_sortOf_49 (Or.inr (Or.inl ⟨108, rfl, rfl, rfl⟩)) (js_callS hX MX2_w5 (n := 5) (lw_S q1540 q1541 q156 q1542) npX2_w5 dX2_sortOf_51 (js_callV hX MX2_isWord (ci := 2) (n := 1) (RX2, TX2, 43) rfl rfl (lw_V q1536 q1538 qs73 q156 q1539) npX2_isWord dX2_sortOf_54 (js_if_eq hX (tgt := 62) dX2_sortOf_57 rfl (js_aload_n hX dX2_sortOf_62 rfl (js_const hX (z := 110) (by unfold inI; omega) dX2_sortOf_63 (Or.inr (Or.inl ⟨110, rfl, rfl, rfl⟩)) (js_const hX (z := 101) (by unfold inI; omega) dX2_sortOf_65 (Or.inr (Or.inl ⟨101, rfl, rfl, rfl⟩)) (js_const hX (z := 101) (by unfold inI; omega) dX2_sortOf_67 (Or.inr (Or.inl ⟨101, rfl, rfl, rfl⟩)) (js_const hX (z := 100) (by unfold inI; omega) dX2_sortOf_69 (Or.inr (Or.inl ⟨100, rfl, rfl, rfl⟩)) (js_callS hX MX2_w4 (n := 4) (lw_S q1543 q1544 q156 q1545) npX2_w4 dX2_sortOf_71 (js_callV hX MX2_isWord (ci := 2) (n := 1) (RX2, TX2, 43) rfl rfl (lw_V q1536 q1538 qs73 q156 q1539) npX2_isWord dX2_sortOf_74 (js_if_eq hX (tgt := 82) dX2_sortOf_77 rfl (js_aload_n hX dX2_sortOf_82 rfl (js_const hX (z := 110) (by unfold inI; omega) dX2_sortOf_83 (Or.inr (Or.inl ⟨110, rfl, rfl, rfl⟩)) (js_const hX (z := 105) (by unfold inI; omega) dX2_sortOf_85 (Or.inr (Or.inl ⟨105, rfl, rfl, rfl⟩)) (js_const hX (z := 103) (by unfold inI; omega) dX2_sortOf_87 (Or.inr (Or.inl ⟨103, rfl, rfl, rfl⟩)) (js_const hX (z := 104) (by unfold inI; omega) dX2_sortOf_89 (Or.inr (Or.inl ⟨104, rfl, rfl, rfl⟩)) (js_const hX (z := 116) (by unfold inI; omega) dX2_sortOf_91 (Or.inr (Or.inl ⟨116, rfl, rfl, rfl⟩)) (js_callS hX MX2_w5 (n := 5) (lw_S q1540 q1541 q156 q1542) npX2_w5 dX2_sortOf_93 (js_callV hX MX2_isWord (ci := 2) (n := 1) (RX2, TX2, 43) rfl rfl (lw_V q1536 q1538 qs73 q156 q1539) npX2_isWord dX2_sortOf_96 (js_if_eq hX (tgt := 104) dX2_sortOf_99 rfl (js_aload_n hX dX2_sortOf_104 rfl (js_const hX (z := 110) (by unfold inI; omega) dX2_sortOf_105 (Or.inr (Or.inl ⟨110, rfl, rfl, rfl⟩)) (js_const hX (z := 117) (by unfold inI; omega) dX2_sortOf_107 (Or.inr (Or.inl ⟨117, rfl, rfl, rfl⟩)) (js_const hX (z := 100) (by unfold inI; omega) dX2_sortOf_109 (Or.inr (Or.inl ⟨100, rfl, rfl, rfl⟩)) (js_const hX (z := 103) (by unfold inI; omega) dX2_sortOf_111 (Or.inr (Or.inl ⟨103, rfl, rfl, rfl⟩)) (js_const hX (z := 101) (by unfold inI; omega) dX2_sortOf_113 (Or.inr (Or.inl ⟨101, rfl, rfl, rfl⟩)) (js_callS hX MX2_w5 (n := 5) (lw_S q1540 q1541 q156 q1542) npX2_w5 dX2_sortOf_115 (js_callV hX MX2_isWord (ci := 2) (n := 1) (RX2, TX2, 43) rfl rfl (lw_V q1536 q1538 qs73 q156 q1539) npX2_isWord dX2_sortOf_118 (js_if_eq hX (tgt := 126) dX2_sortOf_121 rfl (js_aload_n hX dX2_sortOf_126 rfl (js_const hX (z := 116) (by unfold inI; omega) dX2_sortOf_127 (Or.inr (Or.inl ⟨116, rfl, rfl, rfl⟩)) (js_const hX (z := 97) (by unfold inI; omega) dX2_sortOf_129 (Or.inr (Or.inl ⟨97, rfl, rfl, rfl⟩)) (js_const hX (z := 107) (by unfold inI; omega) dX2_sortOf_131 (Or.inr (Or.inl ⟨107, rfl, rfl, rfl⟩)) (js_const hX (z := 101) (by unfold inI; omega) dX2_sortOf_133 (Or.inr (Or.inl ⟨101, rfl, rfl, rfl⟩)) (js_callS hX MX2_w4 (n := 4) (lw_S q1543 q1544 q156 q1545) npX2_w4 dX2_sortOf_135 (js_callV hX MX2_isWord (ci := 2) (n := 1) (RX2, TX2, 43) rfl rfl (lw_V q1536 q1538 qs73 q156 q1539) npX2_isWord dX2_sortOf_138 (js_if_eq hX (tgt := 147) dX2_sortOf_141 rfl (js_aload_n hX dX2_sortOf_147 rfl (js_const hX (z := 112) (by unfold inI; omega) dX2_sortOf_148 (Or.inr (Or.inl ⟨112, rfl, rfl, rfl⟩)) (js_const hX (z := 117) (by unfold inI; omega) dX2_sortOf_150 (Or.inr (Or.inl ⟨117, rfl, rfl, rfl⟩)) (js_const hX (z := 116) (by unfold inI; omega) dX2_sortOf_152 (Or.inr (Or.inl ⟨116, rfl, rfl, rfl⟩)) (js_callS hX MX2_w3 (n := 3) (lw_S q1533 q1534 q156 q1535) npX2_w3 dX2_sortOf_154 (js_callV hX MX2_isWord (ci := 2) (n := 1) (RX2, TX2, 43) rfl rfl (lw_V q1536 q1538 qs73 q156 q1539) npX2_isWord dX2_sortOf_157 (js_if_eq hX (tgt := 166) dX2_sortOf_160 rfl (js_aload_n hX dX2_sortOf_166 rfl (js_const hX (z := 119) (by unfold inI; omega) dX2_sortOf_167 (Or.inr (Or.inl ⟨119, rfl, rfl, rfl⟩)) (js_const hX (z := 101) (by unfold inI; omega) dX2_sortOf_169 (Or.inr (Or.inl ⟨101, rfl, rfl, rfl⟩)) (js_const hX (z := 116) (by unfold inI; omega) dX2_sortOf_171 (Or.inr (Or.inl ⟨116, rfl, rfl, rfl⟩)) (js_callS hX MX2_w3 (n := 3) (lw_S q1533 q1534 q156 q1535) npX2_w3 dX2_sortOf_173 (js_callV hX MX2_isWord (ci := 2) (n := 1) (RX2, TX2, 43) rfl rfl (lw_V q1536 q1538 qs73 q156 q1539) npX2_isWord dX2_sortOf_176 (js_if_eq hX (tgt := 187) dX2_sortOf_179 rfl (js_aload_n hX dX2_sortOf_187 rfl (js_const hX (z := 100) (by unfold inI; omega) dX2_sortOf_188 (Or.inr (Or.inl ⟨100, rfl, rfl, rfl⟩)) (js_const hX (z := 114) (by unfold inI; omega) dX2_sortOf_190 (Or.inr (Or.inl ⟨114, rfl, rfl, rfl⟩)) (js_const hX (z := 121) (by unfold inI; omega) dX2_sortOf_192 (Or.inr (Or.inl ⟨121, rfl, rfl, rfl⟩)) (js_callS hX MX2_w3 (n := 3) (lw_S q1533 q1534 q156 q1535) npX2_w3 dX2_sortOf_194 (js_callV hX MX2_isWord (ci := 2) (n := 1) (RX2, TX2, 43) rfl rfl (lw_V q1536 q1538 qs73 q156 q1539) npX2_isWord dX2_sortOf_197 (js_if_eq hX (tgt := 208) dX2_sortOf_200 rfl (js_const hX (z := (-1)) (by unfold inI; omega) dX2_sortOf_208 (Or.inl ⟨(-1), rfl, rfl, rfl⟩) (hK 1))
    (js_const hX (z := 9) (by unfold inI; omega) dX2_sortOf_203 (Or.inr (Or.inl ⟨9, rfl, rfl, rfl⟩)) (js_goto hX (tgt := 209) dX2_sortOf_205 rfl (hK 1))))))))))
    (js_const hX (z := 8) (by unfold inI; omega) dX2_sortOf_182 (Or.inr (Or.inl ⟨8, rfl, rfl, rfl⟩)) (js_goto hX (tgt := 209) dX2_sortOf_184 rfl (hK 1))))))))))
    (js_const hX (z := 7) (by unfold inI; omega) dX2_sortOf_163 (Or.inr (Or.inl ⟨7, rfl, rfl, rfl⟩)) (js_ireturn hX hr hlk dX2_sortOf_165)))))))))
    (js_const hX (z := 6) (by unfold inI; omega) dX2_sortOf_144 (Or.inr (Or.inl ⟨6, rfl, rfl, rfl⟩)) (js_ireturn hX hr hlk dX2_sortOf_146))))))))))
    (js_const hX (z := 5) (by unfold inI; omega) dX2_sortOf_124 (Or.inl ⟨5, rfl, rfl, rfl⟩) (js_ireturn hX hr hlk dX2_sortOf_125)))))))))))
    (js_const hX (z := 4) (by unfold inI; omega) dX2_sortOf_102 (Or.inl ⟨4, rfl, rfl, rfl⟩) (js_ireturn hX hr hlk dX2_sortOf_103)))))))))))
    (js_const hX (z := 3) (by unfold inI; omega) dX2_sortOf_80 (Or.inl ⟨3, rfl, rfl, rfl⟩) (js_ireturn hX hr hlk dX2_sortOf_81))))))))))
    (js_const hX (z := 2) (by unfold inI; omega) dX2_sortOf_60 (Or.inl ⟨2, rfl, rfl, rfl⟩) (js_ireturn hX hr hlk dX2_sortOf_61)))))))))))
    (js_const hX (z := 1) (by unfold inI; omega) dX2_sortOf_38 (Or.inl ⟨1, rfl, rfl, rfl⟩) (js_ireturn hX hr hlk dX2_sortOf_39)))))))))))
    (js_const hX (z := 0) (by unfold inI; omega) dX2_sortOf_16 (Or.inl ⟨0, rfl, rfl, rfl⟩) (js_ireturn hX hr hlk dX2_sortOf_17)))))))))
  | 1 => exact (js_ireturn hX hr hlk dX2_sortOf_209)
  | k + 2 => intro ls st h nc ns hf; exact hf.elim
def bX2_w3 : jjB := fun e K k => match k with
  | 0 => (ji_iload 0 (ji_i2l (ji_const 8 (ji_lshl (ji_iload 1 (ji_i2l (ji_lor (ji_const 8 (ji_lshl (ji_iload 2 (ji_i2l (ji_lor (ji_lreturn e)))))))))))))
  | _ => fun _ _ _ _ _ => False
def pX2_w3 : Nat → Nat := fun k => match k with
  | 0 => 0
  | _ => 0
theorem sX2_w3 : jSound bX2_w3 pX2_w3 MX2_w3 := by
  intro e p ev R s m args below meth c hX hr hn hlk K hK k
  match k with
  | 0 => exact (js_iload_n hX dX2_w3_0 rfl (js_i2l hX dX2_w3_1 (js_const hX (z := 8) (by unfold inI; omega) dX2_w3_2 (Or.inr (Or.inl ⟨8, rfl, rfl, rfl⟩)) (js_lshl hX dX2_w3_4 (js_iload_n hX dX2_w3_5 rfl (js_i2l hX dX2_w3_6 (js_lor hX dX2_w3_7 (js_const hX (z := 8) (by unfold inI; omega) dX2_w3_8 (Or.inr (Or.inl ⟨8, rfl, rfl, rfl⟩)) (js_lshl hX dX2_w3_10 (js_iload_n hX dX2_w3_11 rfl (js_i2l hX dX2_w3_12 (js_lor hX dX2_w3_13 (js_lreturn hX hr hlk dX2_w3_14)))))))))))))
  | k + 1 => intro ls st h nc ns hf; exact hf.elim
def bX2_isWord : jjB := fun e K k => match k with
  | 0 => (ji_aload 0 (ji_getfI 2 9 (ji_const 2 (ji_icmp_ne (K 1)
    (ji_aload 0 (ji_getfL 2 11 (ji_lload 1 (ji_lcmp (ji_if_ne (K 1)
    (ji_const 1 (ji_goto (K 2))))))))))))
  | 1 => (ji_const 0 (K 2))
  | 2 => (ji_zreturn e)
  | _ => fun _ _ _ _ _ => False
def pX2_isWord : Nat → Nat := fun k => match k with
  | 0 => 0
  | 1 => 21
  | 2 => 22
  | _ => 0
theorem sX2_isWord : jSound bX2_isWord pX2_isWord MX2_isWord := by
  intro e p ev R s m args below meth c hX hr hn hlk K hK k
  match k with
  | 0 => exact (js_aload_n hX dX2_isWord_0 rfl (js_getfI hX (ci := 2) (k := 9) (RX2, TX2, 43) rfl (by decide) rfl (Or.inl q1355) (fun _ h => h) dX2_isWord_1 (js_const hX (z := 2) (by unfold inI; omega) dX2_isWord_4 (Or.inl ⟨2, rfl, rfl, rfl⟩) (js_icmp_ne hX (tgt := 21) dX2_isWord_5 rfl (hK 1)
    (js_aload_n hX dX2_isWord_8 rfl (js_getfL hX (ci := 2) (k := 11) (RX2, TX2, 43) rfl (by decide) rfl (Or.inl q1357) (fun _ h => h) dX2_isWord_9 (js_lload_n hX dX2_isWord_12 rfl (js_lcmp hX dX2_isWord_13 (js_if_ne hX (tgt := 21) dX2_isWord_14 rfl (hK 1)
    (js_const hX (z := 1) (by unfold inI; omega) dX2_isWord_17 (Or.inl ⟨1, rfl, rfl, rfl⟩) (js_goto hX (tgt := 22) dX2_isWord_18 rfl (hK 2))))))))))))
  | 1 => exact (js_const hX (z := 0) (by unfold inI; omega) dX2_isWord_21 (Or.inl ⟨0, rfl, rfl, rfl⟩) (hK 2))
  | 2 => exact (js_zreturn hX hr hlk dX2_isWord_22)
  | k + 3 => intro ls st h nc ns hf; exact hf.elim
def bX2_w5 : jjB := fun e K k => match k with
  | 0 => (ji_iload 0 (ji_iload 1 (ji_iload 2 (ji_callS e MX2_w3 3 (ji_const 8 (ji_lshl (ji_iload 3 (ji_i2l (ji_lor (ji_const 8 (ji_lshl (ji_iload 4 (ji_i2l (ji_lor (ji_lreturn e)))))))))))))))
  | _ => fun _ _ _ _ _ => False
def pX2_w5 : Nat → Nat := fun k => match k with
  | 0 => 0
  | _ => 0
theorem sX2_w5 : jSound bX2_w5 pX2_w5 MX2_w5 := by
  intro e p ev R s m args below meth c hX hr hn hlk K hK k
  match k with
  | 0 => exact (js_iload_n hX dX2_w5_0 rfl (js_iload_n hX dX2_w5_1 rfl (js_iload_n hX dX2_w5_2 rfl (js_callS hX MX2_w3 (n := 3) (lw_S q1533 q1534 q156 q1535) npX2_w3 dX2_w5_3 (js_const hX (z := 8) (by unfold inI; omega) dX2_w5_6 (Or.inr (Or.inl ⟨8, rfl, rfl, rfl⟩)) (js_lshl hX dX2_w5_8 (js_iload_n hX dX2_w5_9 rfl (js_i2l hX dX2_w5_10 (js_lor hX dX2_w5_11 (js_const hX (z := 8) (by unfold inI; omega) dX2_w5_12 (Or.inr (Or.inl ⟨8, rfl, rfl, rfl⟩)) (js_lshl hX dX2_w5_14 (js_iload hX dX2_w5_15 (js_i2l hX dX2_w5_17 (js_lor hX dX2_w5_18 (js_lreturn hX hr hlk dX2_w5_19)))))))))))))))
  | k + 1 => intro ls st h nc ns hf; exact hf.elim
def bX2_w4 : jjB := fun e K k => match k with
  | 0 => (ji_iload 0 (ji_iload 1 (ji_iload 2 (ji_callS e MX2_w3 3 (ji_const 8 (ji_lshl (ji_iload 3 (ji_i2l (ji_lor (ji_lreturn e))))))))))
  | _ => fun _ _ _ _ _ => False
def pX2_w4 : Nat → Nat := fun k => match k with
  | 0 => 0
  | _ => 0
theorem sX2_w4 : jSound bX2_w4 pX2_w4 MX2_w4 := by
  intro e p ev R s m args below meth c hX hr hn hlk K hK k
  match k with
  | 0 => exact (js_iload_n hX dX2_w4_0 rfl (js_iload_n hX dX2_w4_1 rfl (js_iload_n hX dX2_w4_2 rfl (js_callS hX MX2_w3 (n := 3) (lw_S q1533 q1534 q156 q1535) npX2_w3 dX2_w4_3 (js_const hX (z := 8) (by unfold inI; omega) dX2_w4_6 (Or.inr (Or.inl ⟨8, rfl, rfl, rfl⟩)) (js_lshl hX dX2_w4_8 (js_iload_n hX dX2_w4_9 rfl (js_i2l hX dX2_w4_10 (js_lor hX dX2_w4_11 (js_lreturn hX hr hlk dX2_w4_12))))))))))
  | k + 1 => intro ls st h nc ns hf; exact hf.elim
def bX2_body : jjB := fun e K k => match k with
  | 0 => (ji_iload 1 (ji_tsw 0 (ji_const 0 (ji_ireturn e)) [(ji_aload 0 (ji_iload 2 (ji_callV e MX2_lawClause 2 2 (ji_ireturn e)))), (ji_aload 0 (ji_iload 1 (ji_iload 2 (ji_callV e MX2_sumClause 2 3 (ji_ireturn e))))), (ji_aload 0 (ji_iload 1 (ji_iload 2 (ji_callV e MX2_sumClause 2 3 (ji_ireturn e))))), (ji_aload 0 (ji_iload 2 (ji_const 1 (ji_iadd (ji_const 1 (ji_const 2 (ji_callV e MX2_figure 2 4 (ji_ireturn e)))))))), (ji_aload 0 (ji_iload 2 (ji_const 1 (ji_iadd (ji_const 1 (ji_const 99 (ji_callV e MX2_figure 2 4 (ji_ireturn e)))))))), (ji_aload 0 (ji_iload 2 (ji_const 1 (ji_iadd (ji_const 0 (ji_const 2 (ji_callV e MX2_figure 2 4 (ji_istore 3 (ji_iload 3 (ji_if_eq (ji_aload 0 (ji_const 97 (ji_const 116 (ji_iload 2 (ji_const 2 (ji_iadd (ji_const 9 (ji_callV e MX2_worded 2 5 (K 1)))))))))
    (ji_iload 3 (ji_goto (K 1))))))))))))), (ji_aload 0 (ji_iload 2 (ji_const 1 (ji_iadd (ji_const 0 (ji_const 9 (ji_callV e MX2_figure 2 4 (ji_ireturn e)))))))), (ji_aload 0 (ji_iload 2 (ji_callV e MX2_putClause 2 2 (ji_ireturn e))))]))
  | 1 => (ji_ireturn e)
  | _ => fun _ _ _ _ _ => False
def pX2_body : Nat → Nat := fun k => match k with
  | 0 => 0
  | 1 => 120
  | _ => 0
theorem sX2_body : jSound bX2_body pX2_body MX2_body := by
  intro e p ev R s m args below meth c hX hr hn hlk K hK k
  match k with
  | 0 => exact (js_iload_n hX dX2_body_0 rfl (js_tsw hX (dflt := 137) (lo := 0) (hi := 7) (tgt := 138) (tgts := [48, 54, 61, 68, 78, 89, 121, 132]) (offs := #[47, 53, 60, 67, 77, 88, 120, 131]) dX2_body_1 rfl (by decide) (js_const hX (z := 0) (by unfold inI; omega) dX2_body_138 (Or.inl ⟨0, rfl, rfl, rfl⟩) (js_ireturn hX hr hlk dX2_body_139)) (jswl_cons (js_aload_n hX dX2_body_48 rfl (js_iload_n hX dX2_body_49 rfl (js_callV hX MX2_lawClause (ci := 2) (n := 1) (RX2, TX2, 43) rfl rfl (lw_V q1550 q1552 qs75 q156 q1553) npX2_lawClause dX2_body_50 (js_ireturn hX hr hlk dX2_body_53)))) (jswl_cons (js_aload_n hX dX2_body_54 rfl (js_iload_n hX dX2_body_55 rfl (js_iload_n hX dX2_body_56 rfl (js_callV hX MX2_sumClause (ci := 2) (n := 2) (RX2, TX2, 43) rfl rfl (lw_V q1626 q1628 qs93 q156 q1629) npX2_sumClause dX2_body_57 (js_ireturn hX hr hlk dX2_body_60))))) (jswl_cons (js_aload_n hX dX2_body_61 rfl (js_iload_n hX dX2_body_62 rfl (js_iload_n hX dX2_body_63 rfl (js_callV hX MX2_sumClause (ci := 2) (n := 2) (RX2, TX2, 43) rfl rfl (lw_V q1626 q1628 qs93 q156 q1629) npX2_sumClause dX2_body_64 (js_ireturn hX hr hlk dX2_body_67))))) (jswl_cons (js_aload_n hX dX2_body_68 rfl (js_iload_n hX dX2_body_69 rfl (js_const hX (z := 1) (by unfold inI; omega) dX2_body_70 (Or.inl ⟨1, rfl, rfl, rfl⟩) (js_iadd hX dX2_body_71 (js_const hX (z := 1) (by unfold inI; omega) dX2_body_72 (Or.inl ⟨1, rfl, rfl, rfl⟩) (js_const hX (z := 2) (by unfold inI; omega) dX2_body_73 (Or.inl ⟨2, rfl, rfl, rfl⟩) (js_callV hX MX2_figure (ci := 2) (n := 3) (RX2, TX2, 43) rfl rfl (lw_V q1558 q1560 qs77 q156 q1561) npX2_figure dX2_body_74 (js_ireturn hX hr hlk dX2_body_77)))))))) (jswl_cons (js_aload_n hX dX2_body_78 rfl (js_iload_n hX dX2_body_79 rfl (js_const hX (z := 1) (by unfold inI; omega) dX2_body_80 (Or.inl ⟨1, rfl, rfl, rfl⟩) (js_iadd hX dX2_body_81 (js_const hX (z := 1) (by unfold inI; omega) dX2_body_82 (Or.inl ⟨1, rfl, rfl, rfl⟩) (js_const hX (z := 99) (by unfold inI; omega) dX2_body_83 (Or.inr (Or.inl ⟨99, rfl, rfl, rfl⟩)) (js_callV hX MX2_figure (ci := 2) (n := 3) (RX2, TX2, 43) rfl rfl (lw_V q1558 q1560 qs77 q156 q1561) npX2_figure dX2_body_85 (js_ireturn hX hr hlk dX2_body_88)))))))) (jswl_cons (js_aload_n hX dX2_body_89 rfl (js_iload_n hX dX2_body_90 rfl (js_const hX (z := 1) (by unfold inI; omega) dX2_body_91 (Or.inl ⟨1, rfl, rfl, rfl⟩) (js_iadd hX dX2_body_92 (js_const hX (z := 0) (by unfold inI; omega) dX2_body_93 (Or.inl ⟨0, rfl, rfl, rfl⟩) (js_const hX (z := 2) (by unfold inI; omega) dX2_body_94 (Or.inl ⟨2, rfl, rfl, rfl⟩) (js_callV hX MX2_figure (ci := 2) (n := 3) (RX2, TX2, 43) rfl rfl (lw_V q1558 q1560 qs77 q156 q1561) npX2_figure dX2_body_95 (js_istore_n hX dX2_body_98 rfl (by decide) (js_iload_n hX dX2_body_99 rfl (js_if_eq hX (tgt := 107) dX2_body_100 rfl (js_aload_n hX dX2_body_107 rfl (js_const hX (z := 97) (by unfold inI; omega) dX2_body_108 (Or.inr (Or.inl ⟨97, rfl, rfl, rfl⟩)) (js_const hX (z := 116) (by unfold inI; omega) dX2_body_110 (Or.inr (Or.inl ⟨116, rfl, rfl, rfl⟩)) (js_iload_n hX dX2_body_112 rfl (js_const hX (z := 2) (by unfold inI; omega) dX2_body_113 (Or.inl ⟨2, rfl, rfl, rfl⟩) (js_iadd hX dX2_body_114 (js_const hX (z := 9) (by unfold inI; omega) dX2_body_115 (Or.inr (Or.inl ⟨9, rfl, rfl, rfl⟩)) (js_callV hX MX2_worded (ci := 2) (n := 4) (RX2, TX2, 43) rfl rfl (lw_V q1630 q1632 qs94 q156 q1633) npX2_worded dX2_body_117 (hK 1)))))))))
    (js_iload_n hX dX2_body_103 rfl (js_goto hX (tgt := 120) dX2_body_104 rfl (hK 1))))))))))))) (jswl_cons (js_aload_n hX dX2_body_121 rfl (js_iload_n hX dX2_body_122 rfl (js_const hX (z := 1) (by unfold inI; omega) dX2_body_123 (Or.inl ⟨1, rfl, rfl, rfl⟩) (js_iadd hX dX2_body_124 (js_const hX (z := 0) (by unfold inI; omega) dX2_body_125 (Or.inl ⟨0, rfl, rfl, rfl⟩) (js_const hX (z := 9) (by unfold inI; omega) dX2_body_126 (Or.inr (Or.inl ⟨9, rfl, rfl, rfl⟩)) (js_callV hX MX2_figure (ci := 2) (n := 3) (RX2, TX2, 43) rfl rfl (lw_V q1558 q1560 qs77 q156 q1561) npX2_figure dX2_body_128 (js_ireturn hX hr hlk dX2_body_131)))))))) (jswl_cons (js_aload_n hX dX2_body_132 rfl (js_iload_n hX dX2_body_133 rfl (js_callV hX MX2_putClause (ci := 2) (n := 1) (RX2, TX2, 43) rfl rfl (lw_V q1634 q1636 qs95 q156 q1637) npX2_putClause dX2_body_134 (js_ireturn hX hr hlk dX2_body_137)))) jswl_nil))))))))))
  | 1 => exact (js_ireturn hX hr hlk dX2_body_120)
  | k + 2 => intro ls st h nc ns hf; exact hf.elim
def bX2_lawClause : jjB := fun e K k => match k with
  | 0 => (ji_aload 0 (ji_getfI 2 9 (ji_const 1 (ji_icmp_ne (K 1)
    (ji_aload 0 (ji_getfI 2 10 (ji_const 6 (ji_icmp_ge (K 1)
    (ji_aload 0 (ji_aload 0 (ji_getfI 2 10 (ji_callV e MX2_hasLaw 2 2 (ji_if_eq (K 1)
    (ji_const 4 (ji_ireturn e)))))))))))))))
  | 1 => (ji_aload 0 (ji_iload 1 (ji_const 1 (ji_iadd (ji_const 0 (ji_const 5 (ji_callV e MX2_figure 2 4 (ji_istore 2 (ji_iload 2 (ji_if_eq (ji_aload 0 (ji_getfR 2 2 (ji_iload 1 (ji_const 2 (ji_iadd (ji_aload 0 (ji_getfI 2 14 (ji_iast (ji_aload 0 (ji_callV e MX2_either 2 1 (ji_istore 2 (ji_aload 0 (ji_getfR 2 2 (ji_iload 1 (ji_const 3 (ji_iadd (ji_aload 0 (ji_getfI 2 14 (ji_iast (ji_iload 2 (ji_ireturn e)))))))))))))))))))))
    (ji_iload 2 (ji_ireturn e))))))))))))
  | _ => fun _ _ _ _ _ => False
def pX2_lawClause : Nat → Nat := fun k => match k with
  | 0 => 0
  | 1 => 30
  | _ => 0
theorem sX2_lawClause : jSound bX2_lawClause pX2_lawClause MX2_lawClause := by
  intro e p ev R s m args below meth c hX hr hn hlk K hK k
  match k with
  | 0 => exact (js_aload_n hX dX2_lawClause_0 rfl (js_getfI hX (ci := 2) (k := 9) (RX2, TX2, 43) rfl (by decide) rfl (Or.inl q1355) (fun _ h => h) dX2_lawClause_1 (js_const hX (z := 1) (by unfold inI; omega) dX2_lawClause_4 (Or.inl ⟨1, rfl, rfl, rfl⟩) (js_icmp_ne hX (tgt := 30) dX2_lawClause_5 rfl (hK 1)
    (js_aload_n hX dX2_lawClause_8 rfl (js_getfI hX (ci := 2) (k := 10) (RX2, TX2, 43) rfl (by decide) rfl (Or.inl q1356) (fun _ h => h) dX2_lawClause_9 (js_const hX (z := 6) (by unfold inI; omega) dX2_lawClause_12 (Or.inr (Or.inl ⟨6, rfl, rfl, rfl⟩)) (js_icmp_ge hX (tgt := 30) dX2_lawClause_14 rfl (hK 1)
    (js_aload_n hX dX2_lawClause_17 rfl (js_aload_n hX dX2_lawClause_18 rfl (js_getfI hX (ci := 2) (k := 10) (RX2, TX2, 43) rfl (by decide) rfl (Or.inl q1356) (fun _ h => h) dX2_lawClause_19 (js_callV hX MX2_hasLaw (ci := 2) (n := 1) (RX2, TX2, 43) rfl rfl (lw_V q1554 q1556 qs76 q156 q1557) npX2_hasLaw dX2_lawClause_22 (js_if_eq hX (tgt := 30) dX2_lawClause_25 rfl (hK 1)
    (js_const hX (z := 4) (by unfold inI; omega) dX2_lawClause_28 (Or.inl ⟨4, rfl, rfl, rfl⟩) (js_ireturn hX hr hlk dX2_lawClause_29)))))))))))))))
  | 1 => exact (js_aload_n hX dX2_lawClause_30 rfl (js_iload_n hX dX2_lawClause_31 rfl (js_const hX (z := 1) (by unfold inI; omega) dX2_lawClause_32 (Or.inl ⟨1, rfl, rfl, rfl⟩) (js_iadd hX dX2_lawClause_33 (js_const hX (z := 0) (by unfold inI; omega) dX2_lawClause_34 (Or.inl ⟨0, rfl, rfl, rfl⟩) (js_const hX (z := 5) (by unfold inI; omega) dX2_lawClause_35 (Or.inl ⟨5, rfl, rfl, rfl⟩) (js_callV hX MX2_figure (ci := 2) (n := 3) (RX2, TX2, 43) rfl rfl (lw_V q1558 q1560 qs77 q156 q1561) npX2_figure dX2_lawClause_36 (js_istore_n hX dX2_lawClause_39 rfl (by decide) (js_iload_n hX dX2_lawClause_40 rfl (js_if_eq hX (tgt := 46) dX2_lawClause_41 rfl (js_aload_n hX dX2_lawClause_46 rfl (js_getfR hX (ci := 2) (k := 2) (RX2, TX2, 43) rfl (by decide) rfl (Or.inl q1348) (fun _ h => h) dX2_lawClause_47 (js_iload_n hX dX2_lawClause_50 rfl (js_const hX (z := 2) (by unfold inI; omega) dX2_lawClause_51 (Or.inl ⟨2, rfl, rfl, rfl⟩) (js_iadd hX dX2_lawClause_52 (js_aload_n hX dX2_lawClause_53 rfl (js_getfI hX (ci := 2) (k := 14) (RX2, TX2, 43) rfl (by decide) rfl (Or.inl q1359) (fun _ h => h) dX2_lawClause_54 (js_iast hX dX2_lawClause_57 (js_aload_n hX dX2_lawClause_58 rfl (js_callV hX MX2_either (ci := 2) (n := 0) (RX2, TX2, 43) rfl rfl (lw_V q1562 q1564 qs78 q156 q1565) npX2_either dX2_lawClause_59 (js_istore_n hX dX2_lawClause_62 rfl (by decide) (js_aload_n hX dX2_lawClause_63 rfl (js_getfR hX (ci := 2) (k := 2) (RX2, TX2, 43) rfl (by decide) rfl (Or.inl q1348) (fun _ h => h) dX2_lawClause_64 (js_iload_n hX dX2_lawClause_67 rfl (js_const hX (z := 3) (by unfold inI; omega) dX2_lawClause_68 (Or.inl ⟨3, rfl, rfl, rfl⟩) (js_iadd hX dX2_lawClause_69 (js_aload_n hX dX2_lawClause_70 rfl (js_getfI hX (ci := 2) (k := 14) (RX2, TX2, 43) rfl (by decide) rfl (Or.inl q1359) (fun _ h => h) dX2_lawClause_71 (js_iast hX dX2_lawClause_74 (js_iload_n hX dX2_lawClause_75 rfl (js_ireturn hX hr hlk dX2_lawClause_76)))))))))))))))))))))
    (js_iload_n hX dX2_lawClause_44 rfl (js_ireturn hX hr hlk dX2_lawClause_45))))))))))))
  | k + 2 => intro ls st h nc ns hf; exact hf.elim
def bX2_hasLaw : jjB := fun e K k => match k with
  | 0 => (ji_const 0 (ji_istore 2 (K 1)))
  | 1 => (ji_iload 2 (ji_aload 0 (ji_getfR 2 2 (ji_aload 0 (ji_getfI 2 12 (ji_iald (ji_icmp_ge (ji_const 0 (ji_zreturn e))
    (ji_aload 0 (ji_getfR 2 2 (ji_aload 0 (ji_getfI 2 12 (ji_const 1 (ji_iadd (ji_const 4 (ji_iload 2 (ji_imul (ji_iadd (ji_iald (ji_if_ne (K 2)
    (ji_aload 0 (ji_getfR 2 2 (ji_aload 0 (ji_getfI 2 12 (ji_const 2 (ji_iadd (ji_const 4 (ji_iload 2 (ji_imul (ji_iadd (ji_iald (ji_iload 1 (ji_icmp_ne (K 2)
    (ji_const 1 (ji_zreturn e))))))))))))))))))))))))))))))))))
  | 2 => (ji_iinc 2 1 (ji_goto (K 1)))
  | _ => fun _ _ _ _ _ => False
def pX2_hasLaw : Nat → Nat := fun k => match k with
  | 0 => 0
  | 1 => 2
  | 2 => 54
  | _ => 0
theorem sX2_hasLaw : jSound bX2_hasLaw pX2_hasLaw MX2_hasLaw := by
  intro e p ev R s m args below meth c hX hr hn hlk K hK k
  match k with
  | 0 => exact (js_const hX (z := 0) (by unfold inI; omega) dX2_hasLaw_0 (Or.inl ⟨0, rfl, rfl, rfl⟩) (js_istore_n hX dX2_hasLaw_1 rfl (by decide) (hK 1)))
  | 1 => exact (js_iload_n hX dX2_hasLaw_2 rfl (js_aload_n hX dX2_hasLaw_3 rfl (js_getfR hX (ci := 2) (k := 2) (RX2, TX2, 43) rfl (by decide) rfl (Or.inl q1348) (fun _ h => h) dX2_hasLaw_4 (js_aload_n hX dX2_hasLaw_7 rfl (js_getfI hX (ci := 2) (k := 12) (RX2, TX2, 43) rfl (by decide) rfl (Or.inl q1358) (fun _ h => h) dX2_hasLaw_8 (js_iald hX dX2_hasLaw_11 (js_icmp_ge hX (tgt := 60) dX2_hasLaw_12 rfl (js_const hX (z := 0) (by unfold inI; omega) dX2_hasLaw_60 (Or.inl ⟨0, rfl, rfl, rfl⟩) (js_zreturn hX hr hlk dX2_hasLaw_61))
    (js_aload_n hX dX2_hasLaw_15 rfl (js_getfR hX (ci := 2) (k := 2) (RX2, TX2, 43) rfl (by decide) rfl (Or.inl q1348) (fun _ h => h) dX2_hasLaw_16 (js_aload_n hX dX2_hasLaw_19 rfl (js_getfI hX (ci := 2) (k := 12) (RX2, TX2, 43) rfl (by decide) rfl (Or.inl q1358) (fun _ h => h) dX2_hasLaw_20 (js_const hX (z := 1) (by unfold inI; omega) dX2_hasLaw_23 (Or.inl ⟨1, rfl, rfl, rfl⟩) (js_iadd hX dX2_hasLaw_24 (js_const hX (z := 4) (by unfold inI; omega) dX2_hasLaw_25 (Or.inl ⟨4, rfl, rfl, rfl⟩) (js_iload_n hX dX2_hasLaw_26 rfl (js_imul hX dX2_hasLaw_27 (js_iadd hX dX2_hasLaw_28 (js_iald hX dX2_hasLaw_29 (js_if_ne hX (tgt := 54) dX2_hasLaw_30 rfl (hK 2)
    (js_aload_n hX dX2_hasLaw_33 rfl (js_getfR hX (ci := 2) (k := 2) (RX2, TX2, 43) rfl (by decide) rfl (Or.inl q1348) (fun _ h => h) dX2_hasLaw_34 (js_aload_n hX dX2_hasLaw_37 rfl (js_getfI hX (ci := 2) (k := 12) (RX2, TX2, 43) rfl (by decide) rfl (Or.inl q1358) (fun _ h => h) dX2_hasLaw_38 (js_const hX (z := 2) (by unfold inI; omega) dX2_hasLaw_41 (Or.inl ⟨2, rfl, rfl, rfl⟩) (js_iadd hX dX2_hasLaw_42 (js_const hX (z := 4) (by unfold inI; omega) dX2_hasLaw_43 (Or.inl ⟨4, rfl, rfl, rfl⟩) (js_iload_n hX dX2_hasLaw_44 rfl (js_imul hX dX2_hasLaw_45 (js_iadd hX dX2_hasLaw_46 (js_iald hX dX2_hasLaw_47 (js_iload_n hX dX2_hasLaw_48 rfl (js_icmp_ne hX (tgt := 54) dX2_hasLaw_49 rfl (hK 2)
    (js_const hX (z := 1) (by unfold inI; omega) dX2_hasLaw_52 (Or.inl ⟨1, rfl, rfl, rfl⟩) (js_zreturn hX hr hlk dX2_hasLaw_53))))))))))))))))))))))))))))))))))
  | 2 => exact (js_iinc hX dX2_hasLaw_54 (by decide) (js_goto hX (tgt := 2) dX2_hasLaw_57 rfl (hK 1)))
  | k + 3 => intro ls st h nc ns hf; exact hf.elim
def bX2_figure : jjB := fun e K k => match k with
  | 0 => (ji_aload 0 (ji_getfI 2 9 (ji_const 1 (ji_icmp_eq (ji_aload 0 (ji_getfI 2 10 (ji_iload 2 (ji_iload 3 (ji_callS e MX2_isIn 3 (ji_if_ne (ji_aload 0 (ji_getfR 2 2 (ji_iload 1 (ji_aload 0 (ji_getfI 2 10 (ji_iast (ji_aload 0 (ji_callV e MX2_nextToken 2 1 (ji_const 0 (ji_ireturn e))))))))))
    (ji_const 2 (ji_ireturn e))))))))
    (ji_const 1 (ji_ireturn e))))))
  | _ => fun _ _ _ _ _ => False
def pX2_figure : Nat → Nat := fun k => match k with
  | 0 => 0
  | _ => 0
theorem sX2_figure : jSound bX2_figure pX2_figure MX2_figure := by
  intro e p ev R s m args below meth c hX hr hn hlk K hK k
  match k with
  | 0 => exact (js_aload_n hX dX2_figure_0 rfl (js_getfI hX (ci := 2) (k := 9) (RX2, TX2, 43) rfl (by decide) rfl (Or.inl q1355) (fun _ h => h) dX2_figure_1 (js_const hX (z := 1) (by unfold inI; omega) dX2_figure_4 (Or.inl ⟨1, rfl, rfl, rfl⟩) (js_icmp_eq hX (tgt := 10) dX2_figure_5 rfl (js_aload_n hX dX2_figure_10 rfl (js_getfI hX (ci := 2) (k := 10) (RX2, TX2, 43) rfl (by decide) rfl (Or.inl q1356) (fun _ h => h) dX2_figure_11 (js_iload_n hX dX2_figure_14 rfl (js_iload_n hX dX2_figure_15 rfl (js_callS hX MX2_isIn (n := 3) (lw_S q1479 q1480 q156 q1481) npX2_isIn dX2_figure_16 (js_if_ne hX (tgt := 24) dX2_figure_19 rfl (js_aload_n hX dX2_figure_24 rfl (js_getfR hX (ci := 2) (k := 2) (RX2, TX2, 43) rfl (by decide) rfl (Or.inl q1348) (fun _ h => h) dX2_figure_25 (js_iload_n hX dX2_figure_28 rfl (js_aload_n hX dX2_figure_29 rfl (js_getfI hX (ci := 2) (k := 10) (RX2, TX2, 43) rfl (by decide) rfl (Or.inl q1356) (fun _ h => h) dX2_figure_30 (js_iast hX dX2_figure_33 (js_aload_n hX dX2_figure_34 rfl (js_callV hX MX2_nextToken (ci := 2) (n := 0) (RX2, TX2, 43) rfl rfl (lw_V q1510 q1512 qs69 q156 q1513) npX2_nextToken dX2_figure_35 (js_const hX (z := 0) (by unfold inI; omega) dX2_figure_38 (Or.inl ⟨0, rfl, rfl, rfl⟩) (js_ireturn hX hr hlk dX2_figure_39))))))))))
    (js_const hX (z := 2) (by unfold inI; omega) dX2_figure_22 (Or.inl ⟨2, rfl, rfl, rfl⟩) (js_ireturn hX hr hlk dX2_figure_23))))))))
    (js_const hX (z := 1) (by unfold inI; omega) dX2_figure_8 (Or.inl ⟨1, rfl, rfl, rfl⟩) (js_ireturn hX hr hlk dX2_figure_9))))))
  | k + 1 => intro ls st h nc ns hf; exact hf.elim
def bX2_either : jjB := fun e K k => match k with
  | 0 => (ji_const 0 (ji_istore 1 (ji_const 0 (ji_istore 2 (ji_const 1 (ji_istore 3 (K 1)))))))
  | 1 => (ji_iload 3 (ji_if_eq (ji_const 0 (ji_ireturn e))
    (ji_aload 0 (ji_callV e MX2_asks 2 1 (ji_istore 4 (ji_iload 4 (ji_if_eq (ji_iload 1 (ji_if_eq (K 2)
    (ji_aload 0 (ji_const 21 (ji_const 0 (ji_callV e MX2_emit 2 3 (K 2)))))))
    (ji_iload 4 (ji_ireturn e)))))))))
  | 2 => (ji_aload 0 (ji_const 97 (ji_const 110 (ji_const 100 (ji_callS e MX2_w3 3 (ji_callV e MX2_isWord 2 2 (ji_istore 1 (ji_aload 0 (ji_getfI 2 9 (ji_const 2 (ji_icmp_ne (K 3)
    (ji_aload 0 (ji_getfL 2 11 (ji_lconst 28530 (ji_lcmp (ji_if_ne (K 3)
    (ji_const 1 (ji_goto (K 4)))))))))))))))))))
  | 3 => (ji_const 0 (K 4))
  | 4 => (ji_istore 5 (ji_iload 1 (ji_if_ne (K 6)
    (ji_iload 2 (ji_if_eq (K 5)
    (ji_aload 0 (ji_const 22 (ji_const 0 (ji_callV e MX2_emit 2 3 (K 5))))))))))
  | 5 => (ji_iload 5 (ji_istore 2 (K 6)))
  | 6 => (ji_iload 1 (ji_if_ne (K 7)
    (ji_iload 5 (ji_if_eq (ji_const 0 (K 8))
    (K 7)))))
  | 7 => (ji_const 1 (ji_goto (K 8)))
  | 8 => (ji_istore 3 (ji_iload 3 (ji_if_eq (K 9)
    (ji_aload 0 (ji_callV e MX2_nextToken 2 1 (K 9))))))
  | 9 => (ji_goto (K 1))
  | _ => fun _ _ _ _ _ => False
def pX2_either : Nat → Nat := fun k => match k with
  | 0 => 0
  | 1 => 6
  | 2 => 35
  | 3 => 72
  | 4 => 73
  | 5 => 90
  | 6 => 93
  | 7 => 102
  | 8 => 107
  | 9 => 116
  | _ => 0
theorem sX2_either : jSound bX2_either pX2_either MX2_either := by
  intro e p ev R s m args below meth c hX hr hn hlk K hK k
  match k with
  | 0 => exact (js_const hX (z := 0) (by unfold inI; omega) dX2_either_0 (Or.inl ⟨0, rfl, rfl, rfl⟩) (js_istore_n hX dX2_either_1 rfl (by decide) (js_const hX (z := 0) (by unfold inI; omega) dX2_either_2 (Or.inl ⟨0, rfl, rfl, rfl⟩) (js_istore_n hX dX2_either_3 rfl (by decide) (js_const hX (z := 1) (by unfold inI; omega) dX2_either_4 (Or.inl ⟨1, rfl, rfl, rfl⟩) (js_istore_n hX dX2_either_5 rfl (by decide) (hK 1)))))))
  | 1 => exact (js_iload_n hX dX2_either_6 rfl (js_if_eq hX (tgt := 119) dX2_either_7 rfl (js_const hX (z := 0) (by unfold inI; omega) dX2_either_119 (Or.inl ⟨0, rfl, rfl, rfl⟩) (js_ireturn hX hr hlk dX2_either_120))
    (js_aload_n hX dX2_either_10 rfl (js_callV hX MX2_asks (ci := 2) (n := 0) (RX2, TX2, 43) rfl rfl (lw_V q1566 q1568 qs79 q156 q1569) npX2_asks dX2_either_11 (js_istore hX dX2_either_14 (by decide) (js_iload hX dX2_either_16 (js_if_eq hX (tgt := 24) dX2_either_18 rfl (js_iload_n hX dX2_either_24 rfl (js_if_eq hX (tgt := 35) dX2_either_25 rfl (hK 2)
    (js_aload_n hX dX2_either_28 rfl (js_const hX (z := 21) (by unfold inI; omega) dX2_either_29 (Or.inr (Or.inl ⟨21, rfl, rfl, rfl⟩)) (js_const hX (z := 0) (by unfold inI; omega) dX2_either_31 (Or.inl ⟨0, rfl, rfl, rfl⟩) (js_callV hX MX2_emit (ci := 2) (n := 2) (RX2, TX2, 43) rfl rfl (lw_V q1590 q1592 qs85 q156 q1593) npX2_emit dX2_either_32 (hK 2)))))))
    (js_iload hX dX2_either_21 (js_ireturn hX hr hlk dX2_either_23)))))))))
  | 2 => exact (js_aload_n hX dX2_either_35 rfl (js_const hX (z := 97) (by unfold inI; omega) dX2_either_36 (Or.inr (Or.inl ⟨97, rfl, rfl, rfl⟩)) (js_const hX (z := 110) (by unfold inI; omega) dX2_either_38 (Or.inr (Or.inl ⟨110, rfl, rfl, rfl⟩)) (js_const hX (z := 100) (by unfold inI; omega) dX2_either_40 (Or.inr (Or.inl ⟨100, rfl, rfl, rfl⟩)) (js_callS hX MX2_w3 (n := 3) (lw_S q1533 q1534 q156 q1535) npX2_w3 dX2_either_42 (js_callV hX MX2_isWord (ci := 2) (n := 1) (RX2, TX2, 43) rfl rfl (lw_V q1536 q1538 qs73 q156 q1539) npX2_isWord dX2_either_45 (js_istore_n hX dX2_either_48 rfl (by decide) (js_aload_n hX dX2_either_49 rfl (js_getfI hX (ci := 2) (k := 9) (RX2, TX2, 43) rfl (by decide) rfl (Or.inl q1355) (fun _ h => h) dX2_either_50 (js_const hX (z := 2) (by unfold inI; omega) dX2_either_53 (Or.inl ⟨2, rfl, rfl, rfl⟩) (js_icmp_ne hX (tgt := 72) dX2_either_54 rfl (hK 3)
    (js_aload_n hX dX2_either_57 rfl (js_getfL hX (ci := 2) (k := 11) (RX2, TX2, 43) rfl (by decide) rfl (Or.inl q1357) (fun _ h => h) dX2_either_58 (js_ldc2 hX (z := 28530) (by unfold inL; omega) dX2_either_61 q1625 (js_lcmp hX dX2_either_64 (js_if_ne hX (tgt := 72) dX2_either_65 rfl (hK 3)
    (js_const hX (z := 1) (by unfold inI; omega) dX2_either_68 (Or.inl ⟨1, rfl, rfl, rfl⟩) (js_goto hX (tgt := 73) dX2_either_69 rfl (hK 4)))))))))))))))))))
  | 3 => exact (js_const hX (z := 0) (by unfold inI; omega) dX2_either_72 (Or.inl ⟨0, rfl, rfl, rfl⟩) (hK 4))
  | 4 => exact (js_istore hX dX2_either_73 (by decide) (js_iload_n hX dX2_either_75 rfl (js_if_ne hX (tgt := 93) dX2_either_76 rfl (hK 6)
    (js_iload_n hX dX2_either_79 rfl (js_if_eq hX (tgt := 90) dX2_either_80 rfl (hK 5)
    (js_aload_n hX dX2_either_83 rfl (js_const hX (z := 22) (by unfold inI; omega) dX2_either_84 (Or.inr (Or.inl ⟨22, rfl, rfl, rfl⟩)) (js_const hX (z := 0) (by unfold inI; omega) dX2_either_86 (Or.inl ⟨0, rfl, rfl, rfl⟩) (js_callV hX MX2_emit (ci := 2) (n := 2) (RX2, TX2, 43) rfl rfl (lw_V q1590 q1592 qs85 q156 q1593) npX2_emit dX2_either_87 (hK 5))))))))))
  | 5 => exact (js_iload hX dX2_either_90 (js_istore_n hX dX2_either_92 rfl (by decide) (hK 6)))
  | 6 => exact (js_iload_n hX dX2_either_93 rfl (js_if_ne hX (tgt := 102) dX2_either_94 rfl (hK 7)
    (js_iload hX dX2_either_97 (js_if_eq hX (tgt := 106) dX2_either_99 rfl (js_const hX (z := 0) (by unfold inI; omega) dX2_either_106 (Or.inl ⟨0, rfl, rfl, rfl⟩) (hK 8))
    (hK 7)))))
  | 7 => exact (js_const hX (z := 1) (by unfold inI; omega) dX2_either_102 (Or.inl ⟨1, rfl, rfl, rfl⟩) (js_goto hX (tgt := 107) dX2_either_103 rfl (hK 8)))
  | 8 => exact (js_istore_n hX dX2_either_107 rfl (by decide) (js_iload_n hX dX2_either_108 rfl (js_if_eq hX (tgt := 116) dX2_either_109 rfl (hK 9)
    (js_aload_n hX dX2_either_112 rfl (js_callV hX MX2_nextToken (ci := 2) (n := 0) (RX2, TX2, 43) rfl rfl (lw_V q1510 q1512 qs69 q156 q1513) npX2_nextToken dX2_either_113 (hK 9))))))
  | 9 => exact (js_goto hX (tgt := 6) dX2_either_116 rfl (hK 1))
  | k + 10 => intro ls st h nc ns hf; exact hf.elim
def bX2_asks : jjB := fun e K k => match k with
  | 0 => (ji_const 0 (ji_istore 1 (K 1)))
  | 1 => (ji_aload 0 (ji_const 110 (ji_const 111 (ji_const 116 (ji_callS e MX2_w3 3 (ji_callV e MX2_isWord 2 2 (ji_if_eq (ji_aload 0 (ji_callV e MX2_summed 2 1 (ji_istore 2 (ji_iload 2 (ji_if_eq (ji_aload 0 (ji_callV e MX2_compareOf 2 1 (ji_istore 3 (ji_iload 3 (ji_if_ge (ji_aload 0 (ji_callV e MX2_nextToken 2 1 (ji_aload 0 (ji_callV e MX2_summed 2 1 (ji_istore 2 (ji_iload 2 (ji_if_eq (ji_aload 0 (ji_iload 3 (ji_const 0 (ji_callV e MX2_emit 2 3 (ji_aload 0 (ji_dup (ji_getfI 2 18 (ji_iload 1 (ji_isub (ji_putfI 2 18 (ji_const 0 (ji_istore 4 (K 2)))))))))))))
    (ji_iload 2 (ji_ireturn e)))))))))
    (ji_const 1 (ji_ireturn e)))))))
    (ji_iload 2 (ji_ireturn e)))))))
    (ji_aload 0 (ji_getfI 2 18 (ji_const 8 (ji_icmp_ne (ji_aload 0 (ji_dup (ji_getfI 2 18 (ji_const 1 (ji_iadd (ji_putfI 2 18 (ji_iinc 1 1 (ji_aload 0 (ji_callV e MX2_nextToken 2 1 (ji_goto (K 1)))))))))))
    (ji_const 3 (ji_ireturn e)))))))))))))
  | 2 => (ji_iload 4 (ji_iload 1 (ji_icmp_ge (ji_const 0 (ji_ireturn e))
    (ji_aload 0 (ji_const 20 (ji_const 0 (ji_callV e MX2_emit 2 3 (ji_iinc 4 1 (ji_goto (K 2))))))))))
  | _ => fun _ _ _ _ _ => False
def pX2_asks : Nat → Nat := fun k => match k with
  | 0 => 0
  | 1 => 2
  | 2 => 105
  | _ => 0
theorem sX2_asks : jSound bX2_asks pX2_asks MX2_asks := by
  intro e p ev R s m args below meth c hX hr hn hlk K hK k
  match k with
  | 0 => exact (js_const hX (z := 0) (by unfold inI; omega) dX2_asks_0 (Or.inl ⟨0, rfl, rfl, rfl⟩) (js_istore_n hX dX2_asks_1 rfl (by decide) (hK 1)))
  | 1 => exact (js_aload_n hX dX2_asks_2 rfl (js_const hX (z := 110) (by unfold inI; omega) dX2_asks_3 (Or.inr (Or.inl ⟨110, rfl, rfl, rfl⟩)) (js_const hX (z := 111) (by unfold inI; omega) dX2_asks_5 (Or.inr (Or.inl ⟨111, rfl, rfl, rfl⟩)) (js_const hX (z := 116) (by unfold inI; omega) dX2_asks_7 (Or.inr (Or.inl ⟨116, rfl, rfl, rfl⟩)) (js_callS hX MX2_w3 (n := 3) (lw_S q1533 q1534 q156 q1535) npX2_w3 dX2_asks_9 (js_callV hX MX2_isWord (ci := 2) (n := 1) (RX2, TX2, 43) rfl rfl (lw_V q1536 q1538 qs73 q156 q1539) npX2_isWord dX2_asks_12 (js_if_eq hX (tgt := 49) dX2_asks_15 rfl (js_aload_n hX dX2_asks_49 rfl (js_callV hX MX2_summed (ci := 2) (n := 0) (RX2, TX2, 43) rfl rfl (lw_V q1570 q1572 qs80 q156 q1573) npX2_summed dX2_asks_50 (js_istore_n hX dX2_asks_53 rfl (by decide) (js_iload_n hX dX2_asks_54 rfl (js_if_eq hX (tgt := 60) dX2_asks_55 rfl (js_aload_n hX dX2_asks_60 rfl (js_callV hX MX2_compareOf (ci := 2) (n := 0) (RX2, TX2, 43) rfl rfl (lw_V q1621 q1623 qs92 q156 q1624) npX2_compareOf dX2_asks_61 (js_istore_n hX dX2_asks_64 rfl (by decide) (js_iload_n hX dX2_asks_65 rfl (js_if_ge hX (tgt := 71) dX2_asks_66 rfl (js_aload_n hX dX2_asks_71 rfl (js_callV hX MX2_nextToken (ci := 2) (n := 0) (RX2, TX2, 43) rfl rfl (lw_V q1510 q1512 qs69 q156 q1513) npX2_nextToken dX2_asks_72 (js_aload_n hX dX2_asks_75 rfl (js_callV hX MX2_summed (ci := 2) (n := 0) (RX2, TX2, 43) rfl rfl (lw_V q1570 q1572 qs80 q156 q1573) npX2_summed dX2_asks_76 (js_istore_n hX dX2_asks_79 rfl (by decide) (js_iload_n hX dX2_asks_80 rfl (js_if_eq hX (tgt := 86) dX2_asks_81 rfl (js_aload_n hX dX2_asks_86 rfl (js_iload_n hX dX2_asks_87 rfl (js_const hX (z := 0) (by unfold inI; omega) dX2_asks_88 (Or.inl ⟨0, rfl, rfl, rfl⟩) (js_callV hX MX2_emit (ci := 2) (n := 2) (RX2, TX2, 43) rfl rfl (lw_V q1590 q1592 qs85 q156 q1593) npX2_emit dX2_asks_89 (js_aload_n hX dX2_asks_92 rfl (js_dup hX dX2_asks_93 (js_getfI hX (ci := 2) (k := 18) (RX2, TX2, 43) rfl (by decide) rfl (Or.inl q1362) (fun _ h => h) dX2_asks_94 (js_iload_n hX dX2_asks_97 rfl (js_isub hX dX2_asks_98 (js_putfI hX (ci := 2) (k := 18) (RX2, TX2, 43) rfl (by decide) rfl (Or.inl q1362) (fun _ h => h) (Or.inl rfl) dX2_asks_99 (js_const hX (z := 0) (by unfold inI; omega) dX2_asks_102 (Or.inl ⟨0, rfl, rfl, rfl⟩) (js_istore hX dX2_asks_103 (by decide) (hK 2)))))))))))))
    (js_iload_n hX dX2_asks_84 rfl (js_ireturn hX hr hlk dX2_asks_85)))))))))
    (js_const hX (z := 1) (by unfold inI; omega) dX2_asks_69 (Or.inl ⟨1, rfl, rfl, rfl⟩) (js_ireturn hX hr hlk dX2_asks_70)))))))
    (js_iload_n hX dX2_asks_58 rfl (js_ireturn hX hr hlk dX2_asks_59)))))))
    (js_aload_n hX dX2_asks_18 rfl (js_getfI hX (ci := 2) (k := 18) (RX2, TX2, 43) rfl (by decide) rfl (Or.inl q1362) (fun _ h => h) dX2_asks_19 (js_const hX (z := 8) (by unfold inI; omega) dX2_asks_22 (Or.inr (Or.inl ⟨8, rfl, rfl, rfl⟩)) (js_icmp_ne hX (tgt := 29) dX2_asks_24 rfl (js_aload_n hX dX2_asks_29 rfl (js_dup hX dX2_asks_30 (js_getfI hX (ci := 2) (k := 18) (RX2, TX2, 43) rfl (by decide) rfl (Or.inl q1362) (fun _ h => h) dX2_asks_31 (js_const hX (z := 1) (by unfold inI; omega) dX2_asks_34 (Or.inl ⟨1, rfl, rfl, rfl⟩) (js_iadd hX dX2_asks_35 (js_putfI hX (ci := 2) (k := 18) (RX2, TX2, 43) rfl (by decide) rfl (Or.inl q1362) (fun _ h => h) (Or.inl rfl) dX2_asks_36 (js_iinc hX dX2_asks_39 (by decide) (js_aload_n hX dX2_asks_42 rfl (js_callV hX MX2_nextToken (ci := 2) (n := 0) (RX2, TX2, 43) rfl rfl (lw_V q1510 q1512 qs69 q156 q1513) npX2_nextToken dX2_asks_43 (js_goto hX (tgt := 2) dX2_asks_46 rfl (hK 1)))))))))))
    (js_const hX (z := 3) (by unfold inI; omega) dX2_asks_27 (Or.inl ⟨3, rfl, rfl, rfl⟩) (js_ireturn hX hr hlk dX2_asks_28)))))))))))))
  | 2 => exact (js_iload hX dX2_asks_105 (js_iload_n hX dX2_asks_107 rfl (js_icmp_ge hX (tgt := 124) dX2_asks_108 rfl (js_const hX (z := 0) (by unfold inI; omega) dX2_asks_124 (Or.inl ⟨0, rfl, rfl, rfl⟩) (js_ireturn hX hr hlk dX2_asks_125))
    (js_aload_n hX dX2_asks_111 rfl (js_const hX (z := 20) (by unfold inI; omega) dX2_asks_112 (Or.inr (Or.inl ⟨20, rfl, rfl, rfl⟩)) (js_const hX (z := 0) (by unfold inI; omega) dX2_asks_114 (Or.inl ⟨0, rfl, rfl, rfl⟩) (js_callV hX MX2_emit (ci := 2) (n := 2) (RX2, TX2, 43) rfl rfl (lw_V q1590 q1592 qs85 q156 q1593) npX2_emit dX2_asks_115 (js_iinc hX dX2_asks_118 (by decide) (js_goto hX (tgt := 105) dX2_asks_121 rfl (hK 2))))))))))
  | k + 3 => intro ls st h nc ns hf; exact hf.elim
