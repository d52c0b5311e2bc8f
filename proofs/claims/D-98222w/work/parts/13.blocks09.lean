/-! blocks of the methods and their soundness -/
set_option maxRecDepth 100000
def bX2_exchange : jjB := fun e K k => match k with
  | 0 => (ji_aload 0 (ji_iload 1 (ji_iload 2 (ji_callV e MX2_bookAt 2 3 (ji_istore 3 (ji_aload 0 (ji_iload 1 (ji_iload 2 (ji_aload 0 (ji_iload 1 (ji_iload 2 (ji_const 1 (ji_iadd (ji_callV e MX2_bookAt 2 3 (ji_callV e MX2_lay 2 4 (ji_aload 0 (ji_iload 1 (ji_iload 2 (ji_const 1 (ji_iadd (ji_iload 3 (ji_callV e MX2_lay 2 4 (ji_return e)))))))))))))))))))))))
  | _ => fun _ _ _ _ _ => False
def pX2_exchange : Nat → Nat := fun k => match k with
  | 0 => 0
  | _ => 0
theorem sX2_exchange : jSound bX2_exchange pX2_exchange MX2_exchange := by
  intro e p ev R s m args below meth c hX hr hn hlk K hK k
  match k with
  | 0 => exact (js_aload_n hX dX2_exchange_0 rfl (js_iload_n hX dX2_exchange_1 rfl (js_iload_n hX dX2_exchange_2 rfl (js_callV hX MX2_bookAt (ci := 2) (n := 2) (RX2, TX2, 43) rfl rfl (lw_V q1700 q1702 qs104 q156 q1703) npX2_bookAt dX2_exchange_3 (js_istore_n hX dX2_exchange_6 rfl (by decide) (js_aload_n hX dX2_exchange_7 rfl (js_iload_n hX dX2_exchange_8 rfl (js_iload_n hX dX2_exchange_9 rfl (js_aload_n hX dX2_exchange_10 rfl (js_iload_n hX dX2_exchange_11 rfl (js_iload_n hX dX2_exchange_12 rfl (js_const hX (z := 1) (by unfold inI; omega) dX2_exchange_13 (Or.inl ⟨1, rfl, rfl, rfl⟩) (js_iadd hX dX2_exchange_14 (js_callV hX MX2_bookAt (ci := 2) (n := 2) (RX2, TX2, 43) rfl rfl (lw_V q1700 q1702 qs104 q156 q1703) npX2_bookAt dX2_exchange_15 (js_callV hX MX2_lay (ci := 2) (n := 3) (RX2, TX2, 43) rfl rfl (lw_V q1745 q1747 qs113 q156 q1748) npX2_lay dX2_exchange_18 (js_aload_n hX dX2_exchange_21 rfl (js_iload_n hX dX2_exchange_22 rfl (js_iload_n hX dX2_exchange_23 rfl (js_const hX (z := 1) (by unfold inI; omega) dX2_exchange_24 (Or.inl ⟨1, rfl, rfl, rfl⟩) (js_iadd hX dX2_exchange_25 (js_iload_n hX dX2_exchange_26 rfl (js_callV hX MX2_lay (ci := 2) (n := 3) (RX2, TX2, 43) rfl rfl (lw_V q1745 q1747 qs113 q156 q1748) npX2_lay dX2_exchange_27 (js_return hX hr hlk dX2_exchange_30)))))))))))))))))))))))
  | k + 1 => intro ls st h nc ns hf; exact hf.elim
def bX2_lay : jjB := fun e K k => match k with
  | 0 => (ji_aload 0 (ji_getfR 2 0 (ji_const 16 (ji_const 10 (ji_iload 1 (ji_imul (ji_iadd (ji_iload 2 (ji_iadd (ji_iload 3 (ji_iast (ji_return e))))))))))))
  | _ => fun _ _ _ _ _ => False
def pX2_lay : Nat → Nat := fun k => match k with
  | 0 => 0
  | _ => 0
theorem sX2_lay : jSound bX2_lay pX2_lay MX2_lay := by
  intro e p ev R s m args below meth c hX hr hn hlk K hK k
  match k with
  | 0 => exact (js_aload_n hX dX2_lay_0 rfl (js_getfR hX (ci := 2) (k := 0) (RX2, TX2, 43) rfl (by decide) rfl (Or.inl q1346) (fun _ h => h) dX2_lay_1 (js_const hX (z := 16) (by unfold inI; omega) dX2_lay_4 (Or.inr (Or.inl ⟨16, rfl, rfl, rfl⟩)) (js_const hX (z := 10) (by unfold inI; omega) dX2_lay_6 (Or.inr (Or.inl ⟨10, rfl, rfl, rfl⟩)) (js_iload_n hX dX2_lay_8 rfl (js_imul hX dX2_lay_9 (js_iadd hX dX2_lay_10 (js_iload_n hX dX2_lay_11 rfl (js_iadd hX dX2_lay_12 (js_iload_n hX dX2_lay_13 rfl (js_iast hX dX2_lay_14 (js_return hX hr hlk dX2_lay_15))))))))))))
  | k + 1 => intro ls st h nc ns hf; exact hf.elim
def bX2_fall : jjB := fun e K k => match k with
  | 0 => (ji_const 0 (ji_istore 1 (ji_const 0 (ji_istore 2 (K 1)))))
  | 1 => (ji_iload 2 (ji_const 3 (ji_icmp_ge (ji_iload 1 (ji_ireturn e))
    (ji_iload 1 (ji_aload 0 (ji_iload 2 (ji_callV e MX2_fallFrom 2 2 (ji_iadd (ji_istore 1 (ji_iinc 2 1 (ji_goto (K 1))))))))))))
  | _ => fun _ _ _ _ _ => False
def pX2_fall : Nat → Nat := fun k => match k with
  | 0 => 0
  | 1 => 4
  | _ => 0
theorem sX2_fall : jSound bX2_fall pX2_fall MX2_fall := by
  intro e p ev R s m args below meth c hX hr hn hlk K hK k
  match k with
  | 0 => exact (js_const hX (z := 0) (by unfold inI; omega) dX2_fall_0 (Or.inl ⟨0, rfl, rfl, rfl⟩) (js_istore_n hX dX2_fall_1 rfl (by decide) (js_const hX (z := 0) (by unfold inI; omega) dX2_fall_2 (Or.inl ⟨0, rfl, rfl, rfl⟩) (js_istore_n hX dX2_fall_3 rfl (by decide) (hK 1)))))
  | 1 => exact (js_iload_n hX dX2_fall_4 rfl (js_const hX (z := 3) (by unfold inI; omega) dX2_fall_5 (Or.inl ⟨3, rfl, rfl, rfl⟩) (js_icmp_ge hX (tgt := 23) dX2_fall_6 rfl (js_iload_n hX dX2_fall_23 rfl (js_ireturn hX hr hlk dX2_fall_24))
    (js_iload_n hX dX2_fall_9 rfl (js_aload_n hX dX2_fall_10 rfl (js_iload_n hX dX2_fall_11 rfl (js_callV hX MX2_fallFrom (ci := 2) (n := 1) (RX2, TX2, 43) rfl rfl (lw_V q1753 q1755 qs115 q156 q1756) npX2_fallFrom dX2_fall_12 (js_iadd hX dX2_fall_15 (js_istore_n hX dX2_fall_16 rfl (by decide) (js_iinc hX dX2_fall_17 (by decide) (js_goto hX (tgt := 4) dX2_fall_20 rfl (hK 1))))))))))))
  | k + 2 => intro ls st h nc ns hf; exact hf.elim
def bX2_fallFrom : jjB := fun e K k => match k with
  | 0 => (ji_aload 0 (ji_const 1 (ji_const 0 (ji_callV e MX2_clauseOf 2 3 (ji_istore 2 (ji_aload 0 (ji_getfR 2 0 (ji_const 13 (ji_iload 1 (ji_iadd (ji_iald (ji_istore 3 (ji_const 0 (ji_istore 4 (ji_const 0 (ji_istore 5 (K 1)))))))))))))))))
  | 1 => (ji_iload 5 (ji_iload 3 (ji_icmp_ge (K 3)
    (ji_iload 2 (ji_if_lt (K 3)
    (ji_aload 0 (ji_iload 2 (ji_iload 1 (ji_iload 5 (ji_iload 3 (ji_aload 0 (ji_iload 1 (ji_iload 5 (ji_iload 4 (ji_isub (ji_callV e MX2_bookAt 2 3 (ji_callV e MX2_isFalling 2 6 (ji_if_ne (ji_aload 0 (ji_iload 1 (ji_iload 5 (ji_iload 4 (ji_isub (ji_const 4 (ji_callV e MX2_pull 2 4 (ji_iinc 4 1 (K 2)))))))))
    (ji_goto (K 2))))))))))))))))))))
  | 2 => (ji_iinc 5 1 (ji_goto (K 1)))
  | 3 => (ji_aload 0 (ji_iload 1 (ji_callV e MX2_fullOf 2 2 (ji_aload 0 (ji_getfR 2 0 (ji_const 10 (ji_iload 1 (ji_iadd (ji_iald (ji_icmp_le (ji_iload 4 (ji_ireturn e))
    (ji_aload 0 (ji_iload 1 (ji_aload 0 (ji_getfR 2 0 (ji_const 13 (ji_iload 1 (ji_iadd (ji_iald (ji_const 1 (ji_isub (ji_const 4 (ji_callV e MX2_pull 2 4 (ji_iinc 4 1 (ji_goto (K 3)))))))))))))))))))))))))
  | _ => fun _ _ _ _ _ => False
def pX2_fallFrom : Nat → Nat := fun k => match k with
  | 0 => 0
  | 1 => 23
  | 2 => 72
  | 3 => 78
  | _ => 0
theorem sX2_fallFrom : jSound bX2_fallFrom pX2_fallFrom MX2_fallFrom := by
  intro e p ev R s m args below meth c hX hr hn hlk K hK k
  match k with
  | 0 => exact (js_aload_n hX dX2_fallFrom_0 rfl (js_const hX (z := 1) (by unfold inI; omega) dX2_fallFrom_1 (Or.inl ⟨1, rfl, rfl, rfl⟩) (js_const hX (z := 0) (by unfold inI; omega) dX2_fallFrom_2 (Or.inl ⟨0, rfl, rfl, rfl⟩) (js_callV hX MX2_clauseOf (ci := 2) (n := 2) (RX2, TX2, 43) rfl rfl (lw_V q1666 q1668 qs100 q156 q1669) npX2_clauseOf dX2_fallFrom_3 (js_istore_n hX dX2_fallFrom_6 rfl (by decide) (js_aload_n hX dX2_fallFrom_7 rfl (js_getfR hX (ci := 2) (k := 0) (RX2, TX2, 43) rfl (by decide) rfl (Or.inl q1346) (fun _ h => h) dX2_fallFrom_8 (js_const hX (z := 13) (by unfold inI; omega) dX2_fallFrom_11 (Or.inr (Or.inl ⟨13, rfl, rfl, rfl⟩)) (js_iload_n hX dX2_fallFrom_13 rfl (js_iadd hX dX2_fallFrom_14 (js_iald hX dX2_fallFrom_15 (js_istore_n hX dX2_fallFrom_16 rfl (by decide) (js_const hX (z := 0) (by unfold inI; omega) dX2_fallFrom_17 (Or.inl ⟨0, rfl, rfl, rfl⟩) (js_istore hX dX2_fallFrom_18 (by decide) (js_const hX (z := 0) (by unfold inI; omega) dX2_fallFrom_20 (Or.inl ⟨0, rfl, rfl, rfl⟩) (js_istore hX dX2_fallFrom_21 (by decide) (hK 1)))))))))))))))))
  | 1 => exact (js_iload hX dX2_fallFrom_23 (js_iload_n hX dX2_fallFrom_25 rfl (js_icmp_ge hX (tgt := 78) dX2_fallFrom_26 rfl (hK 3)
    (js_iload_n hX dX2_fallFrom_29 rfl (js_if_lt hX (tgt := 78) dX2_fallFrom_30 rfl (hK 3)
    (js_aload_n hX dX2_fallFrom_33 rfl (js_iload_n hX dX2_fallFrom_34 rfl (js_iload_n hX dX2_fallFrom_35 rfl (js_iload hX dX2_fallFrom_36 (js_iload_n hX dX2_fallFrom_38 rfl (js_aload_n hX dX2_fallFrom_39 rfl (js_iload_n hX dX2_fallFrom_40 rfl (js_iload hX dX2_fallFrom_41 (js_iload hX dX2_fallFrom_43 (js_isub hX dX2_fallFrom_45 (js_callV hX MX2_bookAt (ci := 2) (n := 2) (RX2, TX2, 43) rfl rfl (lw_V q1700 q1702 qs104 q156 q1703) npX2_bookAt dX2_fallFrom_46 (js_callV hX MX2_isFalling (ci := 2) (n := 5) (RX2, TX2, 43) rfl rfl (lw_V q1757 q1759 qs116 q156 q1760) npX2_isFalling dX2_fallFrom_49 (js_if_ne hX (tgt := 58) dX2_fallFrom_52 rfl (js_aload_n hX dX2_fallFrom_58 rfl (js_iload_n hX dX2_fallFrom_59 rfl (js_iload hX dX2_fallFrom_60 (js_iload hX dX2_fallFrom_62 (js_isub hX dX2_fallFrom_64 (js_const hX (z := 4) (by unfold inI; omega) dX2_fallFrom_65 (Or.inl ⟨4, rfl, rfl, rfl⟩) (js_callV hX MX2_pull (ci := 2) (n := 3) (RX2, TX2, 43) rfl rfl (lw_V q1761 q1763 qs117 q156 q1764) npX2_pull dX2_fallFrom_66 (js_iinc hX dX2_fallFrom_69 (by decide) (hK 2)))))))))
    (js_goto hX (tgt := 72) dX2_fallFrom_55 rfl (hK 2))))))))))))))))))))
  | 2 => exact (js_iinc hX dX2_fallFrom_72 (by decide) (js_goto hX (tgt := 23) dX2_fallFrom_75 rfl (hK 1)))
  | 3 => exact (js_aload_n hX dX2_fallFrom_78 rfl (js_iload_n hX dX2_fallFrom_79 rfl (js_callV hX MX2_fullOf (ci := 2) (n := 1) (RX2, TX2, 43) rfl rfl (lw_V q1696 q1698 qs103 q156 q1699) npX2_fullOf dX2_fallFrom_80 (js_aload_n hX dX2_fallFrom_83 rfl (js_getfR hX (ci := 2) (k := 0) (RX2, TX2, 43) rfl (by decide) rfl (Or.inl q1346) (fun _ h => h) dX2_fallFrom_84 (js_const hX (z := 10) (by unfold inI; omega) dX2_fallFrom_87 (Or.inr (Or.inl ⟨10, rfl, rfl, rfl⟩)) (js_iload_n hX dX2_fallFrom_89 rfl (js_iadd hX dX2_fallFrom_90 (js_iald hX dX2_fallFrom_91 (js_icmp_le hX (tgt := 118) dX2_fallFrom_92 rfl (js_iload hX dX2_fallFrom_118 (js_ireturn hX hr hlk dX2_fallFrom_120))
    (js_aload_n hX dX2_fallFrom_95 rfl (js_iload_n hX dX2_fallFrom_96 rfl (js_aload_n hX dX2_fallFrom_97 rfl (js_getfR hX (ci := 2) (k := 0) (RX2, TX2, 43) rfl (by decide) rfl (Or.inl q1346) (fun _ h => h) dX2_fallFrom_98 (js_const hX (z := 13) (by unfold inI; omega) dX2_fallFrom_101 (Or.inr (Or.inl ⟨13, rfl, rfl, rfl⟩)) (js_iload_n hX dX2_fallFrom_103 rfl (js_iadd hX dX2_fallFrom_104 (js_iald hX dX2_fallFrom_105 (js_const hX (z := 1) (by unfold inI; omega) dX2_fallFrom_106 (Or.inl ⟨1, rfl, rfl, rfl⟩) (js_isub hX dX2_fallFrom_107 (js_const hX (z := 4) (by unfold inI; omega) dX2_fallFrom_108 (Or.inl ⟨4, rfl, rfl, rfl⟩) (js_callV hX MX2_pull (ci := 2) (n := 3) (RX2, TX2, 43) rfl rfl (lw_V q1761 q1763 qs117 q156 q1764) npX2_pull dX2_fallFrom_109 (js_iinc hX dX2_fallFrom_112 (by decide) (js_goto hX (tgt := 78) dX2_fallFrom_115 rfl (hK 3)))))))))))))))))))))))))
  | k + 4 => intro ls st h nc ns hf; exact hf.elim
def bX2_isFalling : jjB := fun e K k => match k with
  | 0 => (ji_aload 0 (ji_iload 5 (ji_callV e MX2_name 2 2 (ji_aload 0 (ji_getfR 2 22 (ji_const 12 (ji_iload 2 (ji_iast (ji_aload 0 (ji_getfR 2 22 (ji_const 13 (ji_iload 3 (ji_iast (ji_aload 0 (ji_getfR 2 22 (ji_const 14 (ji_iload 4 (ji_iast (ji_aload 0 (ji_iload 1 (ji_callV e MX2_work 2 2 (ji_aload 0 (ji_getfR 2 24 (ji_const 0 (ji_zald (ji_zreturn e))))))))))))))))))))))))))
  | _ => fun _ _ _ _ _ => False
def pX2_isFalling : Nat → Nat := fun k => match k with
  | 0 => 0
  | _ => 0
theorem sX2_isFalling : jSound bX2_isFalling pX2_isFalling MX2_isFalling := by
  intro e p ev R s m args below meth c hX hr hn hlk K hK k
  match k with
  | 0 => exact (js_aload_n hX dX2_isFalling_0 rfl (js_iload hX dX2_isFalling_1 (js_callV hX MX2_name (ci := 2) (n := 1) (RX2, TX2, 43) rfl rfl (lw_V q1670 q1672 qs101 q156 q1673) npX2_name dX2_isFalling_3 (js_aload_n hX dX2_isFalling_6 rfl (js_getfR hX (ci := 2) (k := 22) (RX2, TX2, 43) rfl (by decide) rfl (Or.inl q1366) (fun _ h => h) dX2_isFalling_7 (js_const hX (z := 12) (by unfold inI; omega) dX2_isFalling_10 (Or.inr (Or.inl ⟨12, rfl, rfl, rfl⟩)) (js_iload_n hX dX2_isFalling_12 rfl (js_iast hX dX2_isFalling_13 (js_aload_n hX dX2_isFalling_14 rfl (js_getfR hX (ci := 2) (k := 22) (RX2, TX2, 43) rfl (by decide) rfl (Or.inl q1366) (fun _ h => h) dX2_isFalling_15 (js_const hX (z := 13) (by unfold inI; omega) dX2_isFalling_18 (Or.inr (Or.inl ⟨13, rfl, rfl, rfl⟩)) (js_iload_n hX dX2_isFalling_20 rfl (js_iast hX dX2_isFalling_21 (js_aload_n hX dX2_isFalling_22 rfl (js_getfR hX (ci := 2) (k := 22) (RX2, TX2, 43) rfl (by decide) rfl (Or.inl q1366) (fun _ h => h) dX2_isFalling_23 (js_const hX (z := 14) (by unfold inI; omega) dX2_isFalling_26 (Or.inr (Or.inl ⟨14, rfl, rfl, rfl⟩)) (js_iload hX dX2_isFalling_28 (js_iast hX dX2_isFalling_30 (js_aload_n hX dX2_isFalling_31 rfl (js_iload_n hX dX2_isFalling_32 rfl (js_callV hX MX2_work (ci := 2) (n := 1) (RX2, TX2, 43) rfl rfl (lw_V q1674 q1676 qs102 q156 q1677) npX2_work dX2_isFalling_33 (js_aload_n hX dX2_isFalling_36 rfl (js_getfR hX (ci := 2) (k := 24) (RX2, TX2, 43) rfl (by decide) rfl (Or.inl q1368) (fun _ h => h) dX2_isFalling_37 (js_const hX (z := 0) (by unfold inI; omega) dX2_isFalling_40 (Or.inl ⟨0, rfl, rfl, rfl⟩) (js_zald hX dX2_isFalling_41 (js_zreturn hX hr hlk dX2_isFalling_42))))))))))))))))))))))))))
  | k + 1 => intro ls st h nc ns hf; exact hf.elim
def bX2_pull : jjB := fun e K k => match k with
  | 0 => (ji_aload 0 (ji_aload 0 (ji_iload 1 (ji_iload 2 (ji_callV e MX2_bookAt 2 3 (ji_const 5 (ji_iload 3 (ji_callV e MX2_set 2 4 (ji_aload 0 (ji_getfR 2 0 (ji_const 13 (ji_iload 1 (ji_iadd (ji_dup2 (ji_iald (ji_const 1 (ji_isub (ji_iast (ji_iload 2 (ji_istore 4 (K 1)))))))))))))))))))))
  | 1 => (ji_iload 4 (ji_aload 0 (ji_getfR 2 0 (ji_const 13 (ji_iload 1 (ji_iadd (ji_iald (ji_icmp_ge (ji_return e)
    (ji_aload 0 (ji_iload 1 (ji_iload 4 (ji_aload 0 (ji_iload 1 (ji_iload 4 (ji_const 1 (ji_iadd (ji_callV e MX2_bookAt 2 3 (ji_callV e MX2_lay 2 4 (ji_iinc 4 1 (ji_goto (K 1)))))))))))))))))))))
  | _ => fun _ _ _ _ _ => False
def pX2_pull : Nat → Nat := fun k => match k with
  | 0 => 0
  | 1 => 28
  | _ => 0
theorem sX2_pull : jSound bX2_pull pX2_pull MX2_pull := by
  intro e p ev R s m args below meth c hX hr hn hlk K hK k
  match k with
  | 0 => exact (js_aload_n hX dX2_pull_0 rfl (js_aload_n hX dX2_pull_1 rfl (js_iload_n hX dX2_pull_2 rfl (js_iload_n hX dX2_pull_3 rfl (js_callV hX MX2_bookAt (ci := 2) (n := 2) (RX2, TX2, 43) rfl rfl (lw_V q1700 q1702 qs104 q156 q1703) npX2_bookAt dX2_pull_4 (js_const hX (z := 5) (by unfold inI; omega) dX2_pull_7 (Or.inl ⟨5, rfl, rfl, rfl⟩) (js_iload_n hX dX2_pull_8 rfl (js_callV hX MX2_set (ci := 2) (n := 3) (RX2, TX2, 43) rfl rfl (lw_V q1482 q1484 qs66 q156 q1485) npX2_set dX2_pull_9 (js_aload_n hX dX2_pull_12 rfl (js_getfR hX (ci := 2) (k := 0) (RX2, TX2, 43) rfl (by decide) rfl (Or.inl q1346) (fun _ h => h) dX2_pull_13 (js_const hX (z := 13) (by unfold inI; omega) dX2_pull_16 (Or.inr (Or.inl ⟨13, rfl, rfl, rfl⟩)) (js_iload_n hX dX2_pull_18 rfl (js_iadd hX dX2_pull_19 (js_dup2 hX dX2_pull_20 (js_iald hX dX2_pull_21 (js_const hX (z := 1) (by unfold inI; omega) dX2_pull_22 (Or.inl ⟨1, rfl, rfl, rfl⟩) (js_isub hX dX2_pull_23 (js_iast hX dX2_pull_24 (js_iload_n hX dX2_pull_25 rfl (js_istore hX dX2_pull_26 (by decide) (hK 1)))))))))))))))))))))
  | 1 => exact (js_iload hX dX2_pull_28 (js_aload_n hX dX2_pull_30 rfl (js_getfR hX (ci := 2) (k := 0) (RX2, TX2, 43) rfl (by decide) rfl (Or.inl q1346) (fun _ h => h) dX2_pull_31 (js_const hX (z := 13) (by unfold inI; omega) dX2_pull_34 (Or.inr (Or.inl ⟨13, rfl, rfl, rfl⟩)) (js_iload_n hX dX2_pull_36 rfl (js_iadd hX dX2_pull_37 (js_iald hX dX2_pull_38 (js_icmp_ge hX (tgt := 64) dX2_pull_39 rfl (js_return hX hr hlk dX2_pull_64)
    (js_aload_n hX dX2_pull_42 rfl (js_iload_n hX dX2_pull_43 rfl (js_iload hX dX2_pull_44 (js_aload_n hX dX2_pull_46 rfl (js_iload_n hX dX2_pull_47 rfl (js_iload hX dX2_pull_48 (js_const hX (z := 1) (by unfold inI; omega) dX2_pull_50 (Or.inl ⟨1, rfl, rfl, rfl⟩) (js_iadd hX dX2_pull_51 (js_callV hX MX2_bookAt (ci := 2) (n := 2) (RX2, TX2, 43) rfl rfl (lw_V q1700 q1702 qs104 q156 q1703) npX2_bookAt dX2_pull_52 (js_callV hX MX2_lay (ci := 2) (n := 3) (RX2, TX2, 43) rfl rfl (lw_V q1745 q1747 qs113 q156 q1748) npX2_lay dX2_pull_55 (js_iinc hX dX2_pull_58 (by decide) (js_goto hX (tgt := 28) dX2_pull_61 rfl (hK 1)))))))))))))))))))))
  | k + 2 => intro ls st h nc ns hf; exact hf.elim
def bX2_nudge : jjB := fun e K k => match k with
  | 0 => (ji_iload 1 (ji_callS e MX2_isShelf 1 (ji_if_eq (K 1)
    (ji_iload 2 (ji_const 0 (ji_aload 0 (ji_getfR 2 0 (ji_const 13 (ji_iload 1 (ji_iadd (ji_iald (ji_const 2 (ji_isub (ji_callS e MX2_isIn 3 (ji_if_ne (ji_aload 0 (ji_callV e MX2_keep 2 1 (ji_aload 0 (ji_iload 1 (ji_iload 2 (ji_callV e MX2_exchange 2 3 (ji_aload 0 (ji_iload 1 (ji_iload 2 (ji_callV e MX2_bookAt 2 3 (ji_ireturn e)))))))))))
    (K 1))))))))))))))))
  | 1 => (ji_const (-1) (ji_ireturn e))
  | _ => fun _ _ _ _ _ => False
def pX2_nudge : Nat → Nat := fun k => match k with
  | 0 => 0
  | 1 => 26
  | _ => 0
theorem sX2_nudge : jSound bX2_nudge pX2_nudge MX2_nudge := by
  intro e p ev R s m args below meth c hX hr hn hlk K hK k
  match k with
  | 0 => exact (js_iload_n hX dX2_nudge_0 rfl (js_callS hX MX2_isShelf (n := 1) (lw_S q1693 q1694 q156 q1695) npX2_isShelf dX2_nudge_1 (js_if_eq hX (tgt := 26) dX2_nudge_4 rfl (hK 1)
    (js_iload_n hX dX2_nudge_7 rfl (js_const hX (z := 0) (by unfold inI; omega) dX2_nudge_8 (Or.inl ⟨0, rfl, rfl, rfl⟩) (js_aload_n hX dX2_nudge_9 rfl (js_getfR hX (ci := 2) (k := 0) (RX2, TX2, 43) rfl (by decide) rfl (Or.inl q1346) (fun _ h => h) dX2_nudge_10 (js_const hX (z := 13) (by unfold inI; omega) dX2_nudge_13 (Or.inr (Or.inl ⟨13, rfl, rfl, rfl⟩)) (js_iload_n hX dX2_nudge_15 rfl (js_iadd hX dX2_nudge_16 (js_iald hX dX2_nudge_17 (js_const hX (z := 2) (by unfold inI; omega) dX2_nudge_18 (Or.inl ⟨2, rfl, rfl, rfl⟩) (js_isub hX dX2_nudge_19 (js_callS hX MX2_isIn (n := 3) (lw_S q1479 q1480 q156 q1481) npX2_isIn dX2_nudge_20 (js_if_ne hX (tgt := 28) dX2_nudge_23 rfl (js_aload_n hX dX2_nudge_28 rfl (js_callV hX MX2_keep (ci := 2) (n := 0) (RX2, TX2, 43) rfl rfl (lw_V q1721 q1723 qs107 q156 q1724) npX2_keep dX2_nudge_29 (js_aload_n hX dX2_nudge_32 rfl (js_iload_n hX dX2_nudge_33 rfl (js_iload_n hX dX2_nudge_34 rfl (js_callV hX MX2_exchange (ci := 2) (n := 2) (RX2, TX2, 43) rfl rfl (lw_V q1741 q1743 qs112 q156 q1744) npX2_exchange dX2_nudge_35 (js_aload_n hX dX2_nudge_38 rfl (js_iload_n hX dX2_nudge_39 rfl (js_iload_n hX dX2_nudge_40 rfl (js_callV hX MX2_bookAt (ci := 2) (n := 2) (RX2, TX2, 43) rfl rfl (lw_V q1700 q1702 qs104 q156 q1703) npX2_bookAt dX2_nudge_41 (js_ireturn hX hr hlk dX2_nudge_44)))))))))))
    (hK 1))))))))))))))))
  | 1 => exact (js_const hX (z := (-1)) (by unfold inI; omega) dX2_nudge_26 (Or.inl ⟨(-1), rfl, rfl, rfl⟩) (js_ireturn hX hr hlk dX2_nudge_27))
  | k + 2 => intro ls st h nc ns hf; exact hf.elim
def bX2_take : jjB := fun e K k => match k with
  | 0 => (ji_aload 0 (ji_iload 1 (ji_callV e MX2_isBook 2 2 (ji_if_eq (K 1)
    (ji_aload 0 (ji_iload 1 (ji_const 5 (ji_callV e MX2_get 2 3 (ji_const 3 (ji_icmp_ne (ji_aload 0 (ji_callV e MX2_keep 2 1 (ji_aload 0 (ji_iload 1 (ji_const 5 (ji_callV e MX2_get 2 3 (ji_istore 2 (ji_iload 2 (ji_const 3 (ji_icmp_ge (ji_aload 0 (ji_iload 1 (ji_const 5 (ji_const 3 (ji_callV e MX2_set 2 4 (K 2))))))
    (ji_aload 0 (ji_iload 2 (ji_aload 0 (ji_iload 1 (ji_callV e MX2_placeOf 2 2 (ji_const 3 (ji_callV e MX2_pull 2 4 (ji_goto (K 2)))))))))))))))))))
    (K 1)))))))))))
  | 1 => (ji_const (-1) (ji_ireturn e))
  | 2 => (ji_iload 2 (ji_ireturn e))
  | _ => fun _ _ _ _ _ => False
def pX2_take : Nat → Nat := fun k => match k with
  | 0 => 0
  | 1 => 18
  | 2 => 57
  | _ => 0
theorem sX2_take : jSound bX2_take pX2_take MX2_take := by
  intro e p ev R s m args below meth c hX hr hn hlk K hK k
  match k with
  | 0 => exact (js_aload_n hX dX2_take_0 rfl (js_iload_n hX dX2_take_1 rfl (js_callV hX MX2_isBook (ci := 2) (n := 1) (RX2, TX2, 43) rfl rfl (lw_V q1650 q1652 qs96 q156 q1653) npX2_isBook dX2_take_2 (js_if_eq hX (tgt := 18) dX2_take_5 rfl (hK 1)
    (js_aload_n hX dX2_take_8 rfl (js_iload_n hX dX2_take_9 rfl (js_const hX (z := 5) (by unfold inI; omega) dX2_take_10 (Or.inl ⟨5, rfl, rfl, rfl⟩) (js_callV hX MX2_get (ci := 2) (n := 2) (RX2, TX2, 43) rfl rfl (lw_V q1658 q1660 qs98 q156 q1661) npX2_get dX2_take_11 (js_const hX (z := 3) (by unfold inI; omega) dX2_take_14 (Or.inl ⟨3, rfl, rfl, rfl⟩) (js_icmp_ne hX (tgt := 20) dX2_take_15 rfl (js_aload_n hX dX2_take_20 rfl (js_callV hX MX2_keep (ci := 2) (n := 0) (RX2, TX2, 43) rfl rfl (lw_V q1721 q1723 qs107 q156 q1724) npX2_keep dX2_take_21 (js_aload_n hX dX2_take_24 rfl (js_iload_n hX dX2_take_25 rfl (js_const hX (z := 5) (by unfold inI; omega) dX2_take_26 (Or.inl ⟨5, rfl, rfl, rfl⟩) (js_callV hX MX2_get (ci := 2) (n := 2) (RX2, TX2, 43) rfl rfl (lw_V q1658 q1660 qs98 q156 q1661) npX2_get dX2_take_27 (js_istore_n hX dX2_take_30 rfl (by decide) (js_iload_n hX dX2_take_31 rfl (js_const hX (z := 3) (by unfold inI; omega) dX2_take_32 (Or.inl ⟨3, rfl, rfl, rfl⟩) (js_icmp_ge hX (tgt := 50) dX2_take_33 rfl (js_aload_n hX dX2_take_50 rfl (js_iload_n hX dX2_take_51 rfl (js_const hX (z := 5) (by unfold inI; omega) dX2_take_52 (Or.inl ⟨5, rfl, rfl, rfl⟩) (js_const hX (z := 3) (by unfold inI; omega) dX2_take_53 (Or.inl ⟨3, rfl, rfl, rfl⟩) (js_callV hX MX2_set (ci := 2) (n := 3) (RX2, TX2, 43) rfl rfl (lw_V q1482 q1484 qs66 q156 q1485) npX2_set dX2_take_54 (hK 2))))))
    (js_aload_n hX dX2_take_36 rfl (js_iload_n hX dX2_take_37 rfl (js_aload_n hX dX2_take_38 rfl (js_iload_n hX dX2_take_39 rfl (js_callV hX MX2_placeOf (ci := 2) (n := 1) (RX2, TX2, 43) rfl rfl (lw_V q1773 q1775 qs118 q156 q1776) npX2_placeOf dX2_take_40 (js_const hX (z := 3) (by unfold inI; omega) dX2_take_43 (Or.inl ⟨3, rfl, rfl, rfl⟩) (js_callV hX MX2_pull (ci := 2) (n := 3) (RX2, TX2, 43) rfl rfl (lw_V q1761 q1763 qs117 q156 q1764) npX2_pull dX2_take_44 (js_goto hX (tgt := 57) dX2_take_47 rfl (hK 2)))))))))))))))))))
    (hK 1)))))))))))
  | 1 => exact (js_const hX (z := (-1)) (by unfold inI; omega) dX2_take_18 (Or.inl ⟨(-1), rfl, rfl, rfl⟩) (js_ireturn hX hr hlk dX2_take_19))
  | 2 => exact (js_iload_n hX dX2_take_57 rfl (js_ireturn hX hr hlk dX2_take_58))
  | k + 3 => intro ls st h nc ns hf; exact hf.elim
def bX2_placeOf : jjB := fun e K k => match k with
  | 0 => (ji_const 0 (ji_istore 2 (K 1)))
  | 1 => (ji_aload 0 (ji_aload 0 (ji_iload 1 (ji_const 5 (ji_callV e MX2_get 2 3 (ji_iload 2 (ji_callV e MX2_bookAt 2 3 (ji_iload 1 (ji_icmp_eq (ji_iload 2 (ji_ireturn e))
    (ji_iinc 2 1 (ji_goto (K 1))))))))))))
  | _ => fun _ _ _ _ _ => False
def pX2_placeOf : Nat → Nat := fun k => match k with
  | 0 => 0
  | 1 => 2
  | _ => 0
theorem sX2_placeOf : jSound bX2_placeOf pX2_placeOf MX2_placeOf := by
  intro e p ev R s m args below meth c hX hr hn hlk K hK k
  match k with
  | 0 => exact (js_const hX (z := 0) (by unfold inI; omega) dX2_placeOf_0 (Or.inl ⟨0, rfl, rfl, rfl⟩) (js_istore_n hX dX2_placeOf_1 rfl (by decide) (hK 1)))
  | 1 => exact (js_aload_n hX dX2_placeOf_2 rfl (js_aload_n hX dX2_placeOf_3 rfl (js_iload_n hX dX2_placeOf_4 rfl (js_const hX (z := 5) (by unfold inI; omega) dX2_placeOf_5 (Or.inl ⟨5, rfl, rfl, rfl⟩) (js_callV hX MX2_get (ci := 2) (n := 2) (RX2, TX2, 43) rfl rfl (lw_V q1658 q1660 qs98 q156 q1661) npX2_get dX2_placeOf_6 (js_iload_n hX dX2_placeOf_9 rfl (js_callV hX MX2_bookAt (ci := 2) (n := 2) (RX2, TX2, 43) rfl rfl (lw_V q1700 q1702 qs104 q156 q1703) npX2_bookAt dX2_placeOf_10 (js_iload_n hX dX2_placeOf_13 rfl (js_icmp_eq hX (tgt := 23) dX2_placeOf_14 rfl (js_iload_n hX dX2_placeOf_23 rfl (js_ireturn hX hr hlk dX2_placeOf_24))
    (js_iinc hX dX2_placeOf_17 (by decide) (js_goto hX (tgt := 2) dX2_placeOf_20 rfl (hK 1))))))))))))
  | k + 2 => intro ls st h nc ns hf; exact hf.elim
def bX2_put : jjB := fun e K k => match k with
  | 0 => (ji_aload 0 (ji_iload 1 (ji_callV e MX2_isBook 2 2 (ji_if_eq (K 1)
    (ji_aload 0 (ji_iload 1 (ji_const 5 (ji_callV e MX2_get 2 3 (ji_const 3 (ji_icmp_lt (K 1)
    (ji_iload 2 (ji_callS e MX2_isShelf 1 (ji_if_eq (K 1)
    (ji_iload 3 (ji_const 0 (ji_aload 0 (ji_getfR 2 0 (ji_const 13 (ji_iload 2 (ji_iadd (ji_iald (ji_callS e MX2_isIn 3 (ji_if_ne (ji_aload 0 (ji_iload 2 (ji_callV e MX2_fullOf 2 2 (ji_aload 0 (ji_iload 1 (ji_callV e MX2_thickNow 2 2 (ji_iadd (ji_aload 0 (ji_getfR 2 0 (ji_const 10 (ji_iload 2 (ji_iadd (ji_iald (ji_icmp_le (ji_aload 0 (ji_callV e MX2_keep 2 1 (ji_aload 0 (ji_iload 1 (ji_iload 2 (ji_iload 3 (ji_callV e MX2_setAt 2 4 (ji_aload 0 (ji_getfR 2 0 (ji_const 13 (ji_iload 2 (ji_iadd (ji_iald (ji_ireturn e))))))))))))))
    (ji_const (-1) (ji_ireturn e))))))))))))))))
    (K 1))))))))))))))))))))))))
  | 1 => (ji_const (-1) (ji_ireturn e))
  | _ => fun _ _ _ _ _ => False
def pX2_put : Nat → Nat := fun k => match k with
  | 0 => 0
  | 1 => 42
  | _ => 0
theorem sX2_put : jSound bX2_put pX2_put MX2_put := by
  intro e p ev R s m args below meth c hX hr hn hlk K hK k
  match k with
  | 0 => exact (js_aload_n hX dX2_put_0 rfl (js_iload_n hX dX2_put_1 rfl (js_callV hX MX2_isBook (ci := 2) (n := 1) (RX2, TX2, 43) rfl rfl (lw_V q1650 q1652 qs96 q156 q1653) npX2_isBook dX2_put_2 (js_if_eq hX (tgt := 42) dX2_put_5 rfl (hK 1)
    (js_aload_n hX dX2_put_8 rfl (js_iload_n hX dX2_put_9 rfl (js_const hX (z := 5) (by unfold inI; omega) dX2_put_10 (Or.inl ⟨5, rfl, rfl, rfl⟩) (js_callV hX MX2_get (ci := 2) (n := 2) (RX2, TX2, 43) rfl rfl (lw_V q1658 q1660 qs98 q156 q1661) npX2_get dX2_put_11 (js_const hX (z := 3) (by unfold inI; omega) dX2_put_14 (Or.inl ⟨3, rfl, rfl, rfl⟩) (js_icmp_lt hX (tgt := 42) dX2_put_15 rfl (hK 1)
    (js_iload_n hX dX2_put_18 rfl (js_callS hX MX2_isShelf (n := 1) (lw_S q1693 q1694 q156 q1695) npX2_isShelf dX2_put_19 (js_if_eq hX (tgt := 42) dX2_put_22 rfl (hK 1)
    (js_iload_n hX dX2_put_25 rfl (js_const hX (z := 0) (by unfold inI; omega) dX2_put_26 (Or.inl ⟨0, rfl, rfl, rfl⟩) (js_aload_n hX dX2_put_27 rfl (js_getfR hX (ci := 2) (k := 0) (RX2, TX2, 43) rfl (by decide) rfl (Or.inl q1346) (fun _ h => h) dX2_put_28 (js_const hX (z := 13) (by unfold inI; omega) dX2_put_31 (Or.inr (Or.inl ⟨13, rfl, rfl, rfl⟩)) (js_iload_n hX dX2_put_33 rfl (js_iadd hX dX2_put_34 (js_iald hX dX2_put_35 (js_callS hX MX2_isIn (n := 3) (lw_S q1479 q1480 q156 q1481) npX2_isIn dX2_put_36 (js_if_ne hX (tgt := 44) dX2_put_39 rfl (js_aload_n hX dX2_put_44 rfl (js_iload_n hX dX2_put_45 rfl (js_callV hX MX2_fullOf (ci := 2) (n := 1) (RX2, TX2, 43) rfl rfl (lw_V q1696 q1698 qs103 q156 q1699) npX2_fullOf dX2_put_46 (js_aload_n hX dX2_put_49 rfl (js_iload_n hX dX2_put_50 rfl (js_callV hX MX2_thickNow (ci := 2) (n := 1) (RX2, TX2, 43) rfl rfl (lw_V q1704 q1706 qs105 q156 q1707) npX2_thickNow dX2_put_51 (js_iadd hX dX2_put_54 (js_aload_n hX dX2_put_55 rfl (js_getfR hX (ci := 2) (k := 0) (RX2, TX2, 43) rfl (by decide) rfl (Or.inl q1346) (fun _ h => h) dX2_put_56 (js_const hX (z := 10) (by unfold inI; omega) dX2_put_59 (Or.inr (Or.inl ⟨10, rfl, rfl, rfl⟩)) (js_iload_n hX dX2_put_61 rfl (js_iadd hX dX2_put_62 (js_iald hX dX2_put_63 (js_icmp_le hX (tgt := 69) dX2_put_64 rfl (js_aload_n hX dX2_put_69 rfl (js_callV hX MX2_keep (ci := 2) (n := 0) (RX2, TX2, 43) rfl rfl (lw_V q1721 q1723 qs107 q156 q1724) npX2_keep dX2_put_70 (js_aload_n hX dX2_put_73 rfl (js_iload_n hX dX2_put_74 rfl (js_iload_n hX dX2_put_75 rfl (js_iload_n hX dX2_put_76 rfl (js_callV hX MX2_setAt (ci := 2) (n := 3) (RX2, TX2, 43) rfl rfl (lw_V q1781 q1783 qs119 q156 q1784) npX2_setAt dX2_put_77 (js_aload_n hX dX2_put_80 rfl (js_getfR hX (ci := 2) (k := 0) (RX2, TX2, 43) rfl (by decide) rfl (Or.inl q1346) (fun _ h => h) dX2_put_81 (js_const hX (z := 13) (by unfold inI; omega) dX2_put_84 (Or.inr (Or.inl ⟨13, rfl, rfl, rfl⟩)) (js_iload_n hX dX2_put_86 rfl (js_iadd hX dX2_put_87 (js_iald hX dX2_put_88 (js_ireturn hX hr hlk dX2_put_89))))))))))))))
    (js_const hX (z := (-1)) (by unfold inI; omega) dX2_put_67 (Or.inl ⟨(-1), rfl, rfl, rfl⟩) (js_ireturn hX hr hlk dX2_put_68))))))))))))))))
    (hK 1))))))))))))))))))))))))
  | 1 => exact (js_const hX (z := (-1)) (by unfold inI; omega) dX2_put_42 (Or.inl ⟨(-1), rfl, rfl, rfl⟩) (js_ireturn hX hr hlk dX2_put_43))
  | k + 2 => intro ls st h nc ns hf; exact hf.elim
def bX2_setAt : jjB := fun e K k => match k with
  | 0 => (ji_aload 0 (ji_getfR 2 0 (ji_const 13 (ji_iload 2 (ji_iadd (ji_iald (ji_istore 4 (K 1))))))))
  | 1 => (ji_iload 4 (ji_iload 3 (ji_icmp_le (ji_aload 0 (ji_iload 2 (ji_iload 3 (ji_iload 1 (ji_callV e MX2_lay 2 4 (ji_aload 0 (ji_getfR 2 0 (ji_const 13 (ji_iload 2 (ji_iadd (ji_dup2 (ji_iald (ji_const 1 (ji_iadd (ji_iast (ji_aload 0 (ji_iload 1 (ji_const 5 (ji_iload 2 (ji_callV e MX2_set 2 4 (ji_return e)))))))))))))))))))))
    (ji_aload 0 (ji_iload 2 (ji_iload 4 (ji_aload 0 (ji_iload 2 (ji_iload 4 (ji_const 1 (ji_isub (ji_callV e MX2_bookAt 2 3 (ji_callV e MX2_lay 2 4 (ji_iinc 4 (-1) (ji_goto (K 1))))))))))))))))
  | _ => fun _ _ _ _ _ => False
def pX2_setAt : Nat → Nat := fun k => match k with
  | 0 => 0
  | 1 => 11
  | _ => 0
theorem sX2_setAt : jSound bX2_setAt pX2_setAt MX2_setAt := by
  intro e p ev R s m args below meth c hX hr hn hlk K hK k
  match k with
  | 0 => exact (js_aload_n hX dX2_setAt_0 rfl (js_getfR hX (ci := 2) (k := 0) (RX2, TX2, 43) rfl (by decide) rfl (Or.inl q1346) (fun _ h => h) dX2_setAt_1 (js_const hX (z := 13) (by unfold inI; omega) dX2_setAt_4 (Or.inr (Or.inl ⟨13, rfl, rfl, rfl⟩)) (js_iload_n hX dX2_setAt_6 rfl (js_iadd hX dX2_setAt_7 (js_iald hX dX2_setAt_8 (js_istore hX dX2_setAt_9 (by decide) (hK 1))))))))
  | 1 => exact (js_iload hX dX2_setAt_11 (js_iload_n hX dX2_setAt_13 rfl (js_icmp_le hX (tgt := 39) dX2_setAt_14 rfl (js_aload_n hX dX2_setAt_39 rfl (js_iload_n hX dX2_setAt_40 rfl (js_iload_n hX dX2_setAt_41 rfl (js_iload_n hX dX2_setAt_42 rfl (js_callV hX MX2_lay (ci := 2) (n := 3) (RX2, TX2, 43) rfl rfl (lw_V q1745 q1747 qs113 q156 q1748) npX2_lay dX2_setAt_43 (js_aload_n hX dX2_setAt_46 rfl (js_getfR hX (ci := 2) (k := 0) (RX2, TX2, 43) rfl (by decide) rfl (Or.inl q1346) (fun _ h => h) dX2_setAt_47 (js_const hX (z := 13) (by unfold inI; omega) dX2_setAt_50 (Or.inr (Or.inl ⟨13, rfl, rfl, rfl⟩)) (js_iload_n hX dX2_setAt_52 rfl (js_iadd hX dX2_setAt_53 (js_dup2 hX dX2_setAt_54 (js_iald hX dX2_setAt_55 (js_const hX (z := 1) (by unfold inI; omega) dX2_setAt_56 (Or.inl ⟨1, rfl, rfl, rfl⟩) (js_iadd hX dX2_setAt_57 (js_iast hX dX2_setAt_58 (js_aload_n hX dX2_setAt_59 rfl (js_iload_n hX dX2_setAt_60 rfl (js_const hX (z := 5) (by unfold inI; omega) dX2_setAt_61 (Or.inl ⟨5, rfl, rfl, rfl⟩) (js_iload_n hX dX2_setAt_62 rfl (js_callV hX MX2_set (ci := 2) (n := 3) (RX2, TX2, 43) rfl rfl (lw_V q1482 q1484 qs66 q156 q1485) npX2_set dX2_setAt_63 (js_return hX hr hlk dX2_setAt_66)))))))))))))))))))))
    (js_aload_n hX dX2_setAt_17 rfl (js_iload_n hX dX2_setAt_18 rfl (js_iload hX dX2_setAt_19 (js_aload_n hX dX2_setAt_21 rfl (js_iload_n hX dX2_setAt_22 rfl (js_iload hX dX2_setAt_23 (js_const hX (z := 1) (by unfold inI; omega) dX2_setAt_25 (Or.inl ⟨1, rfl, rfl, rfl⟩) (js_isub hX dX2_setAt_26 (js_callV hX MX2_bookAt (ci := 2) (n := 2) (RX2, TX2, 43) rfl rfl (lw_V q1700 q1702 qs104 q156 q1703) npX2_bookAt dX2_setAt_27 (js_callV hX MX2_lay (ci := 2) (n := 3) (RX2, TX2, 43) rfl rfl (lw_V q1745 q1747 qs113 q156 q1748) npX2_lay dX2_setAt_30 (js_iinc hX dX2_setAt_33 (by decide) (js_goto hX (tgt := 11) dX2_setAt_36 rfl (hK 1))))))))))))))))
  | k + 2 => intro ls st h nc ns hf; exact hf.elim
def bX2_wet : jjB := fun e K k => match k with
  | 0 => (ji_aload 0 (ji_getfR 2 0 (ji_const 2 (ji_iald (ji_iload 1 (ji_if_eq (ji_const 0 (K 1))
    (ji_const 1 (ji_goto (K 1)))))))))
  | 1 => (ji_icmp_ne (ji_aload 0 (ji_callV e MX2_keep 2 1 (ji_aload 0 (ji_getfR 2 0 (ji_const 2 (ji_iload 1 (ji_if_eq (ji_const 0 (K 2))
    (ji_const 1 (ji_goto (K 2))))))))))
    (ji_const (-1) (ji_ireturn e)))
  | 2 => (ji_iast (ji_iload 1 (ji_if_eq (ji_const 0 (K 3))
    (ji_aload 0 (ji_callV e MX2_fall 2 1 (ji_goto (K 3)))))))
  | 3 => (ji_ireturn e)
  | _ => fun _ _ _ _ _ => False
def pX2_wet : Nat → Nat := fun k => match k with
  | 0 => 0
  | 1 => 15
  | 2 => 38
  | 3 => 51
  | _ => 0
theorem sX2_wet : jSound bX2_wet pX2_wet MX2_wet := by
  intro e p ev R s m args below meth c hX hr hn hlk K hK k
  match k with
  | 0 => exact (js_aload_n hX dX2_wet_0 rfl (js_getfR hX (ci := 2) (k := 0) (RX2, TX2, 43) rfl (by decide) rfl (Or.inl q1346) (fun _ h => h) dX2_wet_1 (js_const hX (z := 2) (by unfold inI; omega) dX2_wet_4 (Or.inl ⟨2, rfl, rfl, rfl⟩) (js_iald hX dX2_wet_5 (js_iload_n hX dX2_wet_6 rfl (js_if_eq hX (tgt := 14) dX2_wet_7 rfl (js_const hX (z := 0) (by unfold inI; omega) dX2_wet_14 (Or.inl ⟨0, rfl, rfl, rfl⟩) (hK 1))
    (js_const hX (z := 1) (by unfold inI; omega) dX2_wet_10 (Or.inl ⟨1, rfl, rfl, rfl⟩) (js_goto hX (tgt := 15) dX2_wet_11 rfl (hK 1)))))))))
  | 1 => exact (js_icmp_ne hX (tgt := 20) dX2_wet_15 rfl (js_aload_n hX dX2_wet_20 rfl (js_callV hX MX2_keep (ci := 2) (n := 0) (RX2, TX2, 43) rfl rfl (lw_V q1721 q1723 qs107 q156 q1724) npX2_keep dX2_wet_21 (js_aload_n hX dX2_wet_24 rfl (js_getfR hX (ci := 2) (k := 0) (RX2, TX2, 43) rfl (by decide) rfl (Or.inl q1346) (fun _ h => h) dX2_wet_25 (js_const hX (z := 2) (by unfold inI; omega) dX2_wet_28 (Or.inl ⟨2, rfl, rfl, rfl⟩) (js_iload_n hX dX2_wet_29 rfl (js_if_eq hX (tgt := 37) dX2_wet_30 rfl (js_const hX (z := 0) (by unfold inI; omega) dX2_wet_37 (Or.inl ⟨0, rfl, rfl, rfl⟩) (hK 2))
    (js_const hX (z := 1) (by unfold inI; omega) dX2_wet_33 (Or.inl ⟨1, rfl, rfl, rfl⟩) (js_goto hX (tgt := 38) dX2_wet_34 rfl (hK 2))))))))))
    (js_const hX (z := (-1)) (by unfold inI; omega) dX2_wet_18 (Or.inl ⟨(-1), rfl, rfl, rfl⟩) (js_ireturn hX hr hlk dX2_wet_19)))
  | 2 => exact (js_iast hX dX2_wet_38 (js_iload_n hX dX2_wet_39 rfl (js_if_eq hX (tgt := 50) dX2_wet_40 rfl (js_const hX (z := 0) (by unfold inI; omega) dX2_wet_50 (Or.inl ⟨0, rfl, rfl, rfl⟩) (hK 3))
    (js_aload_n hX dX2_wet_43 rfl (js_callV hX MX2_fall (ci := 2) (n := 0) (RX2, TX2, 43) rfl rfl (lw_V q1749 q1751 qs114 q156 q1752) npX2_fall dX2_wet_44 (js_goto hX (tgt := 51) dX2_wet_47 rfl (hK 3)))))))
  | 3 => exact (js_ireturn hX hr hlk dX2_wet_51)
  | k + 4 => intro ls st h nc ns hf; exact hf.elim
def bX2_played : jjB := fun e K k => match k with
  | 0 => (ji_iload 1 (ji_const 0 (ji_aload 0 (ji_getfR 2 0 (ji_const 5 (ji_iald (ji_const 1 (ji_isub (ji_callS e MX2_isIn 3 (ji_if_ne (ji_const 0 (ji_istore 2 (K 1)))
    (ji_const (-2) (ji_ireturn e))))))))))))
  | 1 => (ji_iload 2 (ji_aload 0 (ji_getfR 2 2 (ji_const 705 (ji_iload 1 (ji_imul (ji_iald (ji_icmp_ge (ji_const (-1) (ji_ireturn e))
    (ji_aload 0 (ji_const 705 (ji_iload 1 (ji_imul (ji_const 1 (ji_iadd (ji_const 4 (ji_iload 2 (ji_imul (ji_iadd (ji_callV e MX2_isPlayed 2 2 (ji_if_ne (ji_iinc 2 1 (ji_goto (K 1)))
    (ji_iload 2 (ji_ireturn e))))))))))))))))))))))
  | _ => fun _ _ _ _ _ => False
def pX2_played : Nat → Nat := fun k => match k with
  | 0 => 0
  | 1 => 21
  | _ => 0
theorem sX2_played : jSound bX2_played pX2_played MX2_played := by
  intro e p ev R s m args below meth c hX hr hn hlk K hK k
  match k with
  | 0 => exact (js_iload_n hX dX2_played_0 rfl (js_const hX (z := 0) (by unfold inI; omega) dX2_played_1 (Or.inl ⟨0, rfl, rfl, rfl⟩) (js_aload_n hX dX2_played_2 rfl (js_getfR hX (ci := 2) (k := 0) (RX2, TX2, 43) rfl (by decide) rfl (Or.inl q1346) (fun _ h => h) dX2_played_3 (js_const hX (z := 5) (by unfold inI; omega) dX2_played_6 (Or.inl ⟨5, rfl, rfl, rfl⟩) (js_iald hX dX2_played_7 (js_const hX (z := 1) (by unfold inI; omega) dX2_played_8 (Or.inl ⟨1, rfl, rfl, rfl⟩) (js_isub hX dX2_played_9 (js_callS hX MX2_isIn (n := 3) (lw_S q1479 q1480 q156 q1481) npX2_isIn dX2_played_10 (js_if_ne hX (tgt := 19) dX2_played_13 rfl (js_const hX (z := 0) (by unfold inI; omega) dX2_played_19 (Or.inl ⟨0, rfl, rfl, rfl⟩) (js_istore_n hX dX2_played_20 rfl (by decide) (hK 1)))
    (js_const hX (z := (-2)) (by unfold inI; omega) dX2_played_16 (Or.inr (Or.inl ⟨(-2), rfl, rfl, rfl⟩)) (js_ireturn hX hr hlk dX2_played_18))))))))))))
  | 1 => exact (js_iload_n hX dX2_played_21 rfl (js_aload_n hX dX2_played_22 rfl (js_getfR hX (ci := 2) (k := 2) (RX2, TX2, 43) rfl (by decide) rfl (Or.inl q1348) (fun _ h => h) dX2_played_23 (js_const hX (z := 705) (by unfold inI; omega) dX2_played_26 (Or.inr (Or.inr (Or.inl ⟨705, rfl, rfl, rfl⟩))) (js_iload_n hX dX2_played_29 rfl (js_imul hX dX2_played_30 (js_iald hX dX2_played_31 (js_icmp_ge hX (tgt := 61) dX2_played_32 rfl (js_const hX (z := (-1)) (by unfold inI; omega) dX2_played_61 (Or.inl ⟨(-1), rfl, rfl, rfl⟩) (js_ireturn hX hr hlk dX2_played_62))
    (js_aload_n hX dX2_played_35 rfl (js_const hX (z := 705) (by unfold inI; omega) dX2_played_36 (Or.inr (Or.inr (Or.inl ⟨705, rfl, rfl, rfl⟩))) (js_iload_n hX dX2_played_39 rfl (js_imul hX dX2_played_40 (js_const hX (z := 1) (by unfold inI; omega) dX2_played_41 (Or.inl ⟨1, rfl, rfl, rfl⟩) (js_iadd hX dX2_played_42 (js_const hX (z := 4) (by unfold inI; omega) dX2_played_43 (Or.inl ⟨4, rfl, rfl, rfl⟩) (js_iload_n hX dX2_played_44 rfl (js_imul hX dX2_played_45 (js_iadd hX dX2_played_46 (js_callV hX MX2_isPlayed (ci := 2) (n := 1) (RX2, TX2, 43) rfl rfl (lw_V q1793 q1795 qs120 q156 q1796) npX2_isPlayed dX2_played_47 (js_if_ne hX (tgt := 55) dX2_played_50 rfl (js_iinc hX dX2_played_55 (by decide) (js_goto hX (tgt := 21) dX2_played_58 rfl (hK 1)))
    (js_iload_n hX dX2_played_53 rfl (js_ireturn hX hr hlk dX2_played_54))))))))))))))))))))))
  | k + 2 => intro ls st h nc ns hf; exact hf.elim
def bX2_isPlayed : jjB := fun e K k => match k with
  | 0 => (ji_aload 0 (ji_getfR 2 2 (ji_iload 1 (ji_iald (ji_tsw 4 (ji_const 1 (ji_zreturn e)) [(ji_aload 0 (ji_aload 0 (ji_getfR 2 2 (ji_iload 1 (ji_const 1 (ji_iadd (ji_iald (ji_callV e MX2_night 2 2 (ji_if_lt (ji_const 0 (K 1))
    (ji_const 1 (ji_goto (K 1)))))))))))), (ji_aload 0 (ji_aload 0 (ji_getfR 2 2 (ji_iload 1 (ji_const 1 (ji_iadd (ji_iald (ji_aload 0 (ji_getfR 2 2 (ji_iload 1 (ji_const 2 (ji_iadd (ji_iald (ji_callV e MX2_nudge 2 3 (ji_if_lt (ji_const 0 (K 2))
    (ji_const 1 (ji_goto (K 2)))))))))))))))))), (ji_aload 0 (ji_aload 0 (ji_getfR 2 2 (ji_iload 1 (ji_const 1 (ji_iadd (ji_iald (ji_callV e MX2_take 2 2 (ji_if_lt (ji_const 0 (K 3))
    (ji_const 1 (ji_goto (K 3)))))))))))), (ji_aload 0 (ji_aload 0 (ji_getfR 2 2 (ji_iload 1 (ji_const 1 (ji_iadd (ji_iald (ji_aload 0 (ji_getfR 2 2 (ji_iload 1 (ji_const 2 (ji_iadd (ji_iald (ji_aload 0 (ji_getfR 2 2 (ji_iload 1 (ji_const 3 (ji_iadd (ji_iald (ji_callV e MX2_put 2 4 (ji_if_lt (ji_const 0 (K 4))
    (ji_const 1 (ji_goto (K 4)))))))))))))))))))))))), (ji_aload 0 (ji_const 1 (ji_callV e MX2_wet 2 2 (ji_if_lt (ji_const 0 (K 5))
    (ji_const 1 (ji_goto (K 5))))))), (ji_aload 0 (ji_const 0 (ji_callV e MX2_wet 2 2 (ji_if_lt (ji_const 0 (K 6))
    (ji_const 1 (ji_goto (K 6)))))))])))))
  | 1 => (ji_zreturn e)
  | 2 => (ji_zreturn e)
  | 3 => (ji_zreturn e)
  | 4 => (ji_zreturn e)
  | 5 => (ji_zreturn e)
  | 6 => (ji_zreturn e)
  | _ => fun _ _ _ _ _ => False
def pX2_isPlayed : Nat → Nat := fun k => match k with
  | 0 => 0
  | 1 => 64
  | 2 => 93
  | 3 => 114
  | 4 => 151
  | 5 => 165
  | 6 => 179
  | _ => 0
theorem sX2_isPlayed : jSound bX2_isPlayed pX2_isPlayed MX2_isPlayed := by
  intro e p ev R s m args below meth c hX hr hn hlk K hK k
  match k with
  | 0 => exact (js_aload_n hX dX2_isPlayed_0 rfl (js_getfR hX (ci := 2) (k := 2) (RX2, TX2, 43) rfl (by decide) rfl (Or.inl q1348) (fun _ h => h) dX2_isPlayed_1 (js_iload_n hX dX2_isPlayed_4 rfl (js_iald hX dX2_isPlayed_5 (js_tsw hX (dflt := 174) (lo := 4) (hi := 9) (tgt := 180) (tgts := [44, 65, 94, 115, 152, 166]) (offs := #[38, 59, 88, 109, 146, 160]) dX2_isPlayed_6 rfl (by decide) (js_const hX (z := 1) (by unfold inI; omega) dX2_isPlayed_180 (Or.inl ⟨1, rfl, rfl, rfl⟩) (js_zreturn hX hr hlk dX2_isPlayed_181)) (jswl_cons (js_aload_n hX dX2_isPlayed_44 rfl (js_aload_n hX dX2_isPlayed_45 rfl (js_getfR hX (ci := 2) (k := 2) (RX2, TX2, 43) rfl (by decide) rfl (Or.inl q1348) (fun _ h => h) dX2_isPlayed_46 (js_iload_n hX dX2_isPlayed_49 rfl (js_const hX (z := 1) (by unfold inI; omega) dX2_isPlayed_50 (Or.inl ⟨1, rfl, rfl, rfl⟩) (js_iadd hX dX2_isPlayed_51 (js_iald hX dX2_isPlayed_52 (js_callV hX MX2_night (ci := 2) (n := 1) (RX2, TX2, 43) rfl rfl (lw_V q1797 q1714 q1715 q156 q1716) npX2_night dX2_isPlayed_53 (js_if_lt hX (tgt := 63) dX2_isPlayed_56 rfl (js_const hX (z := 0) (by unfold inI; omega) dX2_isPlayed_63 (Or.inl ⟨0, rfl, rfl, rfl⟩) (hK 1))
    (js_const hX (z := 1) (by unfold inI; omega) dX2_isPlayed_59 (Or.inl ⟨1, rfl, rfl, rfl⟩) (js_goto hX (tgt := 64) dX2_isPlayed_60 rfl (hK 1)))))))))))) (jswl_cons (js_aload_n hX dX2_isPlayed_65 rfl (js_aload_n hX dX2_isPlayed_66 rfl (js_getfR hX (ci := 2) (k := 2) (RX2, TX2, 43) rfl (by decide) rfl (Or.inl q1348) (fun _ h => h) dX2_isPlayed_67 (js_iload_n hX dX2_isPlayed_70 rfl (js_const hX (z := 1) (by unfold inI; omega) dX2_isPlayed_71 (Or.inl ⟨1, rfl, rfl, rfl⟩) (js_iadd hX dX2_isPlayed_72 (js_iald hX dX2_isPlayed_73 (js_aload_n hX dX2_isPlayed_74 rfl (js_getfR hX (ci := 2) (k := 2) (RX2, TX2, 43) rfl (by decide) rfl (Or.inl q1348) (fun _ h => h) dX2_isPlayed_75 (js_iload_n hX dX2_isPlayed_78 rfl (js_const hX (z := 2) (by unfold inI; omega) dX2_isPlayed_79 (Or.inl ⟨2, rfl, rfl, rfl⟩) (js_iadd hX dX2_isPlayed_80 (js_iald hX dX2_isPlayed_81 (js_callV hX MX2_nudge (ci := 2) (n := 2) (RX2, TX2, 43) rfl rfl (lw_V q1798 q1766 q1767 q156 q1768) npX2_nudge dX2_isPlayed_82 (js_if_lt hX (tgt := 92) dX2_isPlayed_85 rfl (js_const hX (z := 0) (by unfold inI; omega) dX2_isPlayed_92 (Or.inl ⟨0, rfl, rfl, rfl⟩) (hK 2))
    (js_const hX (z := 1) (by unfold inI; omega) dX2_isPlayed_88 (Or.inl ⟨1, rfl, rfl, rfl⟩) (js_goto hX (tgt := 93) dX2_isPlayed_89 rfl (hK 2)))))))))))))))))) (jswl_cons (js_aload_n hX dX2_isPlayed_94 rfl (js_aload_n hX dX2_isPlayed_95 rfl (js_getfR hX (ci := 2) (k := 2) (RX2, TX2, 43) rfl (by decide) rfl (Or.inl q1348) (fun _ h => h) dX2_isPlayed_96 (js_iload_n hX dX2_isPlayed_99 rfl (js_const hX (z := 1) (by unfold inI; omega) dX2_isPlayed_100 (Or.inl ⟨1, rfl, rfl, rfl⟩) (js_iadd hX dX2_isPlayed_101 (js_iald hX dX2_isPlayed_102 (js_callV hX MX2_take (ci := 2) (n := 1) (RX2, TX2, 43) rfl rfl (lw_V q1799 q1770 q1771 q156 q1772) npX2_take dX2_isPlayed_103 (js_if_lt hX (tgt := 113) dX2_isPlayed_106 rfl (js_const hX (z := 0) (by unfold inI; omega) dX2_isPlayed_113 (Or.inl ⟨0, rfl, rfl, rfl⟩) (hK 3))
    (js_const hX (z := 1) (by unfold inI; omega) dX2_isPlayed_109 (Or.inl ⟨1, rfl, rfl, rfl⟩) (js_goto hX (tgt := 114) dX2_isPlayed_110 rfl (hK 3)))))))))))) (jswl_cons (js_aload_n hX dX2_isPlayed_115 rfl (js_aload_n hX dX2_isPlayed_116 rfl (js_getfR hX (ci := 2) (k := 2) (RX2, TX2, 43) rfl (by decide) rfl (Or.inl q1348) (fun _ h => h) dX2_isPlayed_117 (js_iload_n hX dX2_isPlayed_120 rfl (js_const hX (z := 1) (by unfold inI; omega) dX2_isPlayed_121 (Or.inl ⟨1, rfl, rfl, rfl⟩) (js_iadd hX dX2_isPlayed_122 (js_iald hX dX2_isPlayed_123 (js_aload_n hX dX2_isPlayed_124 rfl (js_getfR hX (ci := 2) (k := 2) (RX2, TX2, 43) rfl (by decide) rfl (Or.inl q1348) (fun _ h => h) dX2_isPlayed_125 (js_iload_n hX dX2_isPlayed_128 rfl (js_const hX (z := 2) (by unfold inI; omega) dX2_isPlayed_129 (Or.inl ⟨2, rfl, rfl, rfl⟩) (js_iadd hX dX2_isPlayed_130 (js_iald hX dX2_isPlayed_131 (js_aload_n hX dX2_isPlayed_132 rfl (js_getfR hX (ci := 2) (k := 2) (RX2, TX2, 43) rfl (by decide) rfl (Or.inl q1348) (fun _ h => h) dX2_isPlayed_133 (js_iload_n hX dX2_isPlayed_136 rfl (js_const hX (z := 3) (by unfold inI; omega) dX2_isPlayed_137 (Or.inl ⟨3, rfl, rfl, rfl⟩) (js_iadd hX dX2_isPlayed_138 (js_iald hX dX2_isPlayed_139 (js_callV hX MX2_put (ci := 2) (n := 3) (RX2, TX2, 43) rfl rfl (lw_V q1800 q1778 q1779 q156 q1780) npX2_put dX2_isPlayed_140 (js_if_lt hX (tgt := 150) dX2_isPlayed_143 rfl (js_const hX (z := 0) (by unfold inI; omega) dX2_isPlayed_150 (Or.inl ⟨0, rfl, rfl, rfl⟩) (hK 4))
    (js_const hX (z := 1) (by unfold inI; omega) dX2_isPlayed_146 (Or.inl ⟨1, rfl, rfl, rfl⟩) (js_goto hX (tgt := 151) dX2_isPlayed_147 rfl (hK 4)))))))))))))))))))))))) (jswl_cons (js_aload_n hX dX2_isPlayed_152 rfl (js_const hX (z := 1) (by unfold inI; omega) dX2_isPlayed_153 (Or.inl ⟨1, rfl, rfl, rfl⟩) (js_callV hX MX2_wet (ci := 2) (n := 1) (RX2, TX2, 43) rfl rfl (lw_V q1801 q1786 q1787 q156 q1788) npX2_wet dX2_isPlayed_154 (js_if_lt hX (tgt := 164) dX2_isPlayed_157 rfl (js_const hX (z := 0) (by unfold inI; omega) dX2_isPlayed_164 (Or.inl ⟨0, rfl, rfl, rfl⟩) (hK 5))
    (js_const hX (z := 1) (by unfold inI; omega) dX2_isPlayed_160 (Or.inl ⟨1, rfl, rfl, rfl⟩) (js_goto hX (tgt := 165) dX2_isPlayed_161 rfl (hK 5))))))) (jswl_cons (js_aload_n hX dX2_isPlayed_166 rfl (js_const hX (z := 0) (by unfold inI; omega) dX2_isPlayed_167 (Or.inl ⟨0, rfl, rfl, rfl⟩) (js_callV hX MX2_wet (ci := 2) (n := 1) (RX2, TX2, 43) rfl rfl (lw_V q1801 q1786 q1787 q156 q1788) npX2_wet dX2_isPlayed_168 (js_if_lt hX (tgt := 178) dX2_isPlayed_171 rfl (js_const hX (z := 0) (by unfold inI; omega) dX2_isPlayed_178 (Or.inl ⟨0, rfl, rfl, rfl⟩) (hK 6))
    (js_const hX (z := 1) (by unfold inI; omega) dX2_isPlayed_174 (Or.inl ⟨1, rfl, rfl, rfl⟩) (js_goto hX (tgt := 179) dX2_isPlayed_175 rfl (hK 6))))))) jswl_nil)))))))))))
  | 1 => exact (js_zreturn hX hr hlk dX2_isPlayed_64)
  | 2 => exact (js_zreturn hX hr hlk dX2_isPlayed_93)
  | 3 => exact (js_zreturn hX hr hlk dX2_isPlayed_114)
  | 4 => exact (js_zreturn hX hr hlk dX2_isPlayed_151)
  | 5 => exact (js_zreturn hX hr hlk dX2_isPlayed_165)
  | 6 => exact (js_zreturn hX hr hlk dX2_isPlayed_179)
  | k + 7 => intro ls st h nc ns hf; exact hf.elim
def bX2_year : jjB := fun e K k => match k with
  | 0 => (ji_iload 1 (ji_const 0 (ji_const 9999 (ji_callS e MX2_isIn 3 (ji_if_eq (K 1)
    (ji_iload 2 (ji_const 1 (ji_const 40 (ji_callS e MX2_isIn 3 (ji_if_eq (K 1)
    (ji_aload 0 (ji_getfR 2 0 (ji_const 0 (ji_iald (ji_if_ne (ji_aload 0 (ji_callV e MX2_keep 2 1 (ji_iload 1 (ji_const 4 (ji_imul (ji_const 31 (ji_iadd (ji_istore 3 (ji_const 0 (ji_istore 4 (ji_const 0 (ji_istore 5 (K 2)))))))))))))
    (K 1))))))))))))))))
  | 1 => (ji_const (-1) (ji_ireturn e))
  | 2 => (ji_iload 5 (ji_iload 2 (ji_icmp_ge (ji_aload 0 (ji_getfR 2 0 (ji_const 4 (ji_iload 3 (ji_iast (ji_iload 4 (ji_ireturn e)))))))
    (ji_iload 3 (ji_aload 0 (ji_getfR 2 0 (ji_const 0 (ji_iald (ji_irem (ji_istore 6 (ji_iload 3 (ji_callS e MX2_anew 1 (ji_istore 3 (ji_aload 0 (ji_iload 6 (ji_callV e MX2_isOnShelf 2 2 (ji_if_eq (K 4)
    (ji_aload 0 (ji_getfR 2 0 (ji_const 13 (ji_aload 0 (ji_iload 6 (ji_const 5 (ji_callV e MX2_get 2 3 (ji_iadd (ji_iald (ji_const 1 (ji_icmp_le (K 4)
    (ji_aload 0 (ji_iload 6 (ji_const 5 (ji_callV e MX2_get 2 3 (ji_istore 7 (ji_aload 0 (ji_iload 6 (ji_callV e MX2_placeOf 2 2 (ji_istore 8 (ji_iload 3 (ji_aload 0 (ji_getfR 2 0 (ji_const 13 (ji_iload 7 (ji_iadd (ji_iald (ji_irem (ji_istore 9 (ji_iload 3 (ji_callS e MX2_anew 1 (ji_istore 3 (ji_aload 0 (ji_iload 7 (ji_iload 8 (ji_iload 7 (ji_callV e MX2_pull 2 4 (ji_aload 0 (ji_iload 6 (ji_iload 7 (ji_iload 9 (ji_callV e MX2_setAt 2 4 (ji_iload 4 (ji_iload 9 (ji_iload 8 (ji_icmp_eq (ji_const 0 (K 3))
    (ji_const 1 (ji_goto (K 3))))))))))))))))))))))))))))))))))))))))))))))))))))))))))))))))))
  | 3 => (ji_iadd (ji_istore 4 (K 4)))
  | 4 => (ji_iload 3 (ji_const 10 (ji_irem (ji_const 3 (ji_icmp_ge (K 6)
    (ji_aload 0 (ji_getfR 2 0 (ji_const 2 (ji_const 1 (ji_aload 0 (ji_getfR 2 0 (ji_const 2 (ji_iald (ji_isub (ji_iast (ji_aload 0 (ji_dup (ji_getfI 2 25 (ji_aload 0 (ji_getfR 2 0 (ji_const 2 (ji_iald (ji_const 1 (ji_icmp_ne (ji_const 0 (K 5))
    (ji_aload 0 (ji_callV e MX2_fall 2 1 (ji_goto (K 5))))))))))))))))))))))))))))
  | 5 => (ji_iadd (ji_putfI 2 25 (K 6)))
  | 6 => (ji_iload 3 (ji_callS e MX2_anew 1 (ji_istore 3 (ji_iinc 5 1 (ji_goto (K 2))))))
  | _ => fun _ _ _ _ _ => False
def pX2_year : Nat → Nat := fun k => match k with
  | 0 => 0
  | 1 => 30
  | 2 => 49
  | 3 => 168
  | 4 => 171
  | 5 => 216
  | 6 => 220
  | _ => 0
theorem sX2_year : jSound bX2_year pX2_year MX2_year := by
  intro e p ev R s m args below meth c hX hr hn hlk K hK k
  match k with
  | 0 => exact (js_iload_n hX dX2_year_0 rfl (js_const hX (z := 0) (by unfold inI; omega) dX2_year_1 (Or.inl ⟨0, rfl, rfl, rfl⟩) (js_const hX (z := 9999) (by unfold inI; omega) dX2_year_2 (Or.inr (Or.inr (Or.inl ⟨9999, rfl, rfl, rfl⟩))) (js_callS hX MX2_isIn (n := 3) (lw_S q1479 q1480 q156 q1481) npX2_isIn dX2_year_5 (js_if_eq hX (tgt := 30) dX2_year_8 rfl (hK 1)
    (js_iload_n hX dX2_year_11 rfl (js_const hX (z := 1) (by unfold inI; omega) dX2_year_12 (Or.inl ⟨1, rfl, rfl, rfl⟩) (js_const hX (z := 40) (by unfold inI; omega) dX2_year_13 (Or.inr (Or.inl ⟨40, rfl, rfl, rfl⟩)) (js_callS hX MX2_isIn (n := 3) (lw_S q1479 q1480 q156 q1481) npX2_isIn dX2_year_15 (js_if_eq hX (tgt := 30) dX2_year_18 rfl (hK 1)
    (js_aload_n hX dX2_year_21 rfl (js_getfR hX (ci := 2) (k := 0) (RX2, TX2, 43) rfl (by decide) rfl (Or.inl q1346) (fun _ h => h) dX2_year_22 (js_const hX (z := 0) (by unfold inI; omega) dX2_year_25 (Or.inl ⟨0, rfl, rfl, rfl⟩) (js_iald hX dX2_year_26 (js_if_ne hX (tgt := 32) dX2_year_27 rfl (js_aload_n hX dX2_year_32 rfl (js_callV hX MX2_keep (ci := 2) (n := 0) (RX2, TX2, 43) rfl rfl (lw_V q1721 q1723 qs107 q156 q1724) npX2_keep dX2_year_33 (js_iload_n hX dX2_year_36 rfl (js_const hX (z := 4) (by unfold inI; omega) dX2_year_37 (Or.inl ⟨4, rfl, rfl, rfl⟩) (js_imul hX dX2_year_38 (js_const hX (z := 31) (by unfold inI; omega) dX2_year_39 (Or.inr (Or.inl ⟨31, rfl, rfl, rfl⟩)) (js_iadd hX dX2_year_41 (js_istore_n hX dX2_year_42 rfl (by decide) (js_const hX (z := 0) (by unfold inI; omega) dX2_year_43 (Or.inl ⟨0, rfl, rfl, rfl⟩) (js_istore hX dX2_year_44 (by decide) (js_const hX (z := 0) (by unfold inI; omega) dX2_year_46 (Or.inl ⟨0, rfl, rfl, rfl⟩) (js_istore hX dX2_year_47 (by decide) (hK 2)))))))))))))
    (hK 1))))))))))))))))
  | 1 => exact (js_const hX (z := (-1)) (by unfold inI; omega) dX2_year_30 (Or.inl ⟨(-1), rfl, rfl, rfl⟩) (js_ireturn hX hr hlk dX2_year_31))
  | 2 => exact (js_iload hX dX2_year_49 (js_iload_n hX dX2_year_51 rfl (js_icmp_ge hX (tgt := 231) dX2_year_52 rfl (js_aload_n hX dX2_year_231 rfl (js_getfR hX (ci := 2) (k := 0) (RX2, TX2, 43) rfl (by decide) rfl (Or.inl q1346) (fun _ h => h) dX2_year_232 (js_const hX (z := 4) (by unfold inI; omega) dX2_year_235 (Or.inl ⟨4, rfl, rfl, rfl⟩) (js_iload_n hX dX2_year_236 rfl (js_iast hX dX2_year_237 (js_iload hX dX2_year_238 (js_ireturn hX hr hlk dX2_year_240)))))))
    (js_iload_n hX dX2_year_55 rfl (js_aload_n hX dX2_year_56 rfl (js_getfR hX (ci := 2) (k := 0) (RX2, TX2, 43) rfl (by decide) rfl (Or.inl q1346) (fun _ h => h) dX2_year_57 (js_const hX (z := 0) (by unfold inI; omega) dX2_year_60 (Or.inl ⟨0, rfl, rfl, rfl⟩) (js_iald hX dX2_year_61 (js_irem hX dX2_year_62 (js_istore hX dX2_year_63 (by decide) (js_iload_n hX dX2_year_65 rfl (js_callS hX MX2_anew (n := 1) (lw_S q1806 q1807 q156 q1808) npX2_anew dX2_year_66 (js_istore_n hX dX2_year_69 rfl (by decide) (js_aload_n hX dX2_year_70 rfl (js_iload hX dX2_year_71 (js_callV hX MX2_isOnShelf (ci := 2) (n := 1) (RX2, TX2, 43) rfl rfl (lw_V q1809 q1811 qs121 q156 q1812) npX2_isOnShelf dX2_year_73 (js_if_eq hX (tgt := 171) dX2_year_76 rfl (hK 4)
    (js_aload_n hX dX2_year_79 rfl (js_getfR hX (ci := 2) (k := 0) (RX2, TX2, 43) rfl (by decide) rfl (Or.inl q1346) (fun _ h => h) dX2_year_80 (js_const hX (z := 13) (by unfold inI; omega) dX2_year_83 (Or.inr (Or.inl ⟨13, rfl, rfl, rfl⟩)) (js_aload_n hX dX2_year_85 rfl (js_iload hX dX2_year_86 (js_const hX (z := 5) (by unfold inI; omega) dX2_year_88 (Or.inl ⟨5, rfl, rfl, rfl⟩) (js_callV hX MX2_get (ci := 2) (n := 2) (RX2, TX2, 43) rfl rfl (lw_V q1658 q1660 qs98 q156 q1661) npX2_get dX2_year_89 (js_iadd hX dX2_year_92 (js_iald hX dX2_year_93 (js_const hX (z := 1) (by unfold inI; omega) dX2_year_94 (Or.inl ⟨1, rfl, rfl, rfl⟩) (js_icmp_le hX (tgt := 171) dX2_year_95 rfl (hK 4)
    (js_aload_n hX dX2_year_98 rfl (js_iload hX dX2_year_99 (js_const hX (z := 5) (by unfold inI; omega) dX2_year_101 (Or.inl ⟨5, rfl, rfl, rfl⟩) (js_callV hX MX2_get (ci := 2) (n := 2) (RX2, TX2, 43) rfl rfl (lw_V q1658 q1660 qs98 q156 q1661) npX2_get dX2_year_102 (js_istore hX dX2_year_105 (by decide) (js_aload_n hX dX2_year_107 rfl (js_iload hX dX2_year_108 (js_callV hX MX2_placeOf (ci := 2) (n := 1) (RX2, TX2, 43) rfl rfl (lw_V q1773 q1775 qs118 q156 q1776) npX2_placeOf dX2_year_110 (js_istore hX dX2_year_113 (by decide) (js_iload_n hX dX2_year_115 rfl (js_aload_n hX dX2_year_116 rfl (js_getfR hX (ci := 2) (k := 0) (RX2, TX2, 43) rfl (by decide) rfl (Or.inl q1346) (fun _ h => h) dX2_year_117 (js_const hX (z := 13) (by unfold inI; omega) dX2_year_120 (Or.inr (Or.inl ⟨13, rfl, rfl, rfl⟩)) (js_iload hX dX2_year_122 (js_iadd hX dX2_year_124 (js_iald hX dX2_year_125 (js_irem hX dX2_year_126 (js_istore hX dX2_year_127 (by decide) (js_iload_n hX dX2_year_129 rfl (js_callS hX MX2_anew (n := 1) (lw_S q1806 q1807 q156 q1808) npX2_anew dX2_year_130 (js_istore_n hX dX2_year_133 rfl (by decide) (js_aload_n hX dX2_year_134 rfl (js_iload hX dX2_year_135 (js_iload hX dX2_year_137 (js_iload hX dX2_year_139 (js_callV hX MX2_pull (ci := 2) (n := 3) (RX2, TX2, 43) rfl rfl (lw_V q1761 q1763 qs117 q156 q1764) npX2_pull dX2_year_141 (js_aload_n hX dX2_year_144 rfl (js_iload hX dX2_year_145 (js_iload hX dX2_year_147 (js_iload hX dX2_year_149 (js_callV hX MX2_setAt (ci := 2) (n := 3) (RX2, TX2, 43) rfl rfl (lw_V q1781 q1783 qs119 q156 q1784) npX2_setAt dX2_year_151 (js_iload hX dX2_year_154 (js_iload hX dX2_year_156 (js_iload hX dX2_year_158 (js_icmp_eq hX (tgt := 167) dX2_year_160 rfl (js_const hX (z := 0) (by unfold inI; omega) dX2_year_167 (Or.inl ⟨0, rfl, rfl, rfl⟩) (hK 3))
    (js_const hX (z := 1) (by unfold inI; omega) dX2_year_163 (Or.inl ⟨1, rfl, rfl, rfl⟩) (js_goto hX (tgt := 168) dX2_year_164 rfl (hK 3))))))))))))))))))))))))))))))))))))))))))))))))))))))))))))))))))
  | 3 => exact (js_iadd hX dX2_year_168 (js_istore hX dX2_year_169 (by decide) (hK 4)))
  | 4 => exact (js_iload_n hX dX2_year_171 rfl (js_const hX (z := 10) (by unfold inI; omega) dX2_year_172 (Or.inr (Or.inl ⟨10, rfl, rfl, rfl⟩)) (js_irem hX dX2_year_174 (js_const hX (z := 3) (by unfold inI; omega) dX2_year_175 (Or.inl ⟨3, rfl, rfl, rfl⟩) (js_icmp_ge hX (tgt := 220) dX2_year_176 rfl (hK 6)
    (js_aload_n hX dX2_year_179 rfl (js_getfR hX (ci := 2) (k := 0) (RX2, TX2, 43) rfl (by decide) rfl (Or.inl q1346) (fun _ h => h) dX2_year_180 (js_const hX (z := 2) (by unfold inI; omega) dX2_year_183 (Or.inl ⟨2, rfl, rfl, rfl⟩) (js_const hX (z := 1) (by unfold inI; omega) dX2_year_184 (Or.inl ⟨1, rfl, rfl, rfl⟩) (js_aload_n hX dX2_year_185 rfl (js_getfR hX (ci := 2) (k := 0) (RX2, TX2, 43) rfl (by decide) rfl (Or.inl q1346) (fun _ h => h) dX2_year_186 (js_const hX (z := 2) (by unfold inI; omega) dX2_year_189 (Or.inl ⟨2, rfl, rfl, rfl⟩) (js_iald hX dX2_year_190 (js_isub hX dX2_year_191 (js_iast hX dX2_year_192 (js_aload_n hX dX2_year_193 rfl (js_dup hX dX2_year_194 (js_getfI hX (ci := 2) (k := 25) (RX2, TX2, 43) rfl (by decide) rfl (Or.inl q1369) (fun _ h => h) dX2_year_195 (js_aload_n hX dX2_year_198 rfl (js_getfR hX (ci := 2) (k := 0) (RX2, TX2, 43) rfl (by decide) rfl (Or.inl q1346) (fun _ h => h) dX2_year_199 (js_const hX (z := 2) (by unfold inI; omega) dX2_year_202 (Or.inl ⟨2, rfl, rfl, rfl⟩) (js_iald hX dX2_year_203 (js_const hX (z := 1) (by unfold inI; omega) dX2_year_204 (Or.inl ⟨1, rfl, rfl, rfl⟩) (js_icmp_ne hX (tgt := 215) dX2_year_205 rfl (js_const hX (z := 0) (by unfold inI; omega) dX2_year_215 (Or.inl ⟨0, rfl, rfl, rfl⟩) (hK 5))
    (js_aload_n hX dX2_year_208 rfl (js_callV hX MX2_fall (ci := 2) (n := 0) (RX2, TX2, 43) rfl rfl (lw_V q1749 q1751 qs114 q156 q1752) npX2_fall dX2_year_209 (js_goto hX (tgt := 216) dX2_year_212 rfl (hK 5))))))))))))))))))))))))))))
  | 5 => exact (js_iadd hX dX2_year_216 (js_putfI hX (ci := 2) (k := 25) (RX2, TX2, 43) rfl (by decide) rfl (Or.inl q1369) (fun _ h => h) (Or.inl rfl) dX2_year_217 (hK 6)))
  | 6 => exact (js_iload_n hX dX2_year_220 rfl (js_callS hX MX2_anew (n := 1) (lw_S q1806 q1807 q156 q1808) npX2_anew dX2_year_221 (js_istore_n hX dX2_year_224 rfl (by decide) (js_iinc hX dX2_year_225 (by decide) (js_goto hX (tgt := 49) dX2_year_228 rfl (hK 2))))))
  | k + 7 => intro ls st h nc ns hf; exact hf.elim
def bX2_anew : jjB := fun e K k => match k with
  | 0 => (ji_iload 0 (ji_const 179 (ji_imul (ji_const 101 (ji_iadd (ji_const 30113 (ji_irem (ji_ireturn e))))))))
  | _ => fun _ _ _ _ _ => False
def pX2_anew : Nat → Nat := fun k => match k with
  | 0 => 0
  | _ => 0
theorem sX2_anew : jSound bX2_anew pX2_anew MX2_anew := by
  intro e p ev R s m args below meth c hX hr hn hlk K hK k
  match k with
  | 0 => exact (js_iload_n hX dX2_anew_0 rfl (js_const hX (z := 179) (by unfold inI; omega) dX2_anew_1 (Or.inr (Or.inr (Or.inl ⟨179, rfl, rfl, rfl⟩))) (js_imul hX dX2_anew_4 (js_const hX (z := 101) (by unfold inI; omega) dX2_anew_5 (Or.inr (Or.inl ⟨101, rfl, rfl, rfl⟩)) (js_iadd hX dX2_anew_7 (js_const hX (z := 30113) (by unfold inI; omega) dX2_anew_8 (Or.inr (Or.inr (Or.inl ⟨30113, rfl, rfl, rfl⟩))) (js_irem hX dX2_anew_11 (js_ireturn hX hr hlk dX2_anew_12))))))))
  | k + 1 => intro ls st h nc ns hf; exact hf.elim
def bX2_isOnShelf : jjB := fun e K k => match k with
  | 0 => (ji_aload 0 (ji_iload 1 (ji_callV e MX2_isBook 2 2 (ji_if_eq (K 1)
    (ji_aload 0 (ji_iload 1 (ji_const 5 (ji_callV e MX2_get 2 3 (ji_const 3 (ji_icmp_ge (K 1)
    (ji_const 1 (ji_goto (K 2)))))))))))))
  | 1 => (ji_const 0 (K 2))
  | 2 => (ji_zreturn e)
  | _ => fun _ _ _ _ _ => False
def pX2_isOnShelf : Nat → Nat := fun k => match k with
  | 0 => 0
  | 1 => 22
  | 2 => 23
  | _ => 0
theorem sX2_isOnShelf : jSound bX2_isOnShelf pX2_isOnShelf MX2_isOnShelf := by
  intro e p ev R s m args below meth c hX hr hn hlk K hK k
  match k with
  | 0 => exact (js_aload_n hX dX2_isOnShelf_0 rfl (js_iload_n hX dX2_isOnShelf_1 rfl (js_callV hX MX2_isBook (ci := 2) (n := 1) (RX2, TX2, 43) rfl rfl (lw_V q1650 q1652 qs96 q156 q1653) npX2_isBook dX2_isOnShelf_2 (js_if_eq hX (tgt := 22) dX2_isOnShelf_5 rfl (hK 1)
    (js_aload_n hX dX2_isOnShelf_8 rfl (js_iload_n hX dX2_isOnShelf_9 rfl (js_const hX (z := 5) (by unfold inI; omega) dX2_isOnShelf_10 (Or.inl ⟨5, rfl, rfl, rfl⟩) (js_callV hX MX2_get (ci := 2) (n := 2) (RX2, TX2, 43) rfl rfl (lw_V q1658 q1660 qs98 q156 q1661) npX2_get dX2_isOnShelf_11 (js_const hX (z := 3) (by unfold inI; omega) dX2_isOnShelf_14 (Or.inl ⟨3, rfl, rfl, rfl⟩) (js_icmp_ge hX (tgt := 22) dX2_isOnShelf_15 rfl (hK 1)
    (js_const hX (z := 1) (by unfold inI; omega) dX2_isOnShelf_18 (Or.inl ⟨1, rfl, rfl, rfl⟩) (js_goto hX (tgt := 23) dX2_isOnShelf_19 rfl (hK 2)))))))))))))
  | 1 => exact (js_const hX (z := 0) (by unfold inI; omega) dX2_isOnShelf_22 (Or.inl ⟨0, rfl, rfl, rfl⟩) (hK 2))
  | 2 => exact (js_zreturn hX hr hlk dX2_isOnShelf_23)
  | k + 3 => intro ls st h nc ns hf; exact hf.elim
def bX2_at : jjB := fun e K k => match k with
  | 0 => (ji_iload 1 (ji_callS e MX2_isShelf 1 (ji_if_ne (ji_iload 2 (ji_const (-1) (ji_icmp_ne (ji_iload 2 (ji_const 0 (ji_aload 0 (ji_getfR 2 0 (ji_const 13 (ji_iload 1 (ji_iadd (ji_iald (ji_const 1 (ji_isub (ji_callS e MX2_isIn 3 (ji_if_eq (ji_const (-1) (K 1))
    (ji_aload 0 (ji_iload 1 (ji_iload 2 (ji_callV e MX2_bookAt 2 3 (ji_goto (K 1))))))))))))))))))
    (ji_aload 0 (ji_getfR 2 0 (ji_const 13 (ji_iload 1 (ji_iadd (ji_iald (ji_ireturn e))))))))))
    (ji_const (-1) (ji_ireturn e)))))
  | 1 => (ji_ireturn e)
  | _ => fun _ _ _ _ _ => False
def pX2_at : Nat → Nat := fun k => match k with
  | 0 => 0
  | 1 => 53
  | _ => 0
theorem sX2_at : jSound bX2_at pX2_at MX2_at := by
  intro e p ev R s m args below meth c hX hr hn hlk K hK k
  match k with
  | 0 => exact (js_iload_n hX dX2_at_0 rfl (js_callS hX MX2_isShelf (n := 1) (lw_S q1693 q1694 q156 q1695) npX2_isShelf dX2_at_1 (js_if_ne hX (tgt := 9) dX2_at_4 rfl (js_iload_n hX dX2_at_9 rfl (js_const hX (z := (-1)) (by unfold inI; omega) dX2_at_10 (Or.inl ⟨(-1), rfl, rfl, rfl⟩) (js_icmp_ne hX (tgt := 24) dX2_at_11 rfl (js_iload_n hX dX2_at_24 rfl (js_const hX (z := 0) (by unfold inI; omega) dX2_at_25 (Or.inl ⟨0, rfl, rfl, rfl⟩) (js_aload_n hX dX2_at_26 rfl (js_getfR hX (ci := 2) (k := 0) (RX2, TX2, 43) rfl (by decide) rfl (Or.inl q1346) (fun _ h => h) dX2_at_27 (js_const hX (z := 13) (by unfold inI; omega) dX2_at_30 (Or.inr (Or.inl ⟨13, rfl, rfl, rfl⟩)) (js_iload_n hX dX2_at_32 rfl (js_iadd hX dX2_at_33 (js_iald hX dX2_at_34 (js_const hX (z := 1) (by unfold inI; omega) dX2_at_35 (Or.inl ⟨1, rfl, rfl, rfl⟩) (js_isub hX dX2_at_36 (js_callS hX MX2_isIn (n := 3) (lw_S q1479 q1480 q156 q1481) npX2_isIn dX2_at_37 (js_if_eq hX (tgt := 52) dX2_at_40 rfl (js_const hX (z := (-1)) (by unfold inI; omega) dX2_at_52 (Or.inl ⟨(-1), rfl, rfl, rfl⟩) (hK 1))
    (js_aload_n hX dX2_at_43 rfl (js_iload_n hX dX2_at_44 rfl (js_iload_n hX dX2_at_45 rfl (js_callV hX MX2_bookAt (ci := 2) (n := 2) (RX2, TX2, 43) rfl rfl (lw_V q1700 q1702 qs104 q156 q1703) npX2_bookAt dX2_at_46 (js_goto hX (tgt := 53) dX2_at_49 rfl (hK 1))))))))))))))))))
    (js_aload_n hX dX2_at_14 rfl (js_getfR hX (ci := 2) (k := 0) (RX2, TX2, 43) rfl (by decide) rfl (Or.inl q1346) (fun _ h => h) dX2_at_15 (js_const hX (z := 13) (by unfold inI; omega) dX2_at_18 (Or.inr (Or.inl ⟨13, rfl, rfl, rfl⟩)) (js_iload_n hX dX2_at_20 rfl (js_iadd hX dX2_at_21 (js_iald hX dX2_at_22 (js_ireturn hX hr hlk dX2_at_23))))))))))
    (js_const hX (z := (-1)) (by unfold inI; omega) dX2_at_7 (Or.inl ⟨(-1), rfl, rfl, rfl⟩) (js_ireturn hX hr hlk dX2_at_8)))))
  | 1 => exact (js_ireturn hX hr hlk dX2_at_53)
  | k + 2 => intro ls st h nc ns hf; exact hf.elim
def bX2_of : jjB := fun e K k => match k with
  | 0 => (ji_aload 0 (ji_iload 1 (ji_callV e MX2_isBook 2 2 (ji_if_eq (K 1)
    (ji_iload 2 (ji_const 0 (ji_const 7 (ji_callS e MX2_isIn 3 (ji_if_ne (ji_iload 2 (ji_if_ne (ji_iload 2 (ji_const 1 (ji_icmp_ne (ji_iload 2 (ji_const 7 (ji_icmp_ne (ji_aload 0 (ji_iload 1 (ji_iload 2 (ji_const 2 (ji_isub (ji_callV e MX2_get 2 3 (K 3)))))))
    (ji_aload 0 (ji_iload 1 (ji_callV e MX2_thickNow 2 2 (ji_goto (K 3))))))))
    (ji_aload 0 (ji_iload 1 (ji_callV e MX2_isOnShelf 2 2 (ji_if_eq (ji_const (-1) (K 2))
    (ji_aload 0 (ji_iload 1 (ji_callV e MX2_placeOf 2 2 (ji_goto (K 2))))))))))))
    (ji_aload 0 (ji_iload 1 (ji_const 5 (ji_callV e MX2_get 2 3 (ji_ireturn e)))))))
    (K 1))))))))))
  | 1 => (ji_const (-2) (ji_ireturn e))
  | 2 => (ji_ireturn e)
  | 3 => (ji_ireturn e)
  | _ => fun _ _ _ _ _ => False
def pX2_of : Nat → Nat := fun k => match k with
  | 0 => 0
  | 1 => 18
  | 2 => 54
  | 3 => 77
  | _ => 0
theorem sX2_of : jSound bX2_of pX2_of MX2_of := by
  intro e p ev R s m args below meth c hX hr hn hlk K hK k
  match k with
  | 0 => exact (js_aload_n hX dX2_of_0 rfl (js_iload_n hX dX2_of_1 rfl (js_callV hX MX2_isBook (ci := 2) (n := 1) (RX2, TX2, 43) rfl rfl (lw_V q1650 q1652 qs96 q156 q1653) npX2_isBook dX2_of_2 (js_if_eq hX (tgt := 18) dX2_of_5 rfl (hK 1)
    (js_iload_n hX dX2_of_8 rfl (js_const hX (z := 0) (by unfold inI; omega) dX2_of_9 (Or.inl ⟨0, rfl, rfl, rfl⟩) (js_const hX (z := 7) (by unfold inI; omega) dX2_of_10 (Or.inr (Or.inl ⟨7, rfl, rfl, rfl⟩)) (js_callS hX MX2_isIn (n := 3) (lw_S q1479 q1480 q156 q1481) npX2_isIn dX2_of_12 (js_if_ne hX (tgt := 21) dX2_of_15 rfl (js_iload_n hX dX2_of_21 rfl (js_if_ne hX (tgt := 32) dX2_of_22 rfl (js_iload_n hX dX2_of_32 rfl (js_const hX (z := 1) (by unfold inI; omega) dX2_of_33 (Or.inl ⟨1, rfl, rfl, rfl⟩) (js_icmp_ne hX (tgt := 55) dX2_of_34 rfl (js_iload_n hX dX2_of_55 rfl (js_const hX (z := 7) (by unfold inI; omega) dX2_of_56 (Or.inr (Or.inl ⟨7, rfl, rfl, rfl⟩)) (js_icmp_ne hX (tgt := 69) dX2_of_58 rfl (js_aload_n hX dX2_of_69 rfl (js_iload_n hX dX2_of_70 rfl (js_iload_n hX dX2_of_71 rfl (js_const hX (z := 2) (by unfold inI; omega) dX2_of_72 (Or.inl ⟨2, rfl, rfl, rfl⟩) (js_isub hX dX2_of_73 (js_callV hX MX2_get (ci := 2) (n := 2) (RX2, TX2, 43) rfl rfl (lw_V q1658 q1660 qs98 q156 q1661) npX2_get dX2_of_74 (hK 3)))))))
    (js_aload_n hX dX2_of_61 rfl (js_iload_n hX dX2_of_62 rfl (js_callV hX MX2_thickNow (ci := 2) (n := 1) (RX2, TX2, 43) rfl rfl (lw_V q1704 q1706 qs105 q156 q1707) npX2_thickNow dX2_of_63 (js_goto hX (tgt := 77) dX2_of_66 rfl (hK 3))))))))
    (js_aload_n hX dX2_of_37 rfl (js_iload_n hX dX2_of_38 rfl (js_callV hX MX2_isOnShelf (ci := 2) (n := 1) (RX2, TX2, 43) rfl rfl (lw_V q1809 q1811 qs121 q156 q1812) npX2_isOnShelf dX2_of_39 (js_if_eq hX (tgt := 53) dX2_of_42 rfl (js_const hX (z := (-1)) (by unfold inI; omega) dX2_of_53 (Or.inl ⟨(-1), rfl, rfl, rfl⟩) (hK 2))
    (js_aload_n hX dX2_of_45 rfl (js_iload_n hX dX2_of_46 rfl (js_callV hX MX2_placeOf (ci := 2) (n := 1) (RX2, TX2, 43) rfl rfl (lw_V q1773 q1775 qs118 q156 q1776) npX2_placeOf dX2_of_47 (js_goto hX (tgt := 54) dX2_of_50 rfl (hK 2))))))))))))
    (js_aload_n hX dX2_of_25 rfl (js_iload_n hX dX2_of_26 rfl (js_const hX (z := 5) (by unfold inI; omega) dX2_of_27 (Or.inl ⟨5, rfl, rfl, rfl⟩) (js_callV hX MX2_get (ci := 2) (n := 2) (RX2, TX2, 43) rfl rfl (lw_V q1658 q1660 qs98 q156 q1661) npX2_get dX2_of_28 (js_ireturn hX hr hlk dX2_of_31)))))))
    (hK 1))))))))))
  | 1 => exact (js_const hX (z := (-2)) (by unfold inI; omega) dX2_of_18 (Or.inr (Or.inl ⟨(-2), rfl, rfl, rfl⟩)) (js_ireturn hX hr hlk dX2_of_20))
  | 2 => exact (js_ireturn hX hr hlk dX2_of_54)
  | 3 => exact (js_ireturn hX hr hlk dX2_of_77)
  | k + 4 => intro ls st h nc ns hf; exact hf.elim
def bX2_shelf : jjB := fun e K k => match k with
  | 0 => (ji_iload 1 (ji_callS e MX2_isShelf 1 (ji_if_eq (K 1)
    (ji_iload 2 (ji_const 0 (ji_const 1 (ji_callS e MX2_isIn 3 (ji_if_ne (ji_iload 2 (ji_if_ne (ji_aload 0 (ji_iload 1 (ji_callV e MX2_fullOf 2 2 (K 2))))
    (ji_aload 0 (ji_getfR 2 0 (ji_const 10 (ji_iload 1 (ji_iadd (ji_iald (ji_goto (K 2))))))))))
    (K 1)))))))))
  | 1 => (ji_const (-1) (ji_ireturn e))
  | 2 => (ji_ireturn e)
  | _ => fun _ _ _ _ _ => False
def pX2_shelf : Nat → Nat := fun k => match k with
  | 0 => 0
  | 1 => 16
  | 2 => 39
  | _ => 0
theorem sX2_shelf : jSound bX2_shelf pX2_shelf MX2_shelf := by
  intro e p ev R s m args below meth c hX hr hn hlk K hK k
  match k with
  | 0 => exact (js_iload_n hX dX2_shelf_0 rfl (js_callS hX MX2_isShelf (n := 1) (lw_S q1693 q1694 q156 q1695) npX2_isShelf dX2_shelf_1 (js_if_eq hX (tgt := 16) dX2_shelf_4 rfl (hK 1)
    (js_iload_n hX dX2_shelf_7 rfl (js_const hX (z := 0) (by unfold inI; omega) dX2_shelf_8 (Or.inl ⟨0, rfl, rfl, rfl⟩) (js_const hX (z := 1) (by unfold inI; omega) dX2_shelf_9 (Or.inl ⟨1, rfl, rfl, rfl⟩) (js_callS hX MX2_isIn (n := 3) (lw_S q1479 q1480 q156 q1481) npX2_isIn dX2_shelf_10 (js_if_ne hX (tgt := 18) dX2_shelf_13 rfl (js_iload_n hX dX2_shelf_18 rfl (js_if_ne hX (tgt := 34) dX2_shelf_19 rfl (js_aload_n hX dX2_shelf_34 rfl (js_iload_n hX dX2_shelf_35 rfl (js_callV hX MX2_fullOf (ci := 2) (n := 1) (RX2, TX2, 43) rfl rfl (lw_V q1696 q1698 qs103 q156 q1699) npX2_fullOf dX2_shelf_36 (hK 2))))
    (js_aload_n hX dX2_shelf_22 rfl (js_getfR hX (ci := 2) (k := 0) (RX2, TX2, 43) rfl (by decide) rfl (Or.inl q1346) (fun _ h => h) dX2_shelf_23 (js_const hX (z := 10) (by unfold inI; omega) dX2_shelf_26 (Or.inr (Or.inl ⟨10, rfl, rfl, rfl⟩)) (js_iload_n hX dX2_shelf_28 rfl (js_iadd hX dX2_shelf_29 (js_iald hX dX2_shelf_30 (js_goto hX (tgt := 39) dX2_shelf_31 rfl (hK 2))))))))))
    (hK 1)))))))))
  | 1 => exact (js_const hX (z := (-1)) (by unfold inI; omega) dX2_shelf_16 (Or.inl ⟨(-1), rfl, rfl, rfl⟩) (js_ireturn hX hr hlk dX2_shelf_17))
  | 2 => exact (js_ireturn hX hr hlk dX2_shelf_39)
  | k + 3 => intro ls st h nc ns hf; exact hf.elim
def bX2_written : jjB := fun e K k => match k with
  | 0 => (ji_aload 0 (ji_getfR 2 0 (ji_const 9 (ji_iald (ji_const 60 (ji_icmp_ge (ji_const 60 (K 1))
    (ji_aload 0 (ji_getfR 2 0 (ji_const 9 (ji_iald (ji_goto (K 1))))))))))))
  | 1 => (ji_istore 3 (ji_iload 1 (ji_const (-1) (ji_icmp_ne (ji_iload 1 (ji_const 0 (ji_iload 3 (ji_const 1 (ji_isub (ji_callS e MX2_isIn 3 (ji_if_eq (K 2)
    (ji_iload 2 (ji_const 0 (ji_const 3 (ji_callS e MX2_isIn 3 (ji_if_ne (ji_aload 0 (ji_getfR 2 0 (ji_const 1594 (ji_const 4 (ji_aload 0 (ji_getfR 2 0 (ji_const 9 (ji_iald (ji_iload 3 (ji_isub (ji_iload 1 (ji_iadd (ji_const 512 (ji_irem (ji_imul (ji_iadd (ji_iload 2 (ji_iadd (ji_iald (ji_ireturn e))))))))))))))))))))
    (K 2)))))))))))))
    (ji_iload 3 (ji_ireturn e))))))
  | 2 => (ji_const (-2) (ji_ireturn e))
  | _ => fun _ _ _ _ _ => False
def pX2_written : Nat → Nat := fun k => match k with
  | 0 => 0
  | 1 => 24
  | 2 => 52
  | _ => 0
theorem sX2_written : jSound bX2_written pX2_written MX2_written := by
  intro e p ev R s m args below meth c hX hr hn hlk K hK k
  match k with
  | 0 => exact (js_aload_n hX dX2_written_0 rfl (js_getfR hX (ci := 2) (k := 0) (RX2, TX2, 43) rfl (by decide) rfl (Or.inl q1346) (fun _ h => h) dX2_written_1 (js_const hX (z := 9) (by unfold inI; omega) dX2_written_4 (Or.inr (Or.inl ⟨9, rfl, rfl, rfl⟩)) (js_iald hX dX2_written_6 (js_const hX (z := 60) (by unfold inI; omega) dX2_written_7 (Or.inr (Or.inl ⟨60, rfl, rfl, rfl⟩)) (js_icmp_ge hX (tgt := 22) dX2_written_9 rfl (js_const hX (z := 60) (by unfold inI; omega) dX2_written_22 (Or.inr (Or.inl ⟨60, rfl, rfl, rfl⟩)) (hK 1))
    (js_aload_n hX dX2_written_12 rfl (js_getfR hX (ci := 2) (k := 0) (RX2, TX2, 43) rfl (by decide) rfl (Or.inl q1346) (fun _ h => h) dX2_written_13 (js_const hX (z := 9) (by unfold inI; omega) dX2_written_16 (Or.inr (Or.inl ⟨9, rfl, rfl, rfl⟩)) (js_iald hX dX2_written_18 (js_goto hX (tgt := 24) dX2_written_19 rfl (hK 1))))))))))))
  | 1 => exact (js_istore_n hX dX2_written_24 rfl (by decide) (js_iload_n hX dX2_written_25 rfl (js_const hX (z := (-1)) (by unfold inI; omega) dX2_written_26 (Or.inl ⟨(-1), rfl, rfl, rfl⟩) (js_icmp_ne hX (tgt := 32) dX2_written_27 rfl (js_iload_n hX dX2_written_32 rfl (js_const hX (z := 0) (by unfold inI; omega) dX2_written_33 (Or.inl ⟨0, rfl, rfl, rfl⟩) (js_iload_n hX dX2_written_34 rfl (js_const hX (z := 1) (by unfold inI; omega) dX2_written_35 (Or.inl ⟨1, rfl, rfl, rfl⟩) (js_isub hX dX2_written_36 (js_callS hX MX2_isIn (n := 3) (lw_S q1479 q1480 q156 q1481) npX2_isIn dX2_written_37 (js_if_eq hX (tgt := 52) dX2_written_40 rfl (hK 2)
    (js_iload_n hX dX2_written_43 rfl (js_const hX (z := 0) (by unfold inI; omega) dX2_written_44 (Or.inl ⟨0, rfl, rfl, rfl⟩) (js_const hX (z := 3) (by unfold inI; omega) dX2_written_45 (Or.inl ⟨3, rfl, rfl, rfl⟩) (js_callS hX MX2_isIn (n := 3) (lw_S q1479 q1480 q156 q1481) npX2_isIn dX2_written_46 (js_if_ne hX (tgt := 55) dX2_written_49 rfl (js_aload_n hX dX2_written_55 rfl (js_getfR hX (ci := 2) (k := 0) (RX2, TX2, 43) rfl (by decide) rfl (Or.inl q1346) (fun _ h => h) dX2_written_56 (js_const hX (z := 1594) (by unfold inI; omega) dX2_written_59 (Or.inr (Or.inr (Or.inl ⟨1594, rfl, rfl, rfl⟩))) (js_const hX (z := 4) (by unfold inI; omega) dX2_written_62 (Or.inl ⟨4, rfl, rfl, rfl⟩) (js_aload_n hX dX2_written_63 rfl (js_getfR hX (ci := 2) (k := 0) (RX2, TX2, 43) rfl (by decide) rfl (Or.inl q1346) (fun _ h => h) dX2_written_64 (js_const hX (z := 9) (by unfold inI; omega) dX2_written_67 (Or.inr (Or.inl ⟨9, rfl, rfl, rfl⟩)) (js_iald hX dX2_written_69 (js_iload_n hX dX2_written_70 rfl (js_isub hX dX2_written_71 (js_iload_n hX dX2_written_72 rfl (js_iadd hX dX2_written_73 (js_const hX (z := 512) (by unfold inI; omega) dX2_written_74 (Or.inr (Or.inr (Or.inl ⟨512, rfl, rfl, rfl⟩))) (js_irem hX dX2_written_77 (js_imul hX dX2_written_78 (js_iadd hX dX2_written_79 (js_iload_n hX dX2_written_80 rfl (js_iadd hX dX2_written_81 (js_iald hX dX2_written_82 (js_ireturn hX hr hlk dX2_written_83))))))))))))))))))))
    (hK 2)))))))))))))
    (js_iload_n hX dX2_written_30 rfl (js_ireturn hX hr hlk dX2_written_31))))))
  | 2 => exact (js_const hX (z := (-2)) (by unfold inI; omega) dX2_written_52 (Or.inr (Or.inl ⟨(-2), rfl, rfl, rfl⟩)) (js_ireturn hX hr hlk dX2_written_54))
  | k + 3 => intro ls st h nc ns hf; exact hf.elim
def bX2_rest : jjB := fun e K k => match k with
  | 0 => (ji_iload 1 (ji_callS e MX2_isShelf 1 (ji_if_ne (ji_aload 0 (ji_iload 1 (ji_const (-1) (ji_callV e MX2_layRow 2 3 (ji_aload 0 (ji_callV e MX2_goToRest 2 1 (ji_ireturn e)))))))
    (ji_const (-1) (ji_ireturn e)))))
  | _ => fun _ _ _ _ _ => False
def pX2_rest : Nat → Nat := fun k => match k with
  | 0 => 0
  | _ => 0
theorem sX2_rest : jSound bX2_rest pX2_rest MX2_rest := by
  intro e p ev R s m args below meth c hX hr hn hlk K hK k
  match k with
  | 0 => exact (js_iload_n hX dX2_rest_0 rfl (js_callS hX MX2_isShelf (n := 1) (lw_S q1693 q1694 q156 q1695) npX2_isShelf dX2_rest_1 (js_if_ne hX (tgt := 9) dX2_rest_4 rfl (js_aload_n hX dX2_rest_9 rfl (js_iload_n hX dX2_rest_10 rfl (js_const hX (z := (-1)) (by unfold inI; omega) dX2_rest_11 (Or.inl ⟨(-1), rfl, rfl, rfl⟩) (js_callV hX MX2_layRow (ci := 2) (n := 2) (RX2, TX2, 43) rfl rfl (lw_V q1833 q1835 qs122 q156 q1836) npX2_layRow dX2_rest_12 (js_aload_n hX dX2_rest_15 rfl (js_callV hX MX2_goToRest (ci := 2) (n := 0) (RX2, TX2, 43) rfl rfl (lw_V q1841 q1843 qs124 q156 q1844) npX2_goToRest dX2_rest_16 (js_ireturn hX hr hlk dX2_rest_19)))))))
    (js_const hX (z := (-1)) (by unfold inI; omega) dX2_rest_7 (Or.inl ⟨(-1), rfl, rfl, rfl⟩) (js_ireturn hX hr hlk dX2_rest_8)))))
  | k + 1 => intro ls st h nc ns hf; exact hf.elim
def bX2_layRow : jjB := fun e K k => match k with
  | 0 => (ji_aload 0 (ji_callV e MX2_findChanges 2 1 (ji_aload 0 (ji_const 0 (ji_putfI 2 28 (ji_const 0 (ji_istore 3 (K 1))))))))
  | 1 => (ji_iload 3 (ji_aload 0 (ji_getfR 2 0 (ji_const 13 (ji_iload 1 (ji_iadd (ji_iald (ji_icmp_ge (ji_return e)
    (ji_aload 0 (ji_iload 1 (ji_iload 3 (ji_callV e MX2_bookAt 2 3 (ji_iload 2 (ji_icmp_ne (ji_aload 0 (ji_getfR 2 27 (ji_aload 0 (ji_getfI 2 28 (ji_aload 0 (ji_iload 1 (ji_iload 3 (ji_callV e MX2_bookAt 2 3 (ji_iast (ji_aload 0 (ji_dup (ji_getfI 2 28 (ji_const 1 (ji_iadd (ji_putfI 2 28 (K 2))))))))))))))))
    (ji_goto (K 2))))))))))))))))
  | 2 => (ji_iinc 3 1 (ji_goto (K 1)))
  | _ => fun _ _ _ _ _ => False
def pX2_layRow : Nat → Nat := fun k => match k with
  | 0 => 0
  | 1 => 11
  | 2 => 62
  | _ => 0
theorem sX2_layRow : jSound bX2_layRow pX2_layRow MX2_layRow := by
  intro e p ev R s m args below meth c hX hr hn hlk K hK k
  match k with
  | 0 => exact (js_aload_n hX dX2_layRow_0 rfl (js_callV hX MX2_findChanges (ci := 2) (n := 0) (RX2, TX2, 43) rfl rfl (lw_V q1837 q1839 qs123 q156 q1840) npX2_findChanges dX2_layRow_1 (js_aload_n hX dX2_layRow_4 rfl (js_const hX (z := 0) (by unfold inI; omega) dX2_layRow_5 (Or.inl ⟨0, rfl, rfl, rfl⟩) (js_putfI hX (ci := 2) (k := 28) (RX2, TX2, 43) rfl (by decide) rfl (Or.inl q1372) (fun _ h => h) (Or.inl rfl) dX2_layRow_6 (js_const hX (z := 0) (by unfold inI; omega) dX2_layRow_9 (Or.inl ⟨0, rfl, rfl, rfl⟩) (js_istore_n hX dX2_layRow_10 rfl (by decide) (hK 1))))))))
  | 1 => exact (js_iload_n hX dX2_layRow_11 rfl (js_aload_n hX dX2_layRow_12 rfl (js_getfR hX (ci := 2) (k := 0) (RX2, TX2, 43) rfl (by decide) rfl (Or.inl q1346) (fun _ h => h) dX2_layRow_13 (js_const hX (z := 13) (by unfold inI; omega) dX2_layRow_16 (Or.inr (Or.inl ⟨13, rfl, rfl, rfl⟩)) (js_iload_n hX dX2_layRow_18 rfl (js_iadd hX dX2_layRow_19 (js_iald hX dX2_layRow_20 (js_icmp_ge hX (tgt := 68) dX2_layRow_21 rfl (js_return hX hr hlk dX2_layRow_68)
    (js_aload_n hX dX2_layRow_24 rfl (js_iload_n hX dX2_layRow_25 rfl (js_iload_n hX dX2_layRow_26 rfl (js_callV hX MX2_bookAt (ci := 2) (n := 2) (RX2, TX2, 43) rfl rfl (lw_V q1700 q1702 qs104 q156 q1703) npX2_bookAt dX2_layRow_27 (js_iload_n hX dX2_layRow_30 rfl (js_icmp_ne hX (tgt := 37) dX2_layRow_31 rfl (js_aload_n hX dX2_layRow_37 rfl (js_getfR hX (ci := 2) (k := 27) (RX2, TX2, 43) rfl (by decide) rfl (Or.inl q1371) (fun _ h => h) dX2_layRow_38 (js_aload_n hX dX2_layRow_41 rfl (js_getfI hX (ci := 2) (k := 28) (RX2, TX2, 43) rfl (by decide) rfl (Or.inl q1372) (fun _ h => h) dX2_layRow_42 (js_aload_n hX dX2_layRow_45 rfl (js_iload_n hX dX2_layRow_46 rfl (js_iload_n hX dX2_layRow_47 rfl (js_callV hX MX2_bookAt (ci := 2) (n := 2) (RX2, TX2, 43) rfl rfl (lw_V q1700 q1702 qs104 q156 q1703) npX2_bookAt dX2_layRow_48 (js_iast hX dX2_layRow_51 (js_aload_n hX dX2_layRow_52 rfl (js_dup hX dX2_layRow_53 (js_getfI hX (ci := 2) (k := 28) (RX2, TX2, 43) rfl (by decide) rfl (Or.inl q1372) (fun _ h => h) dX2_layRow_54 (js_const hX (z := 1) (by unfold inI; omega) dX2_layRow_57 (Or.inl ⟨1, rfl, rfl, rfl⟩) (js_iadd hX dX2_layRow_58 (js_putfI hX (ci := 2) (k := 28) (RX2, TX2, 43) rfl (by decide) rfl (Or.inl q1372) (fun _ h => h) (Or.inl rfl) dX2_layRow_59 (hK 2))))))))))))))))
    (js_goto hX (tgt := 62) dX2_layRow_34 rfl (hK 2))))))))))))))))
  | 2 => exact (js_iinc hX dX2_layRow_62 (by decide) (js_goto hX (tgt := 11) dX2_layRow_65 rfl (hK 1)))
  | k + 3 => intro ls st h nc ns hf; exact hf.elim
def bX2_findChanges : jjB := fun e K k => match k with
  | 0 => (ji_const 0 (ji_istore 1 (K 1)))
  | 1 => (ji_iload 1 (ji_aload 0 (ji_getfR 2 0 (ji_const 0 (ji_iald (ji_icmp_ge (ji_return e)
    (ji_const 0 (ji_istore 2 (K 2)))))))))
  | 2 => (ji_iload 2 (ji_aload 0 (ji_getfR 2 0 (ji_const 0 (ji_iald (ji_icmp_ge (ji_iinc 1 1 (ji_goto (K 1)))
    (ji_aload 0 (ji_getfR 2 26 (ji_const 10 (ji_iload 1 (ji_imul (ji_iload 2 (ji_iadd (ji_iload 1 (ji_iload 2 (ji_icmp_eq (K 3)
    (ji_aload 0 (ji_iload 1 (ji_iload 2 (ji_callV e MX2_doChange 2 3 (ji_if_eq (K 3)
    (ji_const 1 (ji_goto (K 4))))))))))))))))))))))))
  | 3 => (ji_const 0 (K 4))
  | 4 => (ji_zast (ji_iinc 2 1 (ji_goto (K 2))))
  | _ => fun _ _ _ _ _ => False
def pX2_findChanges : Nat → Nat := fun k => match k with
  | 0 => 0
  | 1 => 2
  | 2 => 14
  | 3 => 52
  | 4 => 53
  | _ => 0
theorem sX2_findChanges : jSound bX2_findChanges pX2_findChanges MX2_findChanges := by
  intro e p ev R s m args below meth c hX hr hn hlk K hK k
  match k with
  | 0 => exact (js_const hX (z := 0) (by unfold inI; omega) dX2_findChanges_0 (Or.inl ⟨0, rfl, rfl, rfl⟩) (js_istore_n hX dX2_findChanges_1 rfl (by decide) (hK 1)))
  | 1 => exact (js_iload_n hX dX2_findChanges_2 rfl (js_aload_n hX dX2_findChanges_3 rfl (js_getfR hX (ci := 2) (k := 0) (RX2, TX2, 43) rfl (by decide) rfl (Or.inl q1346) (fun _ h => h) dX2_findChanges_4 (js_const hX (z := 0) (by unfold inI; omega) dX2_findChanges_7 (Or.inl ⟨0, rfl, rfl, rfl⟩) (js_iald hX dX2_findChanges_8 (js_icmp_ge hX (tgt := 66) dX2_findChanges_9 rfl (js_return hX hr hlk dX2_findChanges_66)
    (js_const hX (z := 0) (by unfold inI; omega) dX2_findChanges_12 (Or.inl ⟨0, rfl, rfl, rfl⟩) (js_istore_n hX dX2_findChanges_13 rfl (by decide) (hK 2)))))))))
  | 2 => exact (js_iload_n hX dX2_findChanges_14 rfl (js_aload_n hX dX2_findChanges_15 rfl (js_getfR hX (ci := 2) (k := 0) (RX2, TX2, 43) rfl (by decide) rfl (Or.inl q1346) (fun _ h => h) dX2_findChanges_16 (js_const hX (z := 0) (by unfold inI; omega) dX2_findChanges_19 (Or.inl ⟨0, rfl, rfl, rfl⟩) (js_iald hX dX2_findChanges_20 (js_icmp_ge hX (tgt := 60) dX2_findChanges_21 rfl (js_iinc hX dX2_findChanges_60 (by decide) (js_goto hX (tgt := 2) dX2_findChanges_63 rfl (hK 1)))
    (js_aload_n hX dX2_findChanges_24 rfl (js_getfR hX (ci := 2) (k := 26) (RX2, TX2, 43) rfl (by decide) rfl (Or.inl q1370) (fun _ h => h) dX2_findChanges_25 (js_const hX (z := 10) (by unfold inI; omega) dX2_findChanges_28 (Or.inr (Or.inl ⟨10, rfl, rfl, rfl⟩)) (js_iload_n hX dX2_findChanges_30 rfl (js_imul hX dX2_findChanges_31 (js_iload_n hX dX2_findChanges_32 rfl (js_iadd hX dX2_findChanges_33 (js_iload_n hX dX2_findChanges_34 rfl (js_iload_n hX dX2_findChanges_35 rfl (js_icmp_eq hX (tgt := 52) dX2_findChanges_36 rfl (hK 3)
    (js_aload_n hX dX2_findChanges_39 rfl (js_iload_n hX dX2_findChanges_40 rfl (js_iload_n hX dX2_findChanges_41 rfl (js_callV hX MX2_doChange (ci := 2) (n := 2) (RX2, TX2, 43) rfl rfl (lw_V q1729 q1731 qs109 q156 q1732) npX2_doChange dX2_findChanges_42 (js_if_eq hX (tgt := 52) dX2_findChanges_45 rfl (hK 3)
    (js_const hX (z := 1) (by unfold inI; omega) dX2_findChanges_48 (Or.inl ⟨1, rfl, rfl, rfl⟩) (js_goto hX (tgt := 53) dX2_findChanges_49 rfl (hK 4))))))))))))))))))))))))
  | 3 => exact (js_const hX (z := 0) (by unfold inI; omega) dX2_findChanges_52 (Or.inl ⟨0, rfl, rfl, rfl⟩) (hK 4))
  | 4 => exact (js_zast hX dX2_findChanges_53 (js_iinc hX dX2_findChanges_54 (by decide) (js_goto hX (tgt := 14) dX2_findChanges_57 rfl (hK 2))))
  | k + 5 => intro ls st h nc ns hf; exact hf.elim
