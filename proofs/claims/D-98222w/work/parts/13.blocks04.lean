/-! blocks of the methods and their soundness -/
set_option maxRecDepth 100000
def bX0_isPlaced : jjB := fun e K k => match k with
  | 0 => (ji_aload 0 (ji_iload 2 (ji_callV e MX0_isOnShelf 0 2 (ji_if_eq (K 1)
    (ji_aload 0 (ji_iload 2 (ji_callV e MX0_whereIs 0 2 (ji_iload 1 (ji_icmp_ne (K 1)
    (ji_iload 3 (ji_const 0 (ji_aload 0 (ji_getfR 0 0 (ji_iload 1 (ji_callV e MX1_many 1 2 (ji_const 1 (ji_isub (ji_callS e MX0_in 3 (ji_if_eq (K 1)
    (ji_const 1 (ji_goto (K 2))))))))))))))))))))))
  | 1 => (ji_const 0 (K 2))
  | 2 => (ji_zreturn e)
  | _ => fun _ _ _ _ _ => False
def pX0_isPlaced : Nat → Nat := fun k => match k with
  | 0 => 0
  | 1 => 39
  | 2 => 40
  | _ => 0
theorem sX0_isPlaced : jSound bX0_isPlaced pX0_isPlaced MX0_isPlaced := by
  intro e p ev R s m args below meth c hX hr hn hlk K hK k
  match k with
  | 0 => exact (js_aload_n hX dX0_isPlaced_0 rfl (js_iload_n hX dX0_isPlaced_1 rfl (js_callV hX MX0_isOnShelf (ci := 0) (n := 1) (RX0, TX0, 20) rfl rfl (lw_V q1132 q1134 qs40 q152 q1135) npX0_isOnShelf dX0_isPlaced_2 (js_if_eq hX (tgt := 39) dX0_isPlaced_5 rfl (hK 1)
    (js_aload_n hX dX0_isPlaced_8 rfl (js_iload_n hX dX0_isPlaced_9 rfl (js_callV hX MX0_whereIs (ci := 0) (n := 1) (RX0, TX0, 20) rfl rfl (lw_V q1059 q1061 qs38 q152 q1062) npX0_whereIs dX0_isPlaced_10 (js_iload_n hX dX0_isPlaced_13 rfl (js_icmp_ne hX (tgt := 39) dX0_isPlaced_14 rfl (hK 1)
    (js_iload_n hX dX0_isPlaced_17 rfl (js_const hX (z := 0) (by unfold inI; omega) dX0_isPlaced_18 (Or.inl ⟨0, rfl, rfl, rfl⟩) (js_aload_n hX dX0_isPlaced_19 rfl (js_getfR hX (ci := 0) (k := 0) (RX0, TX0, 20) rfl (by decide) rfl (Or.inl q255) (fun _ h => h) dX0_isPlaced_20 (js_iload_n hX dX0_isPlaced_23 rfl (js_callV hX MX1_many (ci := 1) (n := 1) (RX1, TX1, 7) rfl rfl (lw_V q332 q333 q334 q153 q335) npX1_many dX0_isPlaced_24 (js_const hX (z := 1) (by unfold inI; omega) dX0_isPlaced_27 (Or.inl ⟨1, rfl, rfl, rfl⟩) (js_isub hX dX0_isPlaced_28 (js_callS hX MX0_in (n := 3) (lw_S q325 q326 q152 q327) npX0_in dX0_isPlaced_29 (js_if_eq hX (tgt := 39) dX0_isPlaced_32 rfl (hK 1)
    (js_const hX (z := 1) (by unfold inI; omega) dX0_isPlaced_35 (Or.inl ⟨1, rfl, rfl, rfl⟩) (js_goto hX (tgt := 40) dX0_isPlaced_36 rfl (hK 2))))))))))))))))))))))
  | 1 => exact (js_const hX (z := 0) (by unfold inI; omega) dX0_isPlaced_39 (Or.inl ⟨0, rfl, rfl, rfl⟩) (hK 2))
  | 2 => exact (js_zreturn hX hr hlk dX0_isPlaced_40)
  | k + 3 => intro ls st h nc ns hf; exact hf.elim
def bX0_setOf : jjB := fun e K k => match k with
  | 0 => (ji_const 0 (ji_istore 2 (ji_const 0 (ji_istore 3 (K 1)))))
  | 1 => (ji_iload 3 (ji_aload 0 (ji_getfR 0 0 (ji_iload 1 (ji_callV e MX1_many 1 2 (ji_icmp_ge (ji_iload 2 (ji_ireturn e))
    (ji_iload 2 (ji_const 1 (ji_aload 0 (ji_getfR 0 0 (ji_iload 1 (ji_iload 3 (ji_callV e MX1_bookAt 1 3 (ji_ishl (ji_ior (ji_istore 2 (ji_iinc 3 1 (ji_goto (K 1)))))))))))))))))))
  | _ => fun _ _ _ _ _ => False
def pX0_setOf : Nat → Nat := fun k => match k with
  | 0 => 0
  | 1 => 4
  | _ => 0
theorem sX0_setOf : jSound bX0_setOf pX0_setOf MX0_setOf := by
  intro e p ev R s m args below meth c hX hr hn hlk K hK k
  match k with
  | 0 => exact (js_const hX (z := 0) (by unfold inI; omega) dX0_setOf_0 (Or.inl ⟨0, rfl, rfl, rfl⟩) (js_istore_n hX dX0_setOf_1 rfl (by decide) (js_const hX (z := 0) (by unfold inI; omega) dX0_setOf_2 (Or.inl ⟨0, rfl, rfl, rfl⟩) (js_istore_n hX dX0_setOf_3 rfl (by decide) (hK 1)))))
  | 1 => exact (js_iload_n hX dX0_setOf_4 rfl (js_aload_n hX dX0_setOf_5 rfl (js_getfR hX (ci := 0) (k := 0) (RX0, TX0, 20) rfl (by decide) rfl (Or.inl q255) (fun _ h => h) dX0_setOf_6 (js_iload_n hX dX0_setOf_9 rfl (js_callV hX MX1_many (ci := 1) (n := 1) (RX1, TX1, 7) rfl rfl (lw_V q332 q333 q334 q153 q335) npX1_many dX0_setOf_10 (js_icmp_ge hX (tgt := 36) dX0_setOf_13 rfl (js_iload_n hX dX0_setOf_36 rfl (js_ireturn hX hr hlk dX0_setOf_37))
    (js_iload_n hX dX0_setOf_16 rfl (js_const hX (z := 1) (by unfold inI; omega) dX0_setOf_17 (Or.inl ⟨1, rfl, rfl, rfl⟩) (js_aload_n hX dX0_setOf_18 rfl (js_getfR hX (ci := 0) (k := 0) (RX0, TX0, 20) rfl (by decide) rfl (Or.inl q255) (fun _ h => h) dX0_setOf_19 (js_iload_n hX dX0_setOf_22 rfl (js_iload_n hX dX0_setOf_23 rfl (js_callV hX MX1_bookAt (ci := 1) (n := 2) (RX1, TX1, 7) rfl rfl (lw_V q336 q337 q338 q153 q339) npX1_bookAt dX0_setOf_24 (js_ishl hX dX0_setOf_27 (js_ior hX dX0_setOf_28 (js_istore_n hX dX0_setOf_29 rfl (by decide) (js_iinc hX dX0_setOf_30 (by decide) (js_goto hX (tgt := 4) dX0_setOf_33 rfl (hK 1)))))))))))))))))))
  | k + 2 => intro ls st h nc ns hf; exact hf.elim
def bX0_stands : jjB := fun e K k => match k with
  | 0 => (ji_iload 1 (ji_const (-1) (ji_icmp_eq (K 1)
    (ji_aload 0 (ji_getfR 0 12 (ji_iload 2 (ji_iald (ji_iload 1 (ji_icmp_ne (ji_const 0 (K 2))
    (K 1))))))))))
  | 1 => (ji_const 1 (ji_goto (K 2)))
  | 2 => (ji_zreturn e)
  | _ => fun _ _ _ _ _ => False
def pX0_stands : Nat → Nat := fun k => match k with
  | 0 => 0
  | 1 => 15
  | 2 => 20
  | _ => 0
theorem sX0_stands : jSound bX0_stands pX0_stands MX0_stands := by
  intro e p ev R s m args below meth c hX hr hn hlk K hK k
  match k with
  | 0 => exact (js_iload_n hX dX0_stands_0 rfl (js_const hX (z := (-1)) (by unfold inI; omega) dX0_stands_1 (Or.inl ⟨(-1), rfl, rfl, rfl⟩) (js_icmp_eq hX (tgt := 15) dX0_stands_2 rfl (hK 1)
    (js_aload_n hX dX0_stands_5 rfl (js_getfR hX (ci := 0) (k := 12) (RX0, TX0, 20) rfl (by decide) rfl (Or.inl q267) (fun _ h => h) dX0_stands_6 (js_iload_n hX dX0_stands_9 rfl (js_iald hX dX0_stands_10 (js_iload_n hX dX0_stands_11 rfl (js_icmp_ne hX (tgt := 19) dX0_stands_12 rfl (js_const hX (z := 0) (by unfold inI; omega) dX0_stands_19 (Or.inl ⟨0, rfl, rfl, rfl⟩) (hK 2))
    (hK 1))))))))))
  | 1 => exact (js_const hX (z := 1) (by unfold inI; omega) dX0_stands_15 (Or.inl ⟨1, rfl, rfl, rfl⟩) (js_goto hX (tgt := 20) dX0_stands_16 rfl (hK 2)))
  | 2 => exact (js_zreturn hX hr hlk dX0_stands_20)
  | k + 3 => intro ls st h nc ns hf; exact hf.elim
def bX0_swaps : jjB := fun e K k => match k with
  | 0 => (ji_aload 0 (ji_getfR 0 12 (ji_iload 1 (ji_iald (ji_istore 2 (ji_aload 0 (ji_getfR 0 12 (ji_iload 1 (ji_aload 0 (ji_getfR 0 12 (ji_iload 1 (ji_const 1 (ji_iadd (ji_iald (ji_iast (ji_aload 0 (ji_getfR 0 12 (ji_iload 1 (ji_const 1 (ji_iadd (ji_iload 2 (ji_iast (ji_return e)))))))))))))))))))))))
  | _ => fun _ _ _ _ _ => False
def pX0_swaps : Nat → Nat := fun k => match k with
  | 0 => 0
  | _ => 0
theorem sX0_swaps : jSound bX0_swaps pX0_swaps MX0_swaps := by
  intro e p ev R s m args below meth c hX hr hn hlk K hK k
  match k with
  | 0 => exact (js_aload_n hX dX0_swaps_0 rfl (js_getfR hX (ci := 0) (k := 12) (RX0, TX0, 20) rfl (by decide) rfl (Or.inl q267) (fun _ h => h) dX0_swaps_1 (js_iload_n hX dX0_swaps_4 rfl (js_iald hX dX0_swaps_5 (js_istore_n hX dX0_swaps_6 rfl (by decide) (js_aload_n hX dX0_swaps_7 rfl (js_getfR hX (ci := 0) (k := 12) (RX0, TX0, 20) rfl (by decide) rfl (Or.inl q267) (fun _ h => h) dX0_swaps_8 (js_iload_n hX dX0_swaps_11 rfl (js_aload_n hX dX0_swaps_12 rfl (js_getfR hX (ci := 0) (k := 12) (RX0, TX0, 20) rfl (by decide) rfl (Or.inl q267) (fun _ h => h) dX0_swaps_13 (js_iload_n hX dX0_swaps_16 rfl (js_const hX (z := 1) (by unfold inI; omega) dX0_swaps_17 (Or.inl ⟨1, rfl, rfl, rfl⟩) (js_iadd hX dX0_swaps_18 (js_iald hX dX0_swaps_19 (js_iast hX dX0_swaps_20 (js_aload_n hX dX0_swaps_21 rfl (js_getfR hX (ci := 0) (k := 12) (RX0, TX0, 20) rfl (by decide) rfl (Or.inl q267) (fun _ h => h) dX0_swaps_22 (js_iload_n hX dX0_swaps_25 rfl (js_const hX (z := 1) (by unfold inI; omega) dX0_swaps_26 (Or.inl ⟨1, rfl, rfl, rfl⟩) (js_iadd hX dX0_swaps_27 (js_iload_n hX dX0_swaps_28 rfl (js_iast hX dX0_swaps_29 (js_return hX hr hlk dX0_swaps_30)))))))))))))))))))))))
  | k + 1 => intro ls st h nc ns hf; exact hf.elim
def bX0_game : jjB := fun e K k => match k with
  | 0 => (ji_iload 1 (ji_callS e MX0_isShelf 1 (ji_if_eq (K 1)
    (ji_aload 0 (ji_iload 2 (ji_callV e MX0_isOnShelf 0 2 (ji_if_eq (K 1)
    (ji_aload 0 (ji_iload 2 (ji_callV e MX0_whereIs 0 2 (ji_iload 1 (ji_icmp_ne (K 1)
    (ji_aload 0 (ji_getfR 0 0 (ji_iload 1 (ji_callV e MX1_many 1 2 (ji_const 2 (ji_const 5 (ji_callS e MX0_in 3 (ji_if_eq (K 1)
    (ji_iload 3 (ji_const 1 (ji_const 5 (ji_callS e MX0_in 3 (ji_if_ne (ji_aload 0 (ji_callV e MX0_laysChange 0 1 (ji_aload 0 (ji_iload 1 (ji_const (-1) (ji_callV e MX0_laysRow 0 3 (ji_aload 0 (ji_getfR 0 8 (ji_const 0 (ji_aload 0 (ji_getfR 0 17 (ji_const 0 (ji_aald (-5) (ji_const 0 (ji_aload 0 (ji_getfI 0 10 (ji_acopyI (ji_aload 0 (ji_const 0 (ji_iload 3 (ji_iload 2 (ji_callV e MX0_plays 0 4 (ji_istore 5 (ji_iload 4 (ji_if_ne (ji_const (-1) (ji_istore 6 (K 2)))
    (ji_iload 5 (ji_ireturn e)))))))))))))))))))))))))))
    (K 1))))))))))))))))))))))))))
  | 1 => (ji_const (-2) (ji_ireturn e))
  | 2 => (ji_iload 6 (ji_aload 0 (ji_getfI 0 10 (ji_const 1 (ji_isub (ji_icmp_ge (ji_const (-1) (ji_ireturn e))
    (ji_aload 0 (ji_const 0 (ji_iload 6 (ji_callV e MX0_moves 0 3 (ji_aload 0 (ji_const 1 (ji_iload 3 (ji_iload 2 (ji_callV e MX0_plays 0 4 (ji_iload 5 (ji_icmp_ne (ji_iinc 6 1 (ji_goto (K 2)))
    (ji_iload 6 (ji_ireturn e)))))))))))))))))))
  | _ => fun _ _ _ _ _ => False
def pX0_game : Nat → Nat := fun k => match k with
  | 0 => 0
  | 1 => 49
  | 2 => 101
  | _ => 0
theorem sX0_game : jSound bX0_game pX0_game MX0_game := by
  intro e p ev R s m args below meth c hX hr hn hlk K hK k
  match k with
  | 0 => exact (js_iload_n hX dX0_game_0 rfl (js_callS hX MX0_isShelf (n := 1) (lw_S q322 q323 q152 q324) npX0_isShelf dX0_game_1 (js_if_eq hX (tgt := 49) dX0_game_4 rfl (hK 1)
    (js_aload_n hX dX0_game_7 rfl (js_iload_n hX dX0_game_8 rfl (js_callV hX MX0_isOnShelf (ci := 0) (n := 1) (RX0, TX0, 20) rfl rfl (lw_V q1132 q1134 qs40 q152 q1135) npX0_isOnShelf dX0_game_9 (js_if_eq hX (tgt := 49) dX0_game_12 rfl (hK 1)
    (js_aload_n hX dX0_game_15 rfl (js_iload_n hX dX0_game_16 rfl (js_callV hX MX0_whereIs (ci := 0) (n := 1) (RX0, TX0, 20) rfl rfl (lw_V q1059 q1061 qs38 q152 q1062) npX0_whereIs dX0_game_17 (js_iload_n hX dX0_game_20 rfl (js_icmp_ne hX (tgt := 49) dX0_game_21 rfl (hK 1)
    (js_aload_n hX dX0_game_24 rfl (js_getfR hX (ci := 0) (k := 0) (RX0, TX0, 20) rfl (by decide) rfl (Or.inl q255) (fun _ h => h) dX0_game_25 (js_iload_n hX dX0_game_28 rfl (js_callV hX MX1_many (ci := 1) (n := 1) (RX1, TX1, 7) rfl rfl (lw_V q332 q333 q334 q153 q335) npX1_many dX0_game_29 (js_const hX (z := 2) (by unfold inI; omega) dX0_game_32 (Or.inl ⟨2, rfl, rfl, rfl⟩) (js_const hX (z := 5) (by unfold inI; omega) dX0_game_33 (Or.inl ⟨5, rfl, rfl, rfl⟩) (js_callS hX MX0_in (n := 3) (lw_S q325 q326 q152 q327) npX0_in dX0_game_34 (js_if_eq hX (tgt := 49) dX0_game_37 rfl (hK 1)
    (js_iload_n hX dX0_game_40 rfl (js_const hX (z := 1) (by unfold inI; omega) dX0_game_41 (Or.inl ⟨1, rfl, rfl, rfl⟩) (js_const hX (z := 5) (by unfold inI; omega) dX0_game_42 (Or.inl ⟨5, rfl, rfl, rfl⟩) (js_callS hX MX0_in (n := 3) (lw_S q325 q326 q152 q327) npX0_in dX0_game_43 (js_if_ne hX (tgt := 52) dX0_game_46 rfl (js_aload_n hX dX0_game_52 rfl (js_callV hX MX0_laysChange (ci := 0) (n := 0) (RX0, TX0, 20) rfl rfl (lw_V q1006 q1008 qs30 q152 q1009) npX0_laysChange dX0_game_53 (js_aload_n hX dX0_game_56 rfl (js_iload_n hX dX0_game_57 rfl (js_const hX (z := (-1)) (by unfold inI; omega) dX0_game_58 (Or.inl ⟨(-1), rfl, rfl, rfl⟩) (js_callV hX MX0_laysRow (ci := 0) (n := 2) (RX0, TX0, 20) rfl rfl (lw_V q1148 q1150 qs41 q152 q1151) npX0_laysRow dX0_game_59 (js_aload_n hX dX0_game_62 rfl (js_getfR hX (ci := 0) (k := 8) (RX0, TX0, 20) rfl (by decide) rfl (Or.inl q263) (fun _ h => h) dX0_game_63 (js_const hX (z := 0) (by unfold inI; omega) dX0_game_66 (Or.inl ⟨0, rfl, rfl, rfl⟩) (js_aload_n hX dX0_game_67 rfl (js_getfR hX (ci := 0) (k := 17) (RX0, TX0, 20) rfl (by decide) rfl (Or.inl q272) (fun _ h => h) dX0_game_68 (js_const hX (z := 0) (by unfold inI; omega) dX0_game_71 (Or.inl ⟨0, rfl, rfl, rfl⟩) (js_aald hX (cd := (-5)) (by decide) rfl rfl dX0_game_72 (js_const hX (z := 0) (by unfold inI; omega) dX0_game_73 (Or.inl ⟨0, rfl, rfl, rfl⟩) (js_aload_n hX dX0_game_74 rfl (js_getfI hX (ci := 0) (k := 10) (RX0, TX0, 20) rfl (by decide) rfl (Or.inl q265) (fun _ h => h) dX0_game_75 (js_acopyI hX q354 dX0_game_78 (js_aload_n hX dX0_game_81 rfl (js_const hX (z := 0) (by unfold inI; omega) dX0_game_82 (Or.inl ⟨0, rfl, rfl, rfl⟩) (js_iload_n hX dX0_game_83 rfl (js_iload_n hX dX0_game_84 rfl (js_callV hX MX0_plays (ci := 0) (n := 3) (RX0, TX0, 20) rfl rfl (lw_V q1256 q1258 qs57 q152 q1259) npX0_plays dX0_game_85 (js_istore hX dX0_game_88 (by decide) (js_iload hX dX0_game_90 (js_if_ne hX (tgt := 98) dX0_game_92 rfl (js_const hX (z := (-1)) (by unfold inI; omega) dX0_game_98 (Or.inl ⟨(-1), rfl, rfl, rfl⟩) (js_istore hX dX0_game_99 (by decide) (hK 2)))
    (js_iload hX dX0_game_95 (js_ireturn hX hr hlk dX0_game_97)))))))))))))))))))))))))))
    (hK 1))))))))))))))))))))))))))
  | 1 => exact (js_const hX (z := (-2)) (by unfold inI; omega) dX0_game_49 (Or.inr (Or.inl ⟨(-2), rfl, rfl, rfl⟩)) (js_ireturn hX hr hlk dX0_game_51))
  | 2 => exact (js_iload hX dX0_game_101 (js_aload_n hX dX0_game_103 rfl (js_getfI hX (ci := 0) (k := 10) (RX0, TX0, 20) rfl (by decide) rfl (Or.inl q265) (fun _ h => h) dX0_game_104 (js_const hX (z := 1) (by unfold inI; omega) dX0_game_107 (Or.inl ⟨1, rfl, rfl, rfl⟩) (js_isub hX dX0_game_108 (js_icmp_ge hX (tgt := 140) dX0_game_109 rfl (js_const hX (z := (-1)) (by unfold inI; omega) dX0_game_140 (Or.inl ⟨(-1), rfl, rfl, rfl⟩) (js_ireturn hX hr hlk dX0_game_141))
    (js_aload_n hX dX0_game_112 rfl (js_const hX (z := 0) (by unfold inI; omega) dX0_game_113 (Or.inl ⟨0, rfl, rfl, rfl⟩) (js_iload hX dX0_game_114 (js_callV hX MX0_moves (ci := 0) (n := 2) (RX0, TX0, 20) rfl rfl (lw_V q1263 q1265 qs58 q152 q1266) npX0_moves dX0_game_116 (js_aload_n hX dX0_game_119 rfl (js_const hX (z := 1) (by unfold inI; omega) dX0_game_120 (Or.inl ⟨1, rfl, rfl, rfl⟩) (js_iload_n hX dX0_game_121 rfl (js_iload_n hX dX0_game_122 rfl (js_callV hX MX0_plays (ci := 0) (n := 3) (RX0, TX0, 20) rfl rfl (lw_V q1256 q1258 qs57 q152 q1259) npX0_plays dX0_game_123 (js_iload hX dX0_game_126 (js_icmp_ne hX (tgt := 134) dX0_game_128 rfl (js_iinc hX dX0_game_134 (by decide) (js_goto hX (tgt := 101) dX0_game_137 rfl (hK 2)))
    (js_iload hX dX0_game_131 (js_ireturn hX hr hlk dX0_game_133)))))))))))))))))))
  | k + 3 => intro ls st h nc ns hf; exact hf.elim
def bX0_plays : jjB := fun e K k => match k with
  | 0 => (ji_iload 1 (ji_iload 2 (ji_icmp_ne (ji_const (-1) (ji_istore 4 (ji_const (-1) (ji_istore 5 (K 1)))))
    (ji_aload 0 (ji_getfR 0 17 (ji_iload 1 (ji_aald (-5) (ji_iload 3 (ji_callS e MX0_placeIn 2 (ji_ireturn e))))))))))
  | 1 => (ji_iload 5 (ji_aload 0 (ji_getfI 0 10 (ji_const 1 (ji_isub (ji_icmp_ge (ji_iload 4 (ji_ireturn e))
    (ji_aload 0 (ji_iload 1 (ji_iload 5 (ji_callV e MX0_moves 0 3 (ji_aload 0 (ji_iload 1 (ji_const 1 (ji_iadd (ji_iload 2 (ji_iload 3 (ji_callV e MX0_plays 0 4 (ji_istore 6 (ji_iload 4 (ji_const (-1) (ji_icmp_eq (K 2)
    (ji_iload 1 (ji_const 2 (ji_irem (ji_if_ne (ji_iload 6 (ji_iload 4 (ji_icmp_le (K 3)
    (K 2))))
    (ji_iload 6 (ji_iload 4 (ji_icmp_ge (K 3)
    (ji_goto (K 2))))))))))))))))))))))))))))))
  | 2 => (ji_iload 6 (ji_istore 4 (K 3)))
  | 3 => (ji_iinc 5 1 (ji_goto (K 1)))
  | _ => fun _ _ _ _ _ => False
def pX0_plays : Nat → Nat := fun k => match k with
  | 0 => 0
  | 1 => 22
  | 2 => 80
  | 3 => 84
  | _ => 0
theorem sX0_plays : jSound bX0_plays pX0_plays MX0_plays := by
  intro e p ev R s m args below meth c hX hr hn hlk K hK k
  match k with
  | 0 => exact (js_iload_n hX dX0_plays_0 rfl (js_iload_n hX dX0_plays_1 rfl (js_icmp_ne hX (tgt := 16) dX0_plays_2 rfl (js_const hX (z := (-1)) (by unfold inI; omega) dX0_plays_16 (Or.inl ⟨(-1), rfl, rfl, rfl⟩) (js_istore hX dX0_plays_17 (by decide) (js_const hX (z := (-1)) (by unfold inI; omega) dX0_plays_19 (Or.inl ⟨(-1), rfl, rfl, rfl⟩) (js_istore hX dX0_plays_20 (by decide) (hK 1)))))
    (js_aload_n hX dX0_plays_5 rfl (js_getfR hX (ci := 0) (k := 17) (RX0, TX0, 20) rfl (by decide) rfl (Or.inl q272) (fun _ h => h) dX0_plays_6 (js_iload_n hX dX0_plays_9 rfl (js_aald hX (cd := (-5)) (by decide) rfl rfl dX0_plays_10 (js_iload_n hX dX0_plays_11 rfl (js_callS hX MX0_placeIn (n := 2) (lw_S q1260 q1261 q152 q1262) npX0_placeIn dX0_plays_12 (js_ireturn hX hr hlk dX0_plays_15))))))))))
  | 1 => exact (js_iload hX dX0_plays_22 (js_aload_n hX dX0_plays_24 rfl (js_getfI hX (ci := 0) (k := 10) (RX0, TX0, 20) rfl (by decide) rfl (Or.inl q265) (fun _ h => h) dX0_plays_25 (js_const hX (z := 1) (by unfold inI; omega) dX0_plays_28 (Or.inl ⟨1, rfl, rfl, rfl⟩) (js_isub hX dX0_plays_29 (js_icmp_ge hX (tgt := 90) dX0_plays_30 rfl (js_iload hX dX0_plays_90 (js_ireturn hX hr hlk dX0_plays_92))
    (js_aload_n hX dX0_plays_33 rfl (js_iload_n hX dX0_plays_34 rfl (js_iload hX dX0_plays_35 (js_callV hX MX0_moves (ci := 0) (n := 2) (RX0, TX0, 20) rfl rfl (lw_V q1263 q1265 qs58 q152 q1266) npX0_moves dX0_plays_37 (js_aload_n hX dX0_plays_40 rfl (js_iload_n hX dX0_plays_41 rfl (js_const hX (z := 1) (by unfold inI; omega) dX0_plays_42 (Or.inl ⟨1, rfl, rfl, rfl⟩) (js_iadd hX dX0_plays_43 (js_iload_n hX dX0_plays_44 rfl (js_iload_n hX dX0_plays_45 rfl (js_callV hX MX0_plays (ci := 0) (n := 3) (RX0, TX0, 20) rfl rfl (lw_V q1256 q1258 qs57 q152 q1259) npX0_plays dX0_plays_46 (js_istore hX dX0_plays_49 (by decide) (js_iload hX dX0_plays_51 (js_const hX (z := (-1)) (by unfold inI; omega) dX0_plays_53 (Or.inl ⟨(-1), rfl, rfl, rfl⟩) (js_icmp_eq hX (tgt := 80) dX0_plays_54 rfl (hK 2)
    (js_iload_n hX dX0_plays_57 rfl (js_const hX (z := 2) (by unfold inI; omega) dX0_plays_58 (Or.inl ⟨2, rfl, rfl, rfl⟩) (js_irem hX dX0_plays_59 (js_if_ne hX (tgt := 73) dX0_plays_60 rfl (js_iload hX dX0_plays_73 (js_iload hX dX0_plays_75 (js_icmp_le hX (tgt := 84) dX0_plays_77 rfl (hK 3)
    (hK 2))))
    (js_iload hX dX0_plays_63 (js_iload hX dX0_plays_65 (js_icmp_ge hX (tgt := 84) dX0_plays_67 rfl (hK 3)
    (js_goto hX (tgt := 80) dX0_plays_70 rfl (hK 2))))))))))))))))))))))))))))))
  | 2 => exact (js_iload hX dX0_plays_80 (js_istore hX dX0_plays_82 (by decide) (hK 3)))
  | 3 => exact (js_iinc hX dX0_plays_84 (by decide) (js_goto hX (tgt := 22) dX0_plays_87 rfl (hK 1)))
  | k + 4 => intro ls st h nc ns hf; exact hf.elim
def bX0_placeIn : jjB := fun e K k => match k with
  | 0 => (ji_const 0 (ji_istore 2 (K 1)))
  | 1 => (ji_aload 0 (ji_iload 2 (ji_iald (ji_iload 1 (ji_icmp_eq (ji_iload 2 (ji_ireturn e))
    (ji_iinc 2 1 (ji_goto (K 1))))))))
  | _ => fun _ _ _ _ _ => False
def pX0_placeIn : Nat → Nat := fun k => match k with
  | 0 => 0
  | 1 => 2
  | _ => 0
theorem sX0_placeIn : jSound bX0_placeIn pX0_placeIn MX0_placeIn := by
  intro e p ev R s m args below meth c hX hr hn hlk K hK k
  match k with
  | 0 => exact (js_const hX (z := 0) (by unfold inI; omega) dX0_placeIn_0 (Or.inl ⟨0, rfl, rfl, rfl⟩) (js_istore_n hX dX0_placeIn_1 rfl (by decide) (hK 1)))
  | 1 => exact (js_aload_n hX dX0_placeIn_2 rfl (js_iload_n hX dX0_placeIn_3 rfl (js_iald hX dX0_placeIn_4 (js_iload_n hX dX0_placeIn_5 rfl (js_icmp_eq hX (tgt := 15) dX0_placeIn_6 rfl (js_iload_n hX dX0_placeIn_15 rfl (js_ireturn hX hr hlk dX0_placeIn_16))
    (js_iinc hX dX0_placeIn_9 (by decide) (js_goto hX (tgt := 2) dX0_placeIn_12 rfl (hK 1))))))))
  | k + 2 => intro ls st h nc ns hf; exact hf.elim
def bX0_moves : jjB := fun e K k => match k with
  | 0 => (ji_aload 0 (ji_getfR 0 17 (ji_iload 1 (ji_aald (-5) (ji_const 0 (ji_aload 0 (ji_getfR 0 17 (ji_iload 1 (ji_const 1 (ji_iadd (ji_aald (-5) (ji_const 0 (ji_aload 0 (ji_getfI 0 10 (ji_acopyI (ji_iload 2 (ji_const (-1) (ji_icmp_eq (K 1)
    (ji_aload 0 (ji_getfR 0 17 (ji_iload 1 (ji_const 1 (ji_iadd (ji_aald (-5) (ji_iload 2 (ji_aload 0 (ji_getfR 0 17 (ji_iload 1 (ji_aald (-5) (ji_iload 2 (ji_const 1 (ji_iadd (ji_iald (ji_iast (ji_aload 0 (ji_getfR 0 17 (ji_iload 1 (ji_const 1 (ji_iadd (ji_aald (-5) (ji_iload 2 (ji_const 1 (ji_iadd (ji_aload 0 (ji_getfR 0 17 (ji_iload 1 (ji_aald (-5) (ji_iload 2 (ji_iald (ji_iast (K 1)))))))))))))))))))))))))))))))))))))))))))))))))))
  | 1 => (ji_aload 0 (ji_aload 0 (ji_getfR 0 17 (ji_iload 1 (ji_const 1 (ji_iadd (ji_aald (-5) (ji_const 0 (ji_aload 0 (ji_getfI 0 10 (ji_aload 0 (ji_getfR 0 0 (ji_getfR 1 2 (ji_const 44 (ji_iald (ji_iload 1 (ji_iadd (ji_const 2 (ji_irem (ji_callV e MX0_nightOn 0 5 (ji_istore 3 (ji_return e))))))))))))))))))))))
  | _ => fun _ _ _ _ _ => False
def pX0_moves : Nat → Nat := fun k => match k with
  | 0 => 0
  | 1 => 68
  | _ => 0
theorem sX0_moves : jSound bX0_moves pX0_moves MX0_moves := by
  intro e p ev R s m args below meth c hX hr hn hlk K hK k
  match k with
  | 0 => exact (js_aload_n hX dX0_moves_0 rfl (js_getfR hX (ci := 0) (k := 17) (RX0, TX0, 20) rfl (by decide) rfl (Or.inl q272) (fun _ h => h) dX0_moves_1 (js_iload_n hX dX0_moves_4 rfl (js_aald hX (cd := (-5)) (by decide) rfl rfl dX0_moves_5 (js_const hX (z := 0) (by unfold inI; omega) dX0_moves_6 (Or.inl ⟨0, rfl, rfl, rfl⟩) (js_aload_n hX dX0_moves_7 rfl (js_getfR hX (ci := 0) (k := 17) (RX0, TX0, 20) rfl (by decide) rfl (Or.inl q272) (fun _ h => h) dX0_moves_8 (js_iload_n hX dX0_moves_11 rfl (js_const hX (z := 1) (by unfold inI; omega) dX0_moves_12 (Or.inl ⟨1, rfl, rfl, rfl⟩) (js_iadd hX dX0_moves_13 (js_aald hX (cd := (-5)) (by decide) rfl rfl dX0_moves_14 (js_const hX (z := 0) (by unfold inI; omega) dX0_moves_15 (Or.inl ⟨0, rfl, rfl, rfl⟩) (js_aload_n hX dX0_moves_16 rfl (js_getfI hX (ci := 0) (k := 10) (RX0, TX0, 20) rfl (by decide) rfl (Or.inl q265) (fun _ h => h) dX0_moves_17 (js_acopyI hX q354 dX0_moves_20 (js_iload_n hX dX0_moves_23 rfl (js_const hX (z := (-1)) (by unfold inI; omega) dX0_moves_24 (Or.inl ⟨(-1), rfl, rfl, rfl⟩) (js_icmp_eq hX (tgt := 68) dX0_moves_25 rfl (hK 1)
    (js_aload_n hX dX0_moves_28 rfl (js_getfR hX (ci := 0) (k := 17) (RX0, TX0, 20) rfl (by decide) rfl (Or.inl q272) (fun _ h => h) dX0_moves_29 (js_iload_n hX dX0_moves_32 rfl (js_const hX (z := 1) (by unfold inI; omega) dX0_moves_33 (Or.inl ⟨1, rfl, rfl, rfl⟩) (js_iadd hX dX0_moves_34 (js_aald hX (cd := (-5)) (by decide) rfl rfl dX0_moves_35 (js_iload_n hX dX0_moves_36 rfl (js_aload_n hX dX0_moves_37 rfl (js_getfR hX (ci := 0) (k := 17) (RX0, TX0, 20) rfl (by decide) rfl (Or.inl q272) (fun _ h => h) dX0_moves_38 (js_iload_n hX dX0_moves_41 rfl (js_aald hX (cd := (-5)) (by decide) rfl rfl dX0_moves_42 (js_iload_n hX dX0_moves_43 rfl (js_const hX (z := 1) (by unfold inI; omega) dX0_moves_44 (Or.inl ⟨1, rfl, rfl, rfl⟩) (js_iadd hX dX0_moves_45 (js_iald hX dX0_moves_46 (js_iast hX dX0_moves_47 (js_aload_n hX dX0_moves_48 rfl (js_getfR hX (ci := 0) (k := 17) (RX0, TX0, 20) rfl (by decide) rfl (Or.inl q272) (fun _ h => h) dX0_moves_49 (js_iload_n hX dX0_moves_52 rfl (js_const hX (z := 1) (by unfold inI; omega) dX0_moves_53 (Or.inl ⟨1, rfl, rfl, rfl⟩) (js_iadd hX dX0_moves_54 (js_aald hX (cd := (-5)) (by decide) rfl rfl dX0_moves_55 (js_iload_n hX dX0_moves_56 rfl (js_const hX (z := 1) (by unfold inI; omega) dX0_moves_57 (Or.inl ⟨1, rfl, rfl, rfl⟩) (js_iadd hX dX0_moves_58 (js_aload_n hX dX0_moves_59 rfl (js_getfR hX (ci := 0) (k := 17) (RX0, TX0, 20) rfl (by decide) rfl (Or.inl q272) (fun _ h => h) dX0_moves_60 (js_iload_n hX dX0_moves_63 rfl (js_aald hX (cd := (-5)) (by decide) rfl rfl dX0_moves_64 (js_iload_n hX dX0_moves_65 rfl (js_iald hX dX0_moves_66 (js_iast hX dX0_moves_67 (hK 1)))))))))))))))))))))))))))))))))))))))))))))))))))
  | 1 => exact (js_aload_n hX dX0_moves_68 rfl (js_aload_n hX dX0_moves_69 rfl (js_getfR hX (ci := 0) (k := 17) (RX0, TX0, 20) rfl (by decide) rfl (Or.inl q272) (fun _ h => h) dX0_moves_70 (js_iload_n hX dX0_moves_73 rfl (js_const hX (z := 1) (by unfold inI; omega) dX0_moves_74 (Or.inl ⟨1, rfl, rfl, rfl⟩) (js_iadd hX dX0_moves_75 (js_aald hX (cd := (-5)) (by decide) rfl rfl dX0_moves_76 (js_const hX (z := 0) (by unfold inI; omega) dX0_moves_77 (Or.inl ⟨0, rfl, rfl, rfl⟩) (js_aload_n hX dX0_moves_78 rfl (js_getfI hX (ci := 0) (k := 10) (RX0, TX0, 20) rfl (by decide) rfl (Or.inl q265) (fun _ h => h) dX0_moves_79 (js_aload_n hX dX0_moves_82 rfl (js_getfR hX (ci := 0) (k := 0) (RX0, TX0, 20) rfl (by decide) rfl (Or.inl q255) (fun _ h => h) dX0_moves_83 (js_getfR hX (ci := 1) (k := 2) (RX1, TX1, 7) rfl (by decide) rfl (Or.inr ⟨_, q216⟩) (fun _ h => h) dX0_moves_86 (js_const hX (z := 44) (by unfold inI; omega) dX0_moves_89 (Or.inr (Or.inl ⟨44, rfl, rfl, rfl⟩)) (js_iald hX dX0_moves_91 (js_iload_n hX dX0_moves_92 rfl (js_iadd hX dX0_moves_93 (js_const hX (z := 2) (by unfold inI; omega) dX0_moves_94 (Or.inl ⟨2, rfl, rfl, rfl⟩) (js_irem hX dX0_moves_95 (js_callV hX MX0_nightOn (ci := 0) (n := 4) (RX0, TX0, 20) rfl rfl (lw_V q1030 q1032 qs34 q152 q1033) npX0_nightOn dX0_moves_96 (js_istore_n hX dX0_moves_99 rfl (by decide) (js_return hX hr hlk dX0_moves_100))))))))))))))))))))))
  | k + 2 => intro ls st h nc ns hf; exact hf.elim
def bX0_catalogue : jjB := fun e K k => match k with
  | 0 => (ji_aload 0 (ji_iload 1 (ji_callV e MX0_isOnShelf 0 2 (ji_if_eq (K 1)
    (ji_iload 2 (ji_const 0 (ji_const 99 (ji_callS e MX0_in 3 (ji_if_eq (K 1)
    (ji_iload 3 (ji_if_ge (ji_aload 0 (ji_callV e MX0_laysChange 0 1 (ji_aload 0 (ji_aload 0 (ji_iload 1 (ji_callV e MX0_whereIs 0 2 (ji_const (-1) (ji_callV e MX0_laysRow 0 3 (ji_aload 0 (ji_getfR 0 18 (ji_const 0 (ji_callS e MJ0_fill 2 (ji_const 0 (ji_istore 5 (K 2)))))))))))))))
    (K 1))))))))))))
  | 1 => (ji_const (-1) (ji_ireturn e))
  | 2 => (ji_iload 5 (ji_iload 2 (ji_icmp_gt (ji_iload 3 (ji_aload 0 (ji_getfI 0 10 (ji_icmp_lt (ji_iload 4 (ji_if_eq (ji_aload 0 (ji_getfR 0 18 (ji_iload 3 (ji_iald (K 3)))))
    (ji_aload 0 (ji_iload 3 (ji_callV e MX0_looks 0 2 (ji_goto (K 3)))))))
    (ji_const (-1) (ji_ireturn e))))))
    (ji_aload 0 (ji_getfR 0 18 (ji_aload 0 (ji_getfR 0 8 (ji_iload 1 (ji_callS e MX0_placeIn 2 (ji_dup2 (ji_iald (ji_const 1 (ji_iadd (ji_iast (ji_aload 0 (ji_aload 0 (ji_getfR 0 8 (ji_const 0 (ji_aload 0 (ji_getfI 0 10 (ji_aload 0 (ji_getfR 0 0 (ji_getfR 1 2 (ji_const 44 (ji_iald (ji_iload 5 (ji_iadd (ji_const 2 (ji_irem (ji_callV e MX0_nightOn 0 5 (ji_istore 6 (ji_iinc 5 1 (ji_goto (K 2))))))))))))))))))))))))))))))))))
  | 3 => (ji_ireturn e)
  | _ => fun _ _ _ _ _ => False
def pX0_catalogue : Nat → Nat := fun k => match k with
  | 0 => 0
  | 1 => 22
  | 2 => 49
  | 3 => 137
  | _ => 0
theorem sX0_catalogue : jSound bX0_catalogue pX0_catalogue MX0_catalogue := by
  intro e p ev R s m args below meth c hX hr hn hlk K hK k
  match k with
  | 0 => exact (js_aload_n hX dX0_catalogue_0 rfl (js_iload_n hX dX0_catalogue_1 rfl (js_callV hX MX0_isOnShelf (ci := 0) (n := 1) (RX0, TX0, 20) rfl rfl (lw_V q1132 q1134 qs40 q152 q1135) npX0_isOnShelf dX0_catalogue_2 (js_if_eq hX (tgt := 22) dX0_catalogue_5 rfl (hK 1)
    (js_iload_n hX dX0_catalogue_8 rfl (js_const hX (z := 0) (by unfold inI; omega) dX0_catalogue_9 (Or.inl ⟨0, rfl, rfl, rfl⟩) (js_const hX (z := 99) (by unfold inI; omega) dX0_catalogue_10 (Or.inr (Or.inl ⟨99, rfl, rfl, rfl⟩)) (js_callS hX MX0_in (n := 3) (lw_S q325 q326 q152 q327) npX0_in dX0_catalogue_12 (js_if_eq hX (tgt := 22) dX0_catalogue_15 rfl (hK 1)
    (js_iload_n hX dX0_catalogue_18 rfl (js_if_ge hX (tgt := 24) dX0_catalogue_19 rfl (js_aload_n hX dX0_catalogue_24 rfl (js_callV hX MX0_laysChange (ci := 0) (n := 0) (RX0, TX0, 20) rfl rfl (lw_V q1006 q1008 qs30 q152 q1009) npX0_laysChange dX0_catalogue_25 (js_aload_n hX dX0_catalogue_28 rfl (js_aload_n hX dX0_catalogue_29 rfl (js_iload_n hX dX0_catalogue_30 rfl (js_callV hX MX0_whereIs (ci := 0) (n := 1) (RX0, TX0, 20) rfl rfl (lw_V q1059 q1061 qs38 q152 q1062) npX0_whereIs dX0_catalogue_31 (js_const hX (z := (-1)) (by unfold inI; omega) dX0_catalogue_34 (Or.inl ⟨(-1), rfl, rfl, rfl⟩) (js_callV hX MX0_laysRow (ci := 0) (n := 2) (RX0, TX0, 20) rfl rfl (lw_V q1148 q1150 qs41 q152 q1151) npX0_laysRow dX0_catalogue_35 (js_aload_n hX dX0_catalogue_38 rfl (js_getfR hX (ci := 0) (k := 18) (RX0, TX0, 20) rfl (by decide) rfl (Or.inl q273) (fun _ h => h) dX0_catalogue_39 (js_const hX (z := 0) (by unfold inI; omega) dX0_catalogue_42 (Or.inl ⟨0, rfl, rfl, rfl⟩) (js_callS hX MJ0_fill (n := 2) (lw_S q1243 q203 q154 q204) npJ0_fill dX0_catalogue_43 (js_const hX (z := 0) (by unfold inI; omega) dX0_catalogue_46 (Or.inl ⟨0, rfl, rfl, rfl⟩) (js_istore hX dX0_catalogue_47 (by decide) (hK 2)))))))))))))))
    (hK 1))))))))))))
  | 1 => exact (js_const hX (z := (-1)) (by unfold inI; omega) dX0_catalogue_22 (Or.inl ⟨(-1), rfl, rfl, rfl⟩) (js_ireturn hX hr hlk dX0_catalogue_23))
  | 2 => exact (js_iload hX dX0_catalogue_49 (js_iload_n hX dX0_catalogue_51 rfl (js_icmp_gt hX (tgt := 108) dX0_catalogue_52 rfl (js_iload_n hX dX0_catalogue_108 rfl (js_aload_n hX dX0_catalogue_109 rfl (js_getfI hX (ci := 0) (k := 10) (RX0, TX0, 20) rfl (by decide) rfl (Or.inl q265) (fun _ h => h) dX0_catalogue_110 (js_icmp_lt hX (tgt := 118) dX0_catalogue_113 rfl (js_iload hX dX0_catalogue_118 (js_if_eq hX (tgt := 131) dX0_catalogue_120 rfl (js_aload_n hX dX0_catalogue_131 rfl (js_getfR hX (ci := 0) (k := 18) (RX0, TX0, 20) rfl (by decide) rfl (Or.inl q273) (fun _ h => h) dX0_catalogue_132 (js_iload_n hX dX0_catalogue_135 rfl (js_iald hX dX0_catalogue_136 (hK 3)))))
    (js_aload_n hX dX0_catalogue_123 rfl (js_iload_n hX dX0_catalogue_124 rfl (js_callV hX MX0_looks (ci := 0) (n := 1) (RX0, TX0, 20) rfl rfl (lw_V q1271 q1273 qs59 q152 q1274) npX0_looks dX0_catalogue_125 (js_goto hX (tgt := 137) dX0_catalogue_128 rfl (hK 3)))))))
    (js_const hX (z := (-1)) (by unfold inI; omega) dX0_catalogue_116 (Or.inl ⟨(-1), rfl, rfl, rfl⟩) (js_ireturn hX hr hlk dX0_catalogue_117))))))
    (js_aload_n hX dX0_catalogue_55 rfl (js_getfR hX (ci := 0) (k := 18) (RX0, TX0, 20) rfl (by decide) rfl (Or.inl q273) (fun _ h => h) dX0_catalogue_56 (js_aload_n hX dX0_catalogue_59 rfl (js_getfR hX (ci := 0) (k := 8) (RX0, TX0, 20) rfl (by decide) rfl (Or.inl q263) (fun _ h => h) dX0_catalogue_60 (js_iload_n hX dX0_catalogue_63 rfl (js_callS hX MX0_placeIn (n := 2) (lw_S q1260 q1261 q152 q1262) npX0_placeIn dX0_catalogue_64 (js_dup2 hX dX0_catalogue_67 (js_iald hX dX0_catalogue_68 (js_const hX (z := 1) (by unfold inI; omega) dX0_catalogue_69 (Or.inl ⟨1, rfl, rfl, rfl⟩) (js_iadd hX dX0_catalogue_70 (js_iast hX dX0_catalogue_71 (js_aload_n hX dX0_catalogue_72 rfl (js_aload_n hX dX0_catalogue_73 rfl (js_getfR hX (ci := 0) (k := 8) (RX0, TX0, 20) rfl (by decide) rfl (Or.inl q263) (fun _ h => h) dX0_catalogue_74 (js_const hX (z := 0) (by unfold inI; omega) dX0_catalogue_77 (Or.inl ⟨0, rfl, rfl, rfl⟩) (js_aload_n hX dX0_catalogue_78 rfl (js_getfI hX (ci := 0) (k := 10) (RX0, TX0, 20) rfl (by decide) rfl (Or.inl q265) (fun _ h => h) dX0_catalogue_79 (js_aload_n hX dX0_catalogue_82 rfl (js_getfR hX (ci := 0) (k := 0) (RX0, TX0, 20) rfl (by decide) rfl (Or.inl q255) (fun _ h => h) dX0_catalogue_83 (js_getfR hX (ci := 1) (k := 2) (RX1, TX1, 7) rfl (by decide) rfl (Or.inr ⟨_, q216⟩) (fun _ h => h) dX0_catalogue_86 (js_const hX (z := 44) (by unfold inI; omega) dX0_catalogue_89 (Or.inr (Or.inl ⟨44, rfl, rfl, rfl⟩)) (js_iald hX dX0_catalogue_91 (js_iload hX dX0_catalogue_92 (js_iadd hX dX0_catalogue_94 (js_const hX (z := 2) (by unfold inI; omega) dX0_catalogue_95 (Or.inl ⟨2, rfl, rfl, rfl⟩) (js_irem hX dX0_catalogue_96 (js_callV hX MX0_nightOn (ci := 0) (n := 4) (RX0, TX0, 20) rfl rfl (lw_V q1030 q1032 qs34 q152 q1033) npX0_nightOn dX0_catalogue_97 (js_istore hX dX0_catalogue_100 (by decide) (js_iinc hX dX0_catalogue_102 (by decide) (js_goto hX (tgt := 49) dX0_catalogue_105 rfl (hK 2))))))))))))))))))))))))))))))))))
  | 3 => exact (js_ireturn hX hr hlk dX0_catalogue_137)
  | k + 4 => intro ls st h nc ns hf; exact hf.elim
def bX0_looks : jjB := fun e K k => match k with
  | 0 => (ji_const 0 (ji_istore 2 (K 1)))
  | 1 => (ji_iload 2 (ji_aload 0 (ji_getfI 0 10 (ji_icmp_ge (ji_const (-1) (ji_ireturn e))
    (ji_const 0 (ji_istore 3 (ji_const 0 (ji_istore 4 (K 2)))))))))
  | 2 => (ji_iload 4 (ji_aload 0 (ji_getfI 0 10 (ji_icmp_ge (ji_iload 3 (ji_iload 1 (ji_icmp_ne (ji_iinc 2 1 (ji_goto (K 1)))
    (ji_aload 0 (ji_getfR 0 18 (ji_iload 2 (ji_iald (ji_if_ne (ji_iload 2 (K 6))
    (ji_const (-1) (ji_goto (K 6)))))))))))
    (ji_iload 3 (ji_aload 0 (ji_getfR 0 18 (ji_iload 4 (ji_iald (ji_aload 0 (ji_getfR 0 18 (ji_iload 2 (ji_iald (ji_icmp_gt (K 3)
    (ji_aload 0 (ji_getfR 0 18 (ji_iload 4 (ji_iald (ji_aload 0 (ji_getfR 0 18 (ji_iload 2 (ji_iald (ji_icmp_ne (K 4)
    (ji_iload 4 (ji_iload 2 (ji_icmp_ge (K 4)
    (K 3)))))))))))))))))))))))))))
  | 3 => (ji_const 1 (ji_goto (K 5)))
  | 4 => (ji_const 0 (K 5))
  | 5 => (ji_iadd (ji_istore 3 (ji_iinc 4 1 (ji_goto (K 2)))))
  | 6 => (ji_ireturn e)
  | _ => fun _ _ _ _ _ => False
def pX0_looks : Nat → Nat := fun k => match k with
  | 0 => 0
  | 1 => 2
  | 2 => 15
  | 3 => 63
  | 4 => 67
  | 5 => 68
  | 6 => 95
  | _ => 0
theorem sX0_looks : jSound bX0_looks pX0_looks MX0_looks := by
  intro e p ev R s m args below meth c hX hr hn hlk K hK k
  match k with
  | 0 => exact (js_const hX (z := 0) (by unfold inI; omega) dX0_looks_0 (Or.inl ⟨0, rfl, rfl, rfl⟩) (js_istore_n hX dX0_looks_1 rfl (by decide) (hK 1)))
  | 1 => exact (js_iload_n hX dX0_looks_2 rfl (js_aload_n hX dX0_looks_3 rfl (js_getfI hX (ci := 0) (k := 10) (RX0, TX0, 20) rfl (by decide) rfl (Or.inl q265) (fun _ h => h) dX0_looks_4 (js_icmp_ge hX (tgt := 102) dX0_looks_7 rfl (js_const hX (z := (-1)) (by unfold inI; omega) dX0_looks_102 (Or.inl ⟨(-1), rfl, rfl, rfl⟩) (js_ireturn hX hr hlk dX0_looks_103))
    (js_const hX (z := 0) (by unfold inI; omega) dX0_looks_10 (Or.inl ⟨0, rfl, rfl, rfl⟩) (js_istore_n hX dX0_looks_11 rfl (by decide) (js_const hX (z := 0) (by unfold inI; omega) dX0_looks_12 (Or.inl ⟨0, rfl, rfl, rfl⟩) (js_istore hX dX0_looks_13 (by decide) (hK 2)))))))))
  | 2 => exact (js_iload hX dX0_looks_15 (js_aload_n hX dX0_looks_17 rfl (js_getfI hX (ci := 0) (k := 10) (RX0, TX0, 20) rfl (by decide) rfl (Or.inl q265) (fun _ h => h) dX0_looks_18 (js_icmp_ge hX (tgt := 76) dX0_looks_21 rfl (js_iload_n hX dX0_looks_76 rfl (js_iload_n hX dX0_looks_77 rfl (js_icmp_ne hX (tgt := 96) dX0_looks_78 rfl (js_iinc hX dX0_looks_96 (by decide) (js_goto hX (tgt := 2) dX0_looks_99 rfl (hK 1)))
    (js_aload_n hX dX0_looks_81 rfl (js_getfR hX (ci := 0) (k := 18) (RX0, TX0, 20) rfl (by decide) rfl (Or.inl q273) (fun _ h => h) dX0_looks_82 (js_iload_n hX dX0_looks_85 rfl (js_iald hX dX0_looks_86 (js_if_ne hX (tgt := 94) dX0_looks_87 rfl (js_iload_n hX dX0_looks_94 rfl (hK 6))
    (js_const hX (z := (-1)) (by unfold inI; omega) dX0_looks_90 (Or.inl ⟨(-1), rfl, rfl, rfl⟩) (js_goto hX (tgt := 95) dX0_looks_91 rfl (hK 6)))))))))))
    (js_iload_n hX dX0_looks_24 rfl (js_aload_n hX dX0_looks_25 rfl (js_getfR hX (ci := 0) (k := 18) (RX0, TX0, 20) rfl (by decide) rfl (Or.inl q273) (fun _ h => h) dX0_looks_26 (js_iload hX dX0_looks_29 (js_iald hX dX0_looks_31 (js_aload_n hX dX0_looks_32 rfl (js_getfR hX (ci := 0) (k := 18) (RX0, TX0, 20) rfl (by decide) rfl (Or.inl q273) (fun _ h => h) dX0_looks_33 (js_iload_n hX dX0_looks_36 rfl (js_iald hX dX0_looks_37 (js_icmp_gt hX (tgt := 63) dX0_looks_38 rfl (hK 3)
    (js_aload_n hX dX0_looks_41 rfl (js_getfR hX (ci := 0) (k := 18) (RX0, TX0, 20) rfl (by decide) rfl (Or.inl q273) (fun _ h => h) dX0_looks_42 (js_iload hX dX0_looks_45 (js_iald hX dX0_looks_47 (js_aload_n hX dX0_looks_48 rfl (js_getfR hX (ci := 0) (k := 18) (RX0, TX0, 20) rfl (by decide) rfl (Or.inl q273) (fun _ h => h) dX0_looks_49 (js_iload_n hX dX0_looks_52 rfl (js_iald hX dX0_looks_53 (js_icmp_ne hX (tgt := 67) dX0_looks_54 rfl (hK 4)
    (js_iload hX dX0_looks_57 (js_iload_n hX dX0_looks_59 rfl (js_icmp_ge hX (tgt := 67) dX0_looks_60 rfl (hK 4)
    (hK 3)))))))))))))))))))))))))))
  | 3 => exact (js_const hX (z := 1) (by unfold inI; omega) dX0_looks_63 (Or.inl ⟨1, rfl, rfl, rfl⟩) (js_goto hX (tgt := 68) dX0_looks_64 rfl (hK 5)))
  | 4 => exact (js_const hX (z := 0) (by unfold inI; omega) dX0_looks_67 (Or.inl ⟨0, rfl, rfl, rfl⟩) (hK 5))
  | 5 => exact (js_iadd hX dX0_looks_68 (js_istore_n hX dX0_looks_69 rfl (by decide) (js_iinc hX dX0_looks_70 (by decide) (js_goto hX (tgt := 15) dX0_looks_73 rfl (hK 2)))))
  | 6 => exact (js_ireturn hX hr hlk dX0_looks_95)
  | k + 7 => intro ls st h nc ns hf; exact hf.elim
def bX0_theft : jjB := fun e K k => match k with
  | 0 => (ji_aload 0 (ji_iload 1 (ji_callV e MX0_isOnShelf 0 2 (ji_if_ne (ji_aload 0 (ji_callV e MX0_laysChange 0 1 (ji_aload 0 (ji_iload 1 (ji_callV e MX0_theftOf 0 2 (ji_ireturn e))))))
    (ji_const (-1) (ji_ireturn e))))))
  | _ => fun _ _ _ _ _ => False
def pX0_theft : Nat → Nat := fun k => match k with
  | 0 => 0
  | _ => 0
theorem sX0_theft : jSound bX0_theft pX0_theft MX0_theft := by
  intro e p ev R s m args below meth c hX hr hn hlk K hK k
  match k with
  | 0 => exact (js_aload_n hX dX0_theft_0 rfl (js_iload_n hX dX0_theft_1 rfl (js_callV hX MX0_isOnShelf (ci := 0) (n := 1) (RX0, TX0, 20) rfl rfl (lw_V q1132 q1134 qs40 q152 q1135) npX0_isOnShelf dX0_theft_2 (js_if_ne hX (tgt := 10) dX0_theft_5 rfl (js_aload_n hX dX0_theft_10 rfl (js_callV hX MX0_laysChange (ci := 0) (n := 0) (RX0, TX0, 20) rfl rfl (lw_V q1006 q1008 qs30 q152 q1009) npX0_laysChange dX0_theft_11 (js_aload_n hX dX0_theft_14 rfl (js_iload_n hX dX0_theft_15 rfl (js_callV hX MX0_theftOf (ci := 0) (n := 1) (RX0, TX0, 20) rfl rfl (lw_V q1279 q1281 qs60 q152 q1282) npX0_theftOf dX0_theft_16 (js_ireturn hX hr hlk dX0_theft_19))))))
    (js_const hX (z := (-1)) (by unfold inI; omega) dX0_theft_8 (Or.inl ⟨(-1), rfl, rfl, rfl⟩) (js_ireturn hX hr hlk dX0_theft_9))))))
  | k + 1 => intro ls st h nc ns hf; exact hf.elim
def bX0_theftOf : jjB := fun e K k => match k with
  | 0 => (ji_aload 0 (ji_iload 1 (ji_callV e MX0_whereIs 0 2 (ji_istore 2 (ji_aload 0 (ji_iload 2 (ji_iload 1 (ji_callV e MX0_laysRow 0 3 (ji_aload 0 (ji_callV e MX0_rests 0 1 (ji_const (-1) (ji_icmp_ne (ji_aload 0 (ji_getfR 0 8 (ji_const 0 (ji_aload 0 (ji_getfR 0 19 (ji_const 0 (ji_aload 0 (ji_getfI 0 10 (ji_acopyI (ji_aload 0 (ji_iload 2 (ji_const (-1) (ji_callV e MX0_laysRow 0 3 (ji_aload 0 (ji_callV e MX0_rests 0 1 (ji_const (-1) (ji_icmp_ne (ji_const 0 (ji_istore 3 (ji_const 0 (ji_istore 4 (ji_const 0 (ji_istore 5 (K 1)))))))
    (ji_const (-1) (ji_ireturn e)))))))))))))))))))
    (ji_const (-1) (ji_ireturn e))))))))))))))
  | 1 => (ji_iload 4 (ji_aload 0 (ji_getfI 0 10 (ji_icmp_ge (ji_iload 3 (ji_ireturn e))
    (ji_aload 0 (ji_getfR 0 8 (ji_iload 4 (ji_iald (ji_iload 1 (ji_icmp_ne (ji_iload 3 (ji_aload 0 (ji_getfR 0 8 (ji_iload 4 (ji_iald (ji_aload 0 (ji_getfR 0 19 (ji_iload 5 (ji_iald (ji_icmp_ne (ji_const 1 (K 2))
    (ji_const 0 (ji_goto (K 2)))))))))))))
    (ji_goto (K 3))))))))))))
  | 2 => (ji_iadd (ji_istore 3 (ji_iinc 5 1 (K 3))))
  | 3 => (ji_iinc 4 1 (ji_goto (K 1)))
  | _ => fun _ _ _ _ _ => False
def pX0_theftOf : Nat → Nat := fun k => match k with
  | 0 => 0
  | 1 => 63
  | 2 => 109
  | 3 => 114
  | _ => 0
theorem sX0_theftOf : jSound bX0_theftOf pX0_theftOf MX0_theftOf := by
  intro e p ev R s m args below meth c hX hr hn hlk K hK k
  match k with
  | 0 => exact (js_aload_n hX dX0_theftOf_0 rfl (js_iload_n hX dX0_theftOf_1 rfl (js_callV hX MX0_whereIs (ci := 0) (n := 1) (RX0, TX0, 20) rfl rfl (lw_V q1059 q1061 qs38 q152 q1062) npX0_whereIs dX0_theftOf_2 (js_istore_n hX dX0_theftOf_5 rfl (by decide) (js_aload_n hX dX0_theftOf_6 rfl (js_iload_n hX dX0_theftOf_7 rfl (js_iload_n hX dX0_theftOf_8 rfl (js_callV hX MX0_laysRow (ci := 0) (n := 2) (RX0, TX0, 20) rfl rfl (lw_V q1148 q1150 qs41 q152 q1151) npX0_laysRow dX0_theftOf_9 (js_aload_n hX dX0_theftOf_12 rfl (js_callV hX MX0_rests (ci := 0) (n := 0) (RX0, TX0, 20) rfl rfl (lw_V q1152 q1154 qs42 q152 q1155) npX0_rests dX0_theftOf_13 (js_const hX (z := (-1)) (by unfold inI; omega) dX0_theftOf_16 (Or.inl ⟨(-1), rfl, rfl, rfl⟩) (js_icmp_ne hX (tgt := 22) dX0_theftOf_17 rfl (js_aload_n hX dX0_theftOf_22 rfl (js_getfR hX (ci := 0) (k := 8) (RX0, TX0, 20) rfl (by decide) rfl (Or.inl q263) (fun _ h => h) dX0_theftOf_23 (js_const hX (z := 0) (by unfold inI; omega) dX0_theftOf_26 (Or.inl ⟨0, rfl, rfl, rfl⟩) (js_aload_n hX dX0_theftOf_27 rfl (js_getfR hX (ci := 0) (k := 19) (RX0, TX0, 20) rfl (by decide) rfl (Or.inl q274) (fun _ h => h) dX0_theftOf_28 (js_const hX (z := 0) (by unfold inI; omega) dX0_theftOf_31 (Or.inl ⟨0, rfl, rfl, rfl⟩) (js_aload_n hX dX0_theftOf_32 rfl (js_getfI hX (ci := 0) (k := 10) (RX0, TX0, 20) rfl (by decide) rfl (Or.inl q265) (fun _ h => h) dX0_theftOf_33 (js_acopyI hX q354 dX0_theftOf_36 (js_aload_n hX dX0_theftOf_39 rfl (js_iload_n hX dX0_theftOf_40 rfl (js_const hX (z := (-1)) (by unfold inI; omega) dX0_theftOf_41 (Or.inl ⟨(-1), rfl, rfl, rfl⟩) (js_callV hX MX0_laysRow (ci := 0) (n := 2) (RX0, TX0, 20) rfl rfl (lw_V q1148 q1150 qs41 q152 q1151) npX0_laysRow dX0_theftOf_42 (js_aload_n hX dX0_theftOf_45 rfl (js_callV hX MX0_rests (ci := 0) (n := 0) (RX0, TX0, 20) rfl rfl (lw_V q1152 q1154 qs42 q152 q1155) npX0_rests dX0_theftOf_46 (js_const hX (z := (-1)) (by unfold inI; omega) dX0_theftOf_49 (Or.inl ⟨(-1), rfl, rfl, rfl⟩) (js_icmp_ne hX (tgt := 55) dX0_theftOf_50 rfl (js_const hX (z := 0) (by unfold inI; omega) dX0_theftOf_55 (Or.inl ⟨0, rfl, rfl, rfl⟩) (js_istore_n hX dX0_theftOf_56 rfl (by decide) (js_const hX (z := 0) (by unfold inI; omega) dX0_theftOf_57 (Or.inl ⟨0, rfl, rfl, rfl⟩) (js_istore hX dX0_theftOf_58 (by decide) (js_const hX (z := 0) (by unfold inI; omega) dX0_theftOf_60 (Or.inl ⟨0, rfl, rfl, rfl⟩) (js_istore hX dX0_theftOf_61 (by decide) (hK 1)))))))
    (js_const hX (z := (-1)) (by unfold inI; omega) dX0_theftOf_53 (Or.inl ⟨(-1), rfl, rfl, rfl⟩) (js_ireturn hX hr hlk dX0_theftOf_54)))))))))))))))))))
    (js_const hX (z := (-1)) (by unfold inI; omega) dX0_theftOf_20 (Or.inl ⟨(-1), rfl, rfl, rfl⟩) (js_ireturn hX hr hlk dX0_theftOf_21))))))))))))))
  | 1 => exact (js_iload hX dX0_theftOf_63 (js_aload_n hX dX0_theftOf_65 rfl (js_getfI hX (ci := 0) (k := 10) (RX0, TX0, 20) rfl (by decide) rfl (Or.inl q265) (fun _ h => h) dX0_theftOf_66 (js_icmp_ge hX (tgt := 120) dX0_theftOf_69 rfl (js_iload_n hX dX0_theftOf_120 rfl (js_ireturn hX hr hlk dX0_theftOf_121))
    (js_aload_n hX dX0_theftOf_72 rfl (js_getfR hX (ci := 0) (k := 8) (RX0, TX0, 20) rfl (by decide) rfl (Or.inl q263) (fun _ h => h) dX0_theftOf_73 (js_iload hX dX0_theftOf_76 (js_iald hX dX0_theftOf_78 (js_iload_n hX dX0_theftOf_79 rfl (js_icmp_ne hX (tgt := 86) dX0_theftOf_80 rfl (js_iload_n hX dX0_theftOf_86 rfl (js_aload_n hX dX0_theftOf_87 rfl (js_getfR hX (ci := 0) (k := 8) (RX0, TX0, 20) rfl (by decide) rfl (Or.inl q263) (fun _ h => h) dX0_theftOf_88 (js_iload hX dX0_theftOf_91 (js_iald hX dX0_theftOf_93 (js_aload_n hX dX0_theftOf_94 rfl (js_getfR hX (ci := 0) (k := 19) (RX0, TX0, 20) rfl (by decide) rfl (Or.inl q274) (fun _ h => h) dX0_theftOf_95 (js_iload hX dX0_theftOf_98 (js_iald hX dX0_theftOf_100 (js_icmp_ne hX (tgt := 108) dX0_theftOf_101 rfl (js_const hX (z := 1) (by unfold inI; omega) dX0_theftOf_108 (Or.inl ⟨1, rfl, rfl, rfl⟩) (hK 2))
    (js_const hX (z := 0) (by unfold inI; omega) dX0_theftOf_104 (Or.inl ⟨0, rfl, rfl, rfl⟩) (js_goto hX (tgt := 109) dX0_theftOf_105 rfl (hK 2)))))))))))))
    (js_goto hX (tgt := 114) dX0_theftOf_83 rfl (hK 3))))))))))))
  | 2 => exact (js_iadd hX dX0_theftOf_109 (js_istore_n hX dX0_theftOf_110 rfl (by decide) (js_iinc hX dX0_theftOf_111 (by decide) (hK 3))))
  | 3 => exact (js_iinc hX dX0_theftOf_114 (by decide) (js_goto hX (tgt := 63) dX0_theftOf_117 rfl (hK 1)))
  | k + 4 => intro ls st h nc ns hf; exact hf.elim
def bX0_cheapest : jjB := fun e K k => match k with
  | 0 => (ji_iload 1 (ji_callS e MX0_isShelf 1 (ji_if_ne (ji_aload 0 (ji_callV e MX0_laysChange 0 1 (ji_const (-1) (ji_istore 2 (ji_const 10 (ji_istore 3 (ji_const 0 (ji_istore 4 (K 1)))))))))
    (ji_const (-1) (ji_ireturn e)))))
  | 1 => (ji_iload 4 (ji_aload 0 (ji_getfR 0 0 (ji_getfR 1 0 (ji_const 0 (ji_iald (ji_icmp_ge (ji_iload 2 (ji_ireturn e))
    (ji_aload 0 (ji_iload 4 (ji_callV e MX0_whereIs 0 2 (ji_iload 1 (ji_icmp_ne (ji_const (-1) (K 2))
    (ji_aload 0 (ji_iload 4 (ji_callV e MX0_theftOf 0 2 (ji_goto (K 2)))))))))))))))))
  | 2 => (ji_istore 5 (ji_iload 5 (ji_const (-1) (ji_icmp_eq (K 3)
    (ji_iload 5 (ji_iload 3 (ji_icmp_lt (ji_iload 5 (ji_istore 3 (ji_iload 4 (ji_istore 2 (K 3)))))
    (ji_goto (K 3)))))))))
  | 3 => (ji_iinc 4 1 (ji_goto (K 1)))
  | _ => fun _ _ _ _ _ => False
def pX0_cheapest : Nat → Nat := fun k => match k with
  | 0 => 0
  | 1 => 21
  | 2 => 55
  | 3 => 78
  | _ => 0
theorem sX0_cheapest : jSound bX0_cheapest pX0_cheapest MX0_cheapest := by
  intro e p ev R s m args below meth c hX hr hn hlk K hK k
  match k with
  | 0 => exact (js_iload_n hX dX0_cheapest_0 rfl (js_callS hX MX0_isShelf (n := 1) (lw_S q322 q323 q152 q324) npX0_isShelf dX0_cheapest_1 (js_if_ne hX (tgt := 9) dX0_cheapest_4 rfl (js_aload_n hX dX0_cheapest_9 rfl (js_callV hX MX0_laysChange (ci := 0) (n := 0) (RX0, TX0, 20) rfl rfl (lw_V q1006 q1008 qs30 q152 q1009) npX0_laysChange dX0_cheapest_10 (js_const hX (z := (-1)) (by unfold inI; omega) dX0_cheapest_13 (Or.inl ⟨(-1), rfl, rfl, rfl⟩) (js_istore_n hX dX0_cheapest_14 rfl (by decide) (js_const hX (z := 10) (by unfold inI; omega) dX0_cheapest_15 (Or.inr (Or.inl ⟨10, rfl, rfl, rfl⟩)) (js_istore_n hX dX0_cheapest_17 rfl (by decide) (js_const hX (z := 0) (by unfold inI; omega) dX0_cheapest_18 (Or.inl ⟨0, rfl, rfl, rfl⟩) (js_istore hX dX0_cheapest_19 (by decide) (hK 1)))))))))
    (js_const hX (z := (-1)) (by unfold inI; omega) dX0_cheapest_7 (Or.inl ⟨(-1), rfl, rfl, rfl⟩) (js_ireturn hX hr hlk dX0_cheapest_8)))))
  | 1 => exact (js_iload hX dX0_cheapest_21 (js_aload_n hX dX0_cheapest_23 rfl (js_getfR hX (ci := 0) (k := 0) (RX0, TX0, 20) rfl (by decide) rfl (Or.inl q255) (fun _ h => h) dX0_cheapest_24 (js_getfR hX (ci := 1) (k := 0) (RX1, TX1, 7) rfl (by decide) rfl (Or.inr ⟨_, q212⟩) (fun _ h => h) dX0_cheapest_27 (js_const hX (z := 0) (by unfold inI; omega) dX0_cheapest_30 (Or.inl ⟨0, rfl, rfl, rfl⟩) (js_iald hX dX0_cheapest_31 (js_icmp_ge hX (tgt := 84) dX0_cheapest_32 rfl (js_iload_n hX dX0_cheapest_84 rfl (js_ireturn hX hr hlk dX0_cheapest_85))
    (js_aload_n hX dX0_cheapest_35 rfl (js_iload hX dX0_cheapest_36 (js_callV hX MX0_whereIs (ci := 0) (n := 1) (RX0, TX0, 20) rfl rfl (lw_V q1059 q1061 qs38 q152 q1062) npX0_whereIs dX0_cheapest_38 (js_iload_n hX dX0_cheapest_41 rfl (js_icmp_ne hX (tgt := 54) dX0_cheapest_42 rfl (js_const hX (z := (-1)) (by unfold inI; omega) dX0_cheapest_54 (Or.inl ⟨(-1), rfl, rfl, rfl⟩) (hK 2))
    (js_aload_n hX dX0_cheapest_45 rfl (js_iload hX dX0_cheapest_46 (js_callV hX MX0_theftOf (ci := 0) (n := 1) (RX0, TX0, 20) rfl rfl (lw_V q1279 q1281 qs60 q152 q1282) npX0_theftOf dX0_cheapest_48 (js_goto hX (tgt := 55) dX0_cheapest_51 rfl (hK 2)))))))))))))))))
  | 2 => exact (js_istore hX dX0_cheapest_55 (by decide) (js_iload hX dX0_cheapest_57 (js_const hX (z := (-1)) (by unfold inI; omega) dX0_cheapest_59 (Or.inl ⟨(-1), rfl, rfl, rfl⟩) (js_icmp_eq hX (tgt := 78) dX0_cheapest_60 rfl (hK 3)
    (js_iload hX dX0_cheapest_63 (js_iload_n hX dX0_cheapest_65 rfl (js_icmp_lt hX (tgt := 72) dX0_cheapest_66 rfl (js_iload hX dX0_cheapest_72 (js_istore_n hX dX0_cheapest_74 rfl (by decide) (js_iload hX dX0_cheapest_75 (js_istore_n hX dX0_cheapest_77 rfl (by decide) (hK 3)))))
    (js_goto hX (tgt := 78) dX0_cheapest_69 rfl (hK 3)))))))))
  | 3 => exact (js_iinc hX dX0_cheapest_78 (by decide) (js_goto hX (tgt := 21) dX0_cheapest_81 rfl (hK 1)))
  | k + 4 => intro ls st h nc ns hf; exact hf.elim
def bX0_dust : jjB := fun e K k => match k with
  | 0 => (ji_iload 1 (ji_const (-1) (ji_icmp_ne (ji_aload 0 (ji_iload 1 (ji_callV e MX0_isBook 0 2 (ji_if_eq (K 1)
    (ji_aload 0 (ji_iload 2 (ji_callV e MX0_isBook 0 2 (ji_if_eq (K 1)
    (ji_iload 1 (ji_iload 2 (ji_icmp_eq (K 1)
    (ji_aload 0 (ji_getfR 0 0 (ji_getfR 1 0 (ji_const 5 (ji_iald (ji_const 12 (ji_icmp_ne (ji_const 4 (ji_newarr e (-1) (ji_dup (ji_const 0 (ji_iload 1 (ji_iast (ji_dup (ji_const 1 (ji_iload 2 (ji_iast (ji_dup (ji_const 2 (ji_iload 3 (ji_if_eq (ji_const 0 (K 2))
    (ji_const 1 (ji_goto (K 2)))))))))))))))))
    (K 1)))))))))))))))))))
    (ji_aload 0 (ji_getfR 0 0 (ji_getfR 1 0 (ji_const 5 (ji_const 0 (ji_iast (ji_const 0 (ji_ireturn e)))))))))))
  | 1 => (ji_const (-2) (ji_ireturn e))
  | 2 => (ji_iast (ji_dup (ji_const 3 (ji_iload 4 (ji_if_eq (ji_const 0 (K 3))
    (ji_const 1 (ji_goto (K 3))))))))
  | 3 => (ji_iast (ji_astore 5 (ji_aload 5 (ji_aload 0 (ji_getfR 0 0 (ji_getfR 1 4 (ji_aload 0 (ji_getfR 0 0 (ji_getfR 1 0 (ji_const 5 (ji_iald (ji_aald (-5) (ji_callS e MX1_copy 2 (ji_aload 0 (ji_getfR 0 0 (ji_getfR 1 0 (ji_const 5 (ji_dup2 (ji_iald (ji_const 1 (ji_iadd (ji_iast (ji_aload 0 (ji_getfR 0 0 (ji_getfR 1 0 (ji_const 5 (ji_iald (ji_ireturn e))))))))))))))))))))))))))))
  | _ => fun _ _ _ _ _ => False
def pX0_dust : Nat → Nat := fun k => match k with
  | 0 => 0
  | 1 => 52
  | 2 => 77
  | 3 => 90
  | _ => 0
theorem sX0_dust : jSound bX0_dust pX0_dust MX0_dust := by
  intro e p ev R s m args below meth c hX hr hn hlk K hK k
  match k with
  | 0 => exact (js_iload_n hX dX0_dust_0 rfl (js_const hX (z := (-1)) (by unfold inI; omega) dX0_dust_1 (Or.inl ⟨(-1), rfl, rfl, rfl⟩) (js_icmp_ne hX (tgt := 17) dX0_dust_2 rfl (js_aload_n hX dX0_dust_17 rfl (js_iload_n hX dX0_dust_18 rfl (js_callV hX MX0_isBook (ci := 0) (n := 1) (RX0, TX0, 20) rfl rfl (lw_V q959 q961 qs27 q152 q962) npX0_isBook dX0_dust_19 (js_if_eq hX (tgt := 52) dX0_dust_22 rfl (hK 1)
    (js_aload_n hX dX0_dust_25 rfl (js_iload_n hX dX0_dust_26 rfl (js_callV hX MX0_isBook (ci := 0) (n := 1) (RX0, TX0, 20) rfl rfl (lw_V q959 q961 qs27 q152 q962) npX0_isBook dX0_dust_27 (js_if_eq hX (tgt := 52) dX0_dust_30 rfl (hK 1)
    (js_iload_n hX dX0_dust_33 rfl (js_iload_n hX dX0_dust_34 rfl (js_icmp_eq hX (tgt := 52) dX0_dust_35 rfl (hK 1)
    (js_aload_n hX dX0_dust_38 rfl (js_getfR hX (ci := 0) (k := 0) (RX0, TX0, 20) rfl (by decide) rfl (Or.inl q255) (fun _ h => h) dX0_dust_39 (js_getfR hX (ci := 1) (k := 0) (RX1, TX1, 7) rfl (by decide) rfl (Or.inr ⟨_, q212⟩) (fun _ h => h) dX0_dust_42 (js_const hX (z := 5) (by unfold inI; omega) dX0_dust_45 (Or.inl ⟨5, rfl, rfl, rfl⟩) (js_iald hX dX0_dust_46 (js_const hX (z := 12) (by unfold inI; omega) dX0_dust_47 (Or.inr (Or.inl ⟨12, rfl, rfl, rfl⟩)) (js_icmp_ne hX (tgt := 55) dX0_dust_49 rfl (js_const hX (z := 4) (by unfold inI; omega) dX0_dust_55 (Or.inl ⟨4, rfl, rfl, rfl⟩) (js_newarr hX (cd := (-1)) (atype := .int) (by decide) (by decide) rfl rfl (fun _ _ h => h) (by decide) q240 dX0_dust_56 (js_dup hX dX0_dust_58 (js_const hX (z := 0) (by unfold inI; omega) dX0_dust_59 (Or.inl ⟨0, rfl, rfl, rfl⟩) (js_iload_n hX dX0_dust_60 rfl (js_iast hX dX0_dust_61 (js_dup hX dX0_dust_62 (js_const hX (z := 1) (by unfold inI; omega) dX0_dust_63 (Or.inl ⟨1, rfl, rfl, rfl⟩) (js_iload_n hX dX0_dust_64 rfl (js_iast hX dX0_dust_65 (js_dup hX dX0_dust_66 (js_const hX (z := 2) (by unfold inI; omega) dX0_dust_67 (Or.inl ⟨2, rfl, rfl, rfl⟩) (js_iload_n hX dX0_dust_68 rfl (js_if_eq hX (tgt := 76) dX0_dust_69 rfl (js_const hX (z := 0) (by unfold inI; omega) dX0_dust_76 (Or.inl ⟨0, rfl, rfl, rfl⟩) (hK 2))
    (js_const hX (z := 1) (by unfold inI; omega) dX0_dust_72 (Or.inl ⟨1, rfl, rfl, rfl⟩) (js_goto hX (tgt := 77) dX0_dust_73 rfl (hK 2)))))))))))))))))
    (hK 1)))))))))))))))))))
    (js_aload_n hX dX0_dust_5 rfl (js_getfR hX (ci := 0) (k := 0) (RX0, TX0, 20) rfl (by decide) rfl (Or.inl q255) (fun _ h => h) dX0_dust_6 (js_getfR hX (ci := 1) (k := 0) (RX1, TX1, 7) rfl (by decide) rfl (Or.inr ⟨_, q212⟩) (fun _ h => h) dX0_dust_9 (js_const hX (z := 5) (by unfold inI; omega) dX0_dust_12 (Or.inl ⟨5, rfl, rfl, rfl⟩) (js_const hX (z := 0) (by unfold inI; omega) dX0_dust_13 (Or.inl ⟨0, rfl, rfl, rfl⟩) (js_iast hX dX0_dust_14 (js_const hX (z := 0) (by unfold inI; omega) dX0_dust_15 (Or.inl ⟨0, rfl, rfl, rfl⟩) (js_ireturn hX hr hlk dX0_dust_16)))))))))))
  | 1 => exact (js_const hX (z := (-2)) (by unfold inI; omega) dX0_dust_52 (Or.inr (Or.inl ⟨(-2), rfl, rfl, rfl⟩)) (js_ireturn hX hr hlk dX0_dust_54))
  | 2 => exact (js_iast hX dX0_dust_77 (js_dup hX dX0_dust_78 (js_const hX (z := 3) (by unfold inI; omega) dX0_dust_79 (Or.inl ⟨3, rfl, rfl, rfl⟩) (js_iload hX dX0_dust_80 (js_if_eq hX (tgt := 89) dX0_dust_82 rfl (js_const hX (z := 0) (by unfold inI; omega) dX0_dust_89 (Or.inl ⟨0, rfl, rfl, rfl⟩) (hK 3))
    (js_const hX (z := 1) (by unfold inI; omega) dX0_dust_85 (Or.inl ⟨1, rfl, rfl, rfl⟩) (js_goto hX (tgt := 90) dX0_dust_86 rfl (hK 3))))))))
  | 3 => exact (js_iast hX dX0_dust_90 (js_astore hX dX0_dust_91 (by decide) (js_aload hX dX0_dust_93 (js_aload_n hX dX0_dust_95 rfl (js_getfR hX (ci := 0) (k := 0) (RX0, TX0, 20) rfl (by decide) rfl (Or.inl q255) (fun _ h => h) dX0_dust_96 (js_getfR hX (ci := 1) (k := 4) (RX1, TX1, 7) rfl (by decide) rfl (Or.inr ⟨_, q220⟩) (fun _ h => h) dX0_dust_99 (js_aload_n hX dX0_dust_102 rfl (js_getfR hX (ci := 0) (k := 0) (RX0, TX0, 20) rfl (by decide) rfl (Or.inl q255) (fun _ h => h) dX0_dust_103 (js_getfR hX (ci := 1) (k := 0) (RX1, TX1, 7) rfl (by decide) rfl (Or.inr ⟨_, q212⟩) (fun _ h => h) dX0_dust_106 (js_const hX (z := 5) (by unfold inI; omega) dX0_dust_109 (Or.inl ⟨5, rfl, rfl, rfl⟩) (js_iald hX dX0_dust_110 (js_aald hX (cd := (-5)) (by decide) rfl rfl dX0_dust_111 (js_callSN hX MX1_copy (n := 2) q426 q247 q153 (lw_meth q248) npX1_copy dX0_dust_112 (js_aload_n hX dX0_dust_115 rfl (js_getfR hX (ci := 0) (k := 0) (RX0, TX0, 20) rfl (by decide) rfl (Or.inl q255) (fun _ h => h) dX0_dust_116 (js_getfR hX (ci := 1) (k := 0) (RX1, TX1, 7) rfl (by decide) rfl (Or.inr ⟨_, q212⟩) (fun _ h => h) dX0_dust_119 (js_const hX (z := 5) (by unfold inI; omega) dX0_dust_122 (Or.inl ⟨5, rfl, rfl, rfl⟩) (js_dup2 hX dX0_dust_123 (js_iald hX dX0_dust_124 (js_const hX (z := 1) (by unfold inI; omega) dX0_dust_125 (Or.inl ⟨1, rfl, rfl, rfl⟩) (js_iadd hX dX0_dust_126 (js_iast hX dX0_dust_127 (js_aload_n hX dX0_dust_128 rfl (js_getfR hX (ci := 0) (k := 0) (RX0, TX0, 20) rfl (by decide) rfl (Or.inl q255) (fun _ h => h) dX0_dust_129 (js_getfR hX (ci := 1) (k := 0) (RX1, TX1, 7) rfl (by decide) rfl (Or.inr ⟨_, q212⟩) (fun _ h => h) dX0_dust_132 (js_const hX (z := 5) (by unfold inI; omega) dX0_dust_135 (Or.inl ⟨5, rfl, rfl, rfl⟩) (js_iald hX dX0_dust_136 (js_ireturn hX hr hlk dX0_dust_137))))))))))))))))))))))))))))
  | k + 4 => intro ls st h nc ns hf; exact hf.elim
def bX0_laws : jjB := fun e K k => match k with
  | 0 => (ji_aload 0 (ji_iload 1 (ji_callV e MX0_isBook 0 2 (ji_if_eq (ji_const (-1) (K 1))
    (ji_aload 0 (ji_iload 1 (ji_callV e MX0_lawsOf 0 2 (ji_goto (K 1)))))))))
  | 1 => (ji_ireturn e)
  | _ => fun _ _ _ _ _ => False
def pX0_laws : Nat → Nat := fun k => match k with
  | 0 => 0
  | 1 => 17
  | _ => 0
theorem sX0_laws : jSound bX0_laws pX0_laws MX0_laws := by
  intro e p ev R s m args below meth c hX hr hn hlk K hK k
  match k with
  | 0 => exact (js_aload_n hX dX0_laws_0 rfl (js_iload_n hX dX0_laws_1 rfl (js_callV hX MX0_isBook (ci := 0) (n := 1) (RX0, TX0, 20) rfl rfl (lw_V q959 q961 qs27 q152 q962) npX0_isBook dX0_laws_2 (js_if_eq hX (tgt := 16) dX0_laws_5 rfl (js_const hX (z := (-1)) (by unfold inI; omega) dX0_laws_16 (Or.inl ⟨(-1), rfl, rfl, rfl⟩) (hK 1))
    (js_aload_n hX dX0_laws_8 rfl (js_iload_n hX dX0_laws_9 rfl (js_callV hX MX0_lawsOf (ci := 0) (n := 1) (RX0, TX0, 20) rfl rfl (lw_V q1295 q1297 qs61 q152 q1298) npX0_lawsOf dX0_laws_10 (js_goto hX (tgt := 17) dX0_laws_13 rfl (hK 1)))))))))
  | 1 => exact (js_ireturn hX hr hlk dX0_laws_17)
  | k + 2 => intro ls st h nc ns hf; exact hf.elim
def bX0_lawsOf : jjB := fun e K k => match k with
  | 0 => (ji_const 0 (ji_istore 2 (ji_const 0 (ji_istore 3 (K 1)))))
  | 1 => (ji_iload 3 (ji_const 6 (ji_icmp_ge (ji_iload 2 (ji_ireturn e))
    (ji_iload 2 (ji_aload 0 (ji_iload 3 (ji_iload 1 (ji_callV e MX0_fitsDust 0 3 (ji_if_eq (ji_const 0 (K 2))
    (ji_const 1 (ji_iload 3 (ji_ishl (ji_goto (K 2))))))))))))))
  | 2 => (ji_ior (ji_istore 2 (ji_iinc 3 1 (ji_goto (K 1)))))
  | _ => fun _ _ _ _ _ => False
def pX0_lawsOf : Nat → Nat := fun k => match k with
  | 0 => 0
  | 1 => 4
  | 2 => 27
  | _ => 0
theorem sX0_lawsOf : jSound bX0_lawsOf pX0_lawsOf MX0_lawsOf := by
  intro e p ev R s m args below meth c hX hr hn hlk K hK k
  match k with
  | 0 => exact (js_const hX (z := 0) (by unfold inI; omega) dX0_lawsOf_0 (Or.inl ⟨0, rfl, rfl, rfl⟩) (js_istore_n hX dX0_lawsOf_1 rfl (by decide) (js_const hX (z := 0) (by unfold inI; omega) dX0_lawsOf_2 (Or.inl ⟨0, rfl, rfl, rfl⟩) (js_istore_n hX dX0_lawsOf_3 rfl (by decide) (hK 1)))))
  | 1 => exact (js_iload_n hX dX0_lawsOf_4 rfl (js_const hX (z := 6) (by unfold inI; omega) dX0_lawsOf_5 (Or.inr (Or.inl ⟨6, rfl, rfl, rfl⟩)) (js_icmp_ge hX (tgt := 35) dX0_lawsOf_7 rfl (js_iload_n hX dX0_lawsOf_35 rfl (js_ireturn hX hr hlk dX0_lawsOf_36))
    (js_iload_n hX dX0_lawsOf_10 rfl (js_aload_n hX dX0_lawsOf_11 rfl (js_iload_n hX dX0_lawsOf_12 rfl (js_iload_n hX dX0_lawsOf_13 rfl (js_callV hX MX0_fitsDust (ci := 0) (n := 2) (RX0, TX0, 20) rfl rfl (lw_V q1299 q1301 qs62 q152 q1302) npX0_fitsDust dX0_lawsOf_14 (js_if_eq hX (tgt := 26) dX0_lawsOf_17 rfl (js_const hX (z := 0) (by unfold inI; omega) dX0_lawsOf_26 (Or.inl ⟨0, rfl, rfl, rfl⟩) (hK 2))
    (js_const hX (z := 1) (by unfold inI; omega) dX0_lawsOf_20 (Or.inl ⟨1, rfl, rfl, rfl⟩) (js_iload_n hX dX0_lawsOf_21 rfl (js_ishl hX dX0_lawsOf_22 (js_goto hX (tgt := 27) dX0_lawsOf_23 rfl (hK 2))))))))))))))
  | 2 => exact (js_ior hX dX0_lawsOf_27 (js_istore_n hX dX0_lawsOf_28 rfl (by decide) (js_iinc hX dX0_lawsOf_29 (by decide) (js_goto hX (tgt := 4) dX0_lawsOf_32 rfl (hK 1)))))
  | k + 3 => intro ls st h nc ns hf; exact hf.elim
def bX0_fitsDust : jjB := fun e K k => match k with
  | 0 => (ji_const 0 (ji_istore 3 (K 1)))
  | 1 => (ji_iload 3 (ji_aload 0 (ji_getfR 0 0 (ji_getfR 1 0 (ji_const 5 (ji_iald (ji_icmp_ge (ji_const 1 (ji_zreturn e))
    (ji_aload 0 (ji_getfR 0 0 (ji_getfR 1 4 (ji_iload 3 (ji_aald (-5) (ji_astore 4 (ji_aload 4 (ji_const 0 (ji_iald (ji_iload 2 (ji_icmp_ne (K 4)
    (ji_aload 0 (ji_iload 1 (ji_iload 2 (ji_aload 4 (ji_const 1 (ji_iald (ji_aload 4 (ji_const 2 (ji_iald (ji_const 1 (ji_icmp_ne (ji_const 0 (K 2))
    (ji_const 1 (ji_goto (K 2))))))))))))))))))))))))))))))))
  | 2 => (ji_callV e MX0_pushesBy 0 5 (ji_aload 4 (ji_const 3 (ji_iald (ji_const 1 (ji_icmp_ne (ji_const 0 (K 3))
    (ji_const 1 (ji_goto (K 3)))))))))
  | 3 => (ji_icmp_eq (K 4)
    (ji_const 0 (ji_zreturn e)))
  | 4 => (ji_iinc 3 1 (ji_goto (K 1)))
  | _ => fun _ _ _ _ _ => False
def pX0_fitsDust : Nat → Nat := fun k => match k with
  | 0 => 0
  | 1 => 2
  | 2 => 54
  | 3 => 70
  | 4 => 75
  | _ => 0
theorem sX0_fitsDust : jSound bX0_fitsDust pX0_fitsDust MX0_fitsDust := by
  intro e p ev R s m args below meth c hX hr hn hlk K hK k
  match k with
  | 0 => exact (js_const hX (z := 0) (by unfold inI; omega) dX0_fitsDust_0 (Or.inl ⟨0, rfl, rfl, rfl⟩) (js_istore_n hX dX0_fitsDust_1 rfl (by decide) (hK 1)))
  | 1 => exact (js_iload_n hX dX0_fitsDust_2 rfl (js_aload_n hX dX0_fitsDust_3 rfl (js_getfR hX (ci := 0) (k := 0) (RX0, TX0, 20) rfl (by decide) rfl (Or.inl q255) (fun _ h => h) dX0_fitsDust_4 (js_getfR hX (ci := 1) (k := 0) (RX1, TX1, 7) rfl (by decide) rfl (Or.inr ⟨_, q212⟩) (fun _ h => h) dX0_fitsDust_7 (js_const hX (z := 5) (by unfold inI; omega) dX0_fitsDust_10 (Or.inl ⟨5, rfl, rfl, rfl⟩) (js_iald hX dX0_fitsDust_11 (js_icmp_ge hX (tgt := 81) dX0_fitsDust_12 rfl (js_const hX (z := 1) (by unfold inI; omega) dX0_fitsDust_81 (Or.inl ⟨1, rfl, rfl, rfl⟩) (js_zreturn hX hr hlk dX0_fitsDust_82))
    (js_aload_n hX dX0_fitsDust_15 rfl (js_getfR hX (ci := 0) (k := 0) (RX0, TX0, 20) rfl (by decide) rfl (Or.inl q255) (fun _ h => h) dX0_fitsDust_16 (js_getfR hX (ci := 1) (k := 4) (RX1, TX1, 7) rfl (by decide) rfl (Or.inr ⟨_, q220⟩) (fun _ h => h) dX0_fitsDust_19 (js_iload_n hX dX0_fitsDust_22 rfl (js_aald hX (cd := (-5)) (by decide) rfl rfl dX0_fitsDust_23 (js_astore hX dX0_fitsDust_24 (by decide) (js_aload hX dX0_fitsDust_26 (js_const hX (z := 0) (by unfold inI; omega) dX0_fitsDust_28 (Or.inl ⟨0, rfl, rfl, rfl⟩) (js_iald hX dX0_fitsDust_29 (js_iload_n hX dX0_fitsDust_30 rfl (js_icmp_ne hX (tgt := 75) dX0_fitsDust_31 rfl (hK 4)
    (js_aload_n hX dX0_fitsDust_34 rfl (js_iload_n hX dX0_fitsDust_35 rfl (js_iload_n hX dX0_fitsDust_36 rfl (js_aload hX dX0_fitsDust_37 (js_const hX (z := 1) (by unfold inI; omega) dX0_fitsDust_39 (Or.inl ⟨1, rfl, rfl, rfl⟩) (js_iald hX dX0_fitsDust_40 (js_aload hX dX0_fitsDust_41 (js_const hX (z := 2) (by unfold inI; omega) dX0_fitsDust_43 (Or.inl ⟨2, rfl, rfl, rfl⟩) (js_iald hX dX0_fitsDust_44 (js_const hX (z := 1) (by unfold inI; omega) dX0_fitsDust_45 (Or.inl ⟨1, rfl, rfl, rfl⟩) (js_icmp_ne hX (tgt := 53) dX0_fitsDust_46 rfl (js_const hX (z := 0) (by unfold inI; omega) dX0_fitsDust_53 (Or.inl ⟨0, rfl, rfl, rfl⟩) (hK 2))
    (js_const hX (z := 1) (by unfold inI; omega) dX0_fitsDust_49 (Or.inl ⟨1, rfl, rfl, rfl⟩) (js_goto hX (tgt := 54) dX0_fitsDust_50 rfl (hK 2))))))))))))))))))))))))))))))))
  | 2 => exact (js_callV hX MX0_pushesBy (ci := 0) (n := 4) (RX0, TX0, 20) rfl rfl (lw_V q967 q969 qs29 q152 q970) npX0_pushesBy dX0_fitsDust_54 (js_aload hX dX0_fitsDust_57 (js_const hX (z := 3) (by unfold inI; omega) dX0_fitsDust_59 (Or.inl ⟨3, rfl, rfl, rfl⟩) (js_iald hX dX0_fitsDust_60 (js_const hX (z := 1) (by unfold inI; omega) dX0_fitsDust_61 (Or.inl ⟨1, rfl, rfl, rfl⟩) (js_icmp_ne hX (tgt := 69) dX0_fitsDust_62 rfl (js_const hX (z := 0) (by unfold inI; omega) dX0_fitsDust_69 (Or.inl ⟨0, rfl, rfl, rfl⟩) (hK 3))
    (js_const hX (z := 1) (by unfold inI; omega) dX0_fitsDust_65 (Or.inl ⟨1, rfl, rfl, rfl⟩) (js_goto hX (tgt := 70) dX0_fitsDust_66 rfl (hK 3)))))))))
  | 3 => exact (js_icmp_eq hX (tgt := 75) dX0_fitsDust_70 rfl (hK 4)
    (js_const hX (z := 0) (by unfold inI; omega) dX0_fitsDust_73 (Or.inl ⟨0, rfl, rfl, rfl⟩) (js_zreturn hX hr hlk dX0_fitsDust_74)))
  | 4 => exact (js_iinc hX dX0_fitsDust_75 (by decide) (js_goto hX (tgt := 2) dX0_fitsDust_78 rfl (hK 1)))
  | k + 5 => intro ls st h nc ns hf; exact hf.elim
def bX0_tells : jjB := fun e K k => match k with
  | 0 => (ji_aload 0 (ji_iload 1 (ji_callV e MX0_laws 0 2 (ji_istore 2 (ji_iload 2 (ji_if_gt (ji_const (-1) (ji_istore 3 (ji_const 7 (ji_istore 4 (ji_const 0 (ji_istore 5 (K 1)))))))
    (ji_const (-1) (ji_ireturn e))))))))
  | 1 => (ji_iload 5 (ji_const 2 (ji_aload 0 (ji_getfR 0 0 (ji_getfR 1 0 (ji_const 0 (ji_iald (ji_imul (ji_icmp_ge (ji_iload 3 (ji_ireturn e))
    (ji_iload 5 (ji_const 2 (ji_idiv (ji_iload 1 (ji_icmp_ne (ji_aload 0 (ji_iload 2 (ji_iload 1 (ji_iload 5 (ji_const 2 (ji_idiv (ji_iload 5 (ji_const 2 (ji_irem (ji_const 1 (ji_icmp_ne (ji_const 0 (K 2))
    (ji_const 1 (ji_goto (K 2))))))))))))))
    (ji_goto (K 3))))))))))))))))
  | 2 => (ji_callV e MX0_mostAlike 0 5 (ji_istore 6 (ji_iload 6 (ji_iload 4 (ji_icmp_lt (ji_iload 6 (ji_istore 4 (ji_iload 5 (ji_istore 3 (K 3)))))
    (ji_goto (K 3)))))))
  | 3 => (ji_iinc 5 1 (ji_goto (K 1)))
  | _ => fun _ _ _ _ _ => False
def pX0_tells : Nat → Nat := fun k => match k with
  | 0 => 0
  | 1 => 21
  | 2 => 68
  | 3 => 90
  | _ => 0
theorem sX0_tells : jSound bX0_tells pX0_tells MX0_tells := by
  intro e p ev R s m args below meth c hX hr hn hlk K hK k
  match k with
  | 0 => exact (js_aload_n hX dX0_tells_0 rfl (js_iload_n hX dX0_tells_1 rfl (js_callV hX MX0_laws (ci := 0) (n := 1) (RX0, TX0, 20) rfl rfl (lw_V q1307 q1292 q1293 q152 q1294) npX0_laws dX0_tells_2 (js_istore_n hX dX0_tells_5 rfl (by decide) (js_iload_n hX dX0_tells_6 rfl (js_if_gt hX (tgt := 12) dX0_tells_7 rfl (js_const hX (z := (-1)) (by unfold inI; omega) dX0_tells_12 (Or.inl ⟨(-1), rfl, rfl, rfl⟩) (js_istore_n hX dX0_tells_13 rfl (by decide) (js_const hX (z := 7) (by unfold inI; omega) dX0_tells_14 (Or.inr (Or.inl ⟨7, rfl, rfl, rfl⟩)) (js_istore hX dX0_tells_16 (by decide) (js_const hX (z := 0) (by unfold inI; omega) dX0_tells_18 (Or.inl ⟨0, rfl, rfl, rfl⟩) (js_istore hX dX0_tells_19 (by decide) (hK 1)))))))
    (js_const hX (z := (-1)) (by unfold inI; omega) dX0_tells_10 (Or.inl ⟨(-1), rfl, rfl, rfl⟩) (js_ireturn hX hr hlk dX0_tells_11))))))))
  | 1 => exact (js_iload hX dX0_tells_21 (js_const hX (z := 2) (by unfold inI; omega) dX0_tells_23 (Or.inl ⟨2, rfl, rfl, rfl⟩) (js_aload_n hX dX0_tells_24 rfl (js_getfR hX (ci := 0) (k := 0) (RX0, TX0, 20) rfl (by decide) rfl (Or.inl q255) (fun _ h => h) dX0_tells_25 (js_getfR hX (ci := 1) (k := 0) (RX1, TX1, 7) rfl (by decide) rfl (Or.inr ⟨_, q212⟩) (fun _ h => h) dX0_tells_28 (js_const hX (z := 0) (by unfold inI; omega) dX0_tells_31 (Or.inl ⟨0, rfl, rfl, rfl⟩) (js_iald hX dX0_tells_32 (js_imul hX dX0_tells_33 (js_icmp_ge hX (tgt := 96) dX0_tells_34 rfl (js_iload_n hX dX0_tells_96 rfl (js_ireturn hX hr hlk dX0_tells_97))
    (js_iload hX dX0_tells_37 (js_const hX (z := 2) (by unfold inI; omega) dX0_tells_39 (Or.inl ⟨2, rfl, rfl, rfl⟩) (js_idiv hX dX0_tells_40 (js_iload_n hX dX0_tells_41 rfl (js_icmp_ne hX (tgt := 48) dX0_tells_42 rfl (js_aload_n hX dX0_tells_48 rfl (js_iload_n hX dX0_tells_49 rfl (js_iload_n hX dX0_tells_50 rfl (js_iload hX dX0_tells_51 (js_const hX (z := 2) (by unfold inI; omega) dX0_tells_53 (Or.inl ⟨2, rfl, rfl, rfl⟩) (js_idiv hX dX0_tells_54 (js_iload hX dX0_tells_55 (js_const hX (z := 2) (by unfold inI; omega) dX0_tells_57 (Or.inl ⟨2, rfl, rfl, rfl⟩) (js_irem hX dX0_tells_58 (js_const hX (z := 1) (by unfold inI; omega) dX0_tells_59 (Or.inl ⟨1, rfl, rfl, rfl⟩) (js_icmp_ne hX (tgt := 67) dX0_tells_60 rfl (js_const hX (z := 0) (by unfold inI; omega) dX0_tells_67 (Or.inl ⟨0, rfl, rfl, rfl⟩) (hK 2))
    (js_const hX (z := 1) (by unfold inI; omega) dX0_tells_63 (Or.inl ⟨1, rfl, rfl, rfl⟩) (js_goto hX (tgt := 68) dX0_tells_64 rfl (hK 2))))))))))))))
    (js_goto hX (tgt := 90) dX0_tells_45 rfl (hK 3))))))))))))))))
  | 2 => exact (js_callV hX MX0_mostAlike (ci := 0) (n := 4) (RX0, TX0, 20) rfl rfl (lw_V q1308 q1310 qs63 q152 q1311) npX0_mostAlike dX0_tells_68 (js_istore hX dX0_tells_71 (by decide) (js_iload hX dX0_tells_73 (js_iload hX dX0_tells_75 (js_icmp_lt hX (tgt := 83) dX0_tells_77 rfl (js_iload hX dX0_tells_83 (js_istore hX dX0_tells_85 (by decide) (js_iload hX dX0_tells_87 (js_istore_n hX dX0_tells_89 rfl (by decide) (hK 3)))))
    (js_goto hX (tgt := 90) dX0_tells_80 rfl (hK 3)))))))
  | 3 => exact (js_iinc hX dX0_tells_90 (by decide) (js_goto hX (tgt := 21) dX0_tells_93 rfl (hK 1)))
  | k + 4 => intro ls st h nc ns hf; exact hf.elim
def bX0_mostAlike : jjB := fun e K k => match k with
  | 0 => (ji_const 0 (ji_istore 5 (ji_const 0 (ji_istore 6 (K 1)))))
  | 1 => (ji_iload 6 (ji_const 6 (ji_icmp_ge (ji_iload 5 (ji_iload 1 (ji_callS e MJ14_bitCount 1 (ji_iload 5 (ji_isub (ji_callS e MJ3_max_2 2 (ji_ireturn e)))))))
    (ji_iload 5 (ji_iload 1 (ji_iload 6 (ji_ishr (ji_const 1 (ji_iand (ji_const 1 (ji_icmp_ne (K 2)
    (ji_aload 0 (ji_iload 6 (ji_iload 2 (ji_iload 3 (ji_iload 4 (ji_callV e MX0_pushesBy 0 5 (ji_if_eq (K 2)
    (ji_const 1 (ji_goto (K 3)))))))))))))))))))))
  | 2 => (ji_const 0 (K 3))
  | 3 => (ji_iadd (ji_istore 5 (ji_iinc 6 1 (ji_goto (K 1)))))
  | _ => fun _ _ _ _ _ => False
def pX0_mostAlike : Nat → Nat := fun k => match k with
  | 0 => 0
  | 1 => 6
  | 2 => 42
  | 3 => 43
  | _ => 0
theorem sX0_mostAlike : jSound bX0_mostAlike pX0_mostAlike MX0_mostAlike := by
  intro e p ev R s m args below meth c hX hr hn hlk K hK k
  match k with
  | 0 => exact (js_const hX (z := 0) (by unfold inI; omega) dX0_mostAlike_0 (Or.inl ⟨0, rfl, rfl, rfl⟩) (js_istore hX dX0_mostAlike_1 (by decide) (js_const hX (z := 0) (by unfold inI; omega) dX0_mostAlike_3 (Or.inl ⟨0, rfl, rfl, rfl⟩) (js_istore hX dX0_mostAlike_4 (by decide) (hK 1)))))
  | 1 => exact (js_iload hX dX0_mostAlike_6 (js_const hX (z := 6) (by unfold inI; omega) dX0_mostAlike_8 (Or.inr (Or.inl ⟨6, rfl, rfl, rfl⟩)) (js_icmp_ge hX (tgt := 52) dX0_mostAlike_10 rfl (js_iload hX dX0_mostAlike_52 (js_iload_n hX dX0_mostAlike_54 rfl (js_callS hX MJ14_bitCount (n := 1) (lw_S q1178 q1179 q178 q1180) npJ14_bitCount dX0_mostAlike_55 (js_iload hX dX0_mostAlike_58 (js_isub hX dX0_mostAlike_60 (js_callS hX MJ3_max_2 (n := 2) (lw_S q1312 q837 q159 q838) npJ3_max_2 dX0_mostAlike_61 (js_ireturn hX hr hlk dX0_mostAlike_64)))))))
    (js_iload hX dX0_mostAlike_13 (js_iload_n hX dX0_mostAlike_15 rfl (js_iload hX dX0_mostAlike_16 (js_ishr hX dX0_mostAlike_18 (js_const hX (z := 1) (by unfold inI; omega) dX0_mostAlike_19 (Or.inl ⟨1, rfl, rfl, rfl⟩) (js_iand hX dX0_mostAlike_20 (js_const hX (z := 1) (by unfold inI; omega) dX0_mostAlike_21 (Or.inl ⟨1, rfl, rfl, rfl⟩) (js_icmp_ne hX (tgt := 42) dX0_mostAlike_22 rfl (hK 2)
    (js_aload_n hX dX0_mostAlike_25 rfl (js_iload hX dX0_mostAlike_26 (js_iload_n hX dX0_mostAlike_28 rfl (js_iload_n hX dX0_mostAlike_29 rfl (js_iload hX dX0_mostAlike_30 (js_callV hX MX0_pushesBy (ci := 0) (n := 4) (RX0, TX0, 20) rfl rfl (lw_V q967 q969 qs29 q152 q970) npX0_pushesBy dX0_mostAlike_32 (js_if_eq hX (tgt := 42) dX0_mostAlike_35 rfl (hK 2)
    (js_const hX (z := 1) (by unfold inI; omega) dX0_mostAlike_38 (Or.inl ⟨1, rfl, rfl, rfl⟩) (js_goto hX (tgt := 43) dX0_mostAlike_39 rfl (hK 3)))))))))))))))))))))
  | 2 => exact (js_const hX (z := 0) (by unfold inI; omega) dX0_mostAlike_42 (Or.inl ⟨0, rfl, rfl, rfl⟩) (hK 3))
  | 3 => exact (js_iadd hX dX0_mostAlike_43 (js_istore hX dX0_mostAlike_44 (by decide) (js_iinc hX dX0_mostAlike_46 (by decide) (js_goto hX (tgt := 6) dX0_mostAlike_49 rfl (hK 1)))))
  | k + 4 => intro ls st h nc ns hf; exact hf.elim
def bX0_fits : jjB := fun e K k => match k with
  | 0 => (ji_iload 1 (ji_callS e MX0_isShelf 1 (ji_if_ne (ji_aload 0 (ji_getfR 0 0 (ji_getfR 1 1 (ji_iload 1 (ji_iald (ji_aload 0 (ji_iload 1 (ji_callV e MX0_fullOf 0 2 (ji_isub (ji_istore 2 (ji_const 0 (ji_istore 3 (ji_const 0 (ji_istore 4 (ji_const 1 (ji_istore 5 (K 1)))))))))))))))))
    (ji_const (-1) (ji_ireturn e)))))
  | 1 => (ji_iload 5 (ji_const 1 (ji_aload 0 (ji_getfR 0 0 (ji_getfR 1 0 (ji_const 0 (ji_iald (ji_ishl (ji_icmp_ge (ji_iload 3 (ji_ireturn e))
    (ji_aload 0 (ji_iload 5 (ji_callV e MX0_thickOf 0 2 (ji_istore 6 (ji_iload 5 (ji_callS e MJ14_bitCount 1 (ji_istore 7 (ji_iload 3 (ji_callS e MJ14_bitCount 1 (ji_istore 8 (ji_iload 6 (ji_const (-1) (ji_icmp_eq (K 3)
    (ji_iload 6 (ji_iload 2 (ji_icmp_gt (K 3)
    (ji_iload 7 (ji_iload 8 (ji_icmp_lt (K 3)
    (ji_iload 7 (ji_iload 8 (ji_icmp_ne (K 2)
    (ji_iload 6 (ji_iload 4 (ji_icmp_lt (K 2)
    (ji_goto (K 3))))))))))))))))))))))))))))))))))))
  | 2 => (ji_iload 5 (ji_istore 3 (ji_iload 6 (ji_istore 4 (K 3)))))
  | 3 => (ji_iinc 5 1 (ji_goto (K 1)))
  | _ => fun _ _ _ _ _ => False
def pX0_fits : Nat → Nat := fun k => match k with
  | 0 => 0
  | 1 => 33
  | 2 => 106
  | 3 => 113
  | _ => 0
theorem sX0_fits : jSound bX0_fits pX0_fits MX0_fits := by
  intro e p ev R s m args below meth c hX hr hn hlk K hK k
  match k with
  | 0 => exact (js_iload_n hX dX0_fits_0 rfl (js_callS hX MX0_isShelf (n := 1) (lw_S q322 q323 q152 q324) npX0_isShelf dX0_fits_1 (js_if_ne hX (tgt := 9) dX0_fits_4 rfl (js_aload_n hX dX0_fits_9 rfl (js_getfR hX (ci := 0) (k := 0) (RX0, TX0, 20) rfl (by decide) rfl (Or.inl q255) (fun _ h => h) dX0_fits_10 (js_getfR hX (ci := 1) (k := 1) (RX1, TX1, 7) rfl (by decide) rfl (Or.inr ⟨_, q214⟩) (fun _ h => h) dX0_fits_13 (js_iload_n hX dX0_fits_16 rfl (js_iald hX dX0_fits_17 (js_aload_n hX dX0_fits_18 rfl (js_iload_n hX dX0_fits_19 rfl (js_callV hX MX0_fullOf (ci := 0) (n := 1) (RX0, TX0, 20) rfl rfl (lw_V q328 q330 qs0 q152 q331) npX0_fullOf dX0_fits_20 (js_isub hX dX0_fits_23 (js_istore_n hX dX0_fits_24 rfl (by decide) (js_const hX (z := 0) (by unfold inI; omega) dX0_fits_25 (Or.inl ⟨0, rfl, rfl, rfl⟩) (js_istore_n hX dX0_fits_26 rfl (by decide) (js_const hX (z := 0) (by unfold inI; omega) dX0_fits_27 (Or.inl ⟨0, rfl, rfl, rfl⟩) (js_istore hX dX0_fits_28 (by decide) (js_const hX (z := 1) (by unfold inI; omega) dX0_fits_30 (Or.inl ⟨1, rfl, rfl, rfl⟩) (js_istore hX dX0_fits_31 (by decide) (hK 1)))))))))))))))))
    (js_const hX (z := (-1)) (by unfold inI; omega) dX0_fits_7 (Or.inl ⟨(-1), rfl, rfl, rfl⟩) (js_ireturn hX hr hlk dX0_fits_8)))))
  | 1 => exact (js_iload hX dX0_fits_33 (js_const hX (z := 1) (by unfold inI; omega) dX0_fits_35 (Or.inl ⟨1, rfl, rfl, rfl⟩) (js_aload_n hX dX0_fits_36 rfl (js_getfR hX (ci := 0) (k := 0) (RX0, TX0, 20) rfl (by decide) rfl (Or.inl q255) (fun _ h => h) dX0_fits_37 (js_getfR hX (ci := 1) (k := 0) (RX1, TX1, 7) rfl (by decide) rfl (Or.inr ⟨_, q212⟩) (fun _ h => h) dX0_fits_40 (js_const hX (z := 0) (by unfold inI; omega) dX0_fits_43 (Or.inl ⟨0, rfl, rfl, rfl⟩) (js_iald hX dX0_fits_44 (js_ishl hX dX0_fits_45 (js_icmp_ge hX (tgt := 119) dX0_fits_46 rfl (js_iload_n hX dX0_fits_119 rfl (js_ireturn hX hr hlk dX0_fits_120))
    (js_aload_n hX dX0_fits_49 rfl (js_iload hX dX0_fits_50 (js_callV hX MX0_thickOf (ci := 0) (n := 1) (RX0, TX0, 20) rfl rfl (lw_V q1317 q1319 qs64 q152 q1320) npX0_thickOf dX0_fits_52 (js_istore hX dX0_fits_55 (by decide) (js_iload hX dX0_fits_57 (js_callS hX MJ14_bitCount (n := 1) (lw_S q1178 q1179 q178 q1180) npJ14_bitCount dX0_fits_59 (js_istore hX dX0_fits_62 (by decide) (js_iload_n hX dX0_fits_64 rfl (js_callS hX MJ14_bitCount (n := 1) (lw_S q1178 q1179 q178 q1180) npJ14_bitCount dX0_fits_65 (js_istore hX dX0_fits_68 (by decide) (js_iload hX dX0_fits_70 (js_const hX (z := (-1)) (by unfold inI; omega) dX0_fits_72 (Or.inl ⟨(-1), rfl, rfl, rfl⟩) (js_icmp_eq hX (tgt := 113) dX0_fits_73 rfl (hK 3)
    (js_iload hX dX0_fits_76 (js_iload_n hX dX0_fits_78 rfl (js_icmp_gt hX (tgt := 113) dX0_fits_79 rfl (hK 3)
    (js_iload hX dX0_fits_82 (js_iload hX dX0_fits_84 (js_icmp_lt hX (tgt := 113) dX0_fits_86 rfl (hK 3)
    (js_iload hX dX0_fits_89 (js_iload hX dX0_fits_91 (js_icmp_ne hX (tgt := 106) dX0_fits_93 rfl (hK 2)
    (js_iload hX dX0_fits_96 (js_iload hX dX0_fits_98 (js_icmp_lt hX (tgt := 106) dX0_fits_100 rfl (hK 2)
    (js_goto hX (tgt := 113) dX0_fits_103 rfl (hK 3))))))))))))))))))))))))))))))))))))
  | 2 => exact (js_iload hX dX0_fits_106 (js_istore_n hX dX0_fits_108 rfl (by decide) (js_iload hX dX0_fits_109 (js_istore hX dX0_fits_111 (by decide) (hK 3)))))
  | 3 => exact (js_iinc hX dX0_fits_113 (by decide) (js_goto hX (tgt := 33) dX0_fits_116 rfl (hK 1)))
  | k + 4 => intro ls st h nc ns hf; exact hf.elim
def bX0_thickOf : jjB := fun e K k => match k with
  | 0 => (ji_const 0 (ji_istore 2 (ji_const 0 (ji_istore 3 (K 1)))))
  | 1 => (ji_iload 3 (ji_aload 0 (ji_getfR 0 0 (ji_getfR 1 0 (ji_const 0 (ji_iald (ji_icmp_ge (ji_iload 2 (ji_ireturn e))
    (ji_iload 1 (ji_iload 3 (ji_ishr (ji_const 1 (ji_iand (ji_if_ne (ji_aload 0 (ji_iload 3 (ji_callV e MX0_whereIs 0 2 (ji_const 3 (ji_icmp_eq (ji_iload 2 (ji_aload 0 (ji_iload 3 (ji_callV e MX0_thickNow 0 2 (ji_iadd (ji_istore 2 (K 2)))))))
    (ji_const (-1) (ji_ireturn e)))))))
    (ji_goto (K 2)))))))))))))))
  | 2 => (ji_iinc 3 1 (ji_goto (K 1)))
  | _ => fun _ _ _ _ _ => False
def pX0_thickOf : Nat → Nat := fun k => match k with
  | 0 => 0
  | 1 => 4
  | 2 => 47
  | _ => 0
theorem sX0_thickOf : jSound bX0_thickOf pX0_thickOf MX0_thickOf := by
  intro e p ev R s m args below meth c hX hr hn hlk K hK k
  match k with
  | 0 => exact (js_const hX (z := 0) (by unfold inI; omega) dX0_thickOf_0 (Or.inl ⟨0, rfl, rfl, rfl⟩) (js_istore_n hX dX0_thickOf_1 rfl (by decide) (js_const hX (z := 0) (by unfold inI; omega) dX0_thickOf_2 (Or.inl ⟨0, rfl, rfl, rfl⟩) (js_istore_n hX dX0_thickOf_3 rfl (by decide) (hK 1)))))
  | 1 => exact (js_iload_n hX dX0_thickOf_4 rfl (js_aload_n hX dX0_thickOf_5 rfl (js_getfR hX (ci := 0) (k := 0) (RX0, TX0, 20) rfl (by decide) rfl (Or.inl q255) (fun _ h => h) dX0_thickOf_6 (js_getfR hX (ci := 1) (k := 0) (RX1, TX1, 7) rfl (by decide) rfl (Or.inr ⟨_, q212⟩) (fun _ h => h) dX0_thickOf_9 (js_const hX (z := 0) (by unfold inI; omega) dX0_thickOf_12 (Or.inl ⟨0, rfl, rfl, rfl⟩) (js_iald hX dX0_thickOf_13 (js_icmp_ge hX (tgt := 53) dX0_thickOf_14 rfl (js_iload_n hX dX0_thickOf_53 rfl (js_ireturn hX hr hlk dX0_thickOf_54))
    (js_iload_n hX dX0_thickOf_17 rfl (js_iload_n hX dX0_thickOf_18 rfl (js_ishr hX dX0_thickOf_19 (js_const hX (z := 1) (by unfold inI; omega) dX0_thickOf_20 (Or.inl ⟨1, rfl, rfl, rfl⟩) (js_iand hX dX0_thickOf_21 (js_if_ne hX (tgt := 28) dX0_thickOf_22 rfl (js_aload_n hX dX0_thickOf_28 rfl (js_iload_n hX dX0_thickOf_29 rfl (js_callV hX MX0_whereIs (ci := 0) (n := 1) (RX0, TX0, 20) rfl rfl (lw_V q1059 q1061 qs38 q152 q1062) npX0_whereIs dX0_thickOf_30 (js_const hX (z := 3) (by unfold inI; omega) dX0_thickOf_33 (Or.inl ⟨3, rfl, rfl, rfl⟩) (js_icmp_eq hX (tgt := 39) dX0_thickOf_34 rfl (js_iload_n hX dX0_thickOf_39 rfl (js_aload_n hX dX0_thickOf_40 rfl (js_iload_n hX dX0_thickOf_41 rfl (js_callV hX MX0_thickNow (ci := 0) (n := 1) (RX0, TX0, 20) rfl rfl (lw_V q340 q342 qs1 q152 q343) npX0_thickNow dX0_thickOf_42 (js_iadd hX dX0_thickOf_45 (js_istore_n hX dX0_thickOf_46 rfl (by decide) (hK 2)))))))
    (js_const hX (z := (-1)) (by unfold inI; omega) dX0_thickOf_37 (Or.inl ⟨(-1), rfl, rfl, rfl⟩) (js_ireturn hX hr hlk dX0_thickOf_38)))))))
    (js_goto hX (tgt := 47) dX0_thickOf_25 rfl (hK 2)))))))))))))))
  | 2 => exact (js_iinc hX dX0_thickOf_47 (by decide) (js_goto hX (tgt := 4) dX0_thickOf_50 rfl (hK 1)))
  | k + 3 => intro ls st h nc ns hf; exact hf.elim
