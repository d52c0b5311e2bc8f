/-! blocks of the methods and their soundness -/
set_option maxRecDepth 100000
def bX0_isOnShelf : jjB := fun e K k => match k with
  | 0 => (ji_aload 0 (ji_iload 1 (ji_callV e MX0_isBook 0 2 (ji_if_eq (K 1)
    (ji_aload 0 (ji_iload 1 (ji_callV e MX0_whereIs 0 2 (ji_const 3 (ji_icmp_ge (K 1)
    (ji_const 1 (ji_goto (K 2))))))))))))
  | 1 => (ji_const 0 (K 2))
  | 2 => (ji_zreturn e)
  | _ => fun _ _ _ _ _ => False
def pX0_isOnShelf : Nat → Nat := fun k => match k with
  | 0 => 0
  | 1 => 21
  | 2 => 22
  | _ => 0
theorem sX0_isOnShelf : jSound bX0_isOnShelf pX0_isOnShelf MX0_isOnShelf := by
  intro e p ev R s m args below meth c hX hr hn hlk K hK k
  match k with
  | 0 => exact (js_aload_n hX dX0_isOnShelf_0 rfl (js_iload_n hX dX0_isOnShelf_1 rfl (js_callV hX MX0_isBook (ci := 0) (n := 1) (RX0, TX0, 20) rfl rfl (lw_V q959 q961 qs27 q152 q962) npX0_isBook dX0_isOnShelf_2 (js_if_eq hX (tgt := 21) dX0_isOnShelf_5 rfl (hK 1)
    (js_aload_n hX dX0_isOnShelf_8 rfl (js_iload_n hX dX0_isOnShelf_9 rfl (js_callV hX MX0_whereIs (ci := 0) (n := 1) (RX0, TX0, 20) rfl rfl (lw_V q1059 q1061 qs38 q152 q1062) npX0_whereIs dX0_isOnShelf_10 (js_const hX (z := 3) (by unfold inI; omega) dX0_isOnShelf_13 (Or.inl ⟨3, rfl, rfl, rfl⟩) (js_icmp_ge hX (tgt := 21) dX0_isOnShelf_14 rfl (hK 1)
    (js_const hX (z := 1) (by unfold inI; omega) dX0_isOnShelf_17 (Or.inl ⟨1, rfl, rfl, rfl⟩) (js_goto hX (tgt := 22) dX0_isOnShelf_18 rfl (hK 2))))))))))))
  | 1 => exact (js_const hX (z := 0) (by unfold inI; omega) dX0_isOnShelf_21 (Or.inl ⟨0, rfl, rfl, rfl⟩) (hK 2))
  | 2 => exact (js_zreturn hX hr hlk dX0_isOnShelf_22)
  | k + 3 => intro ls st h nc ns hf; exact hf.elim
def bX0_shelf : jjB := fun e K k => match k with
  | 0 => (ji_iload 1 (ji_callS e MX0_isShelf 1 (ji_if_ne (ji_iload 2 (ji_if_ne (ji_iload 2 (ji_const 1 (ji_icmp_ne (ji_const (-1) (K 1))
    (ji_aload 0 (ji_iload 1 (ji_callV e MX0_fullOf 0 2 (ji_goto (K 1))))))))
    (ji_aload 0 (ji_getfR 0 0 (ji_getfR 1 1 (ji_iload 1 (ji_iald (ji_goto (K 1)))))))))
    (ji_const (-1) (ji_goto (K 1))))))
  | 1 => (ji_ireturn e)
  | _ => fun _ _ _ _ _ => False
def pX0_shelf : Nat → Nat := fun k => match k with
  | 0 => 0
  | 1 => 41
  | _ => 0
theorem sX0_shelf : jSound bX0_shelf pX0_shelf MX0_shelf := by
  intro e p ev R s m args below meth c hX hr hn hlk K hK k
  match k with
  | 0 => exact (js_iload_n hX dX0_shelf_0 rfl (js_callS hX MX0_isShelf (n := 1) (lw_S q322 q323 q152 q324) npX0_isShelf dX0_shelf_1 (js_if_ne hX (tgt := 11) dX0_shelf_4 rfl (js_iload_n hX dX0_shelf_11 rfl (js_if_ne hX (tgt := 27) dX0_shelf_12 rfl (js_iload_n hX dX0_shelf_27 rfl (js_const hX (z := 1) (by unfold inI; omega) dX0_shelf_28 (Or.inl ⟨1, rfl, rfl, rfl⟩) (js_icmp_ne hX (tgt := 40) dX0_shelf_29 rfl (js_const hX (z := (-1)) (by unfold inI; omega) dX0_shelf_40 (Or.inl ⟨(-1), rfl, rfl, rfl⟩) (hK 1))
    (js_aload_n hX dX0_shelf_32 rfl (js_iload_n hX dX0_shelf_33 rfl (js_callV hX MX0_fullOf (ci := 0) (n := 1) (RX0, TX0, 20) rfl rfl (lw_V q328 q330 qs0 q152 q331) npX0_fullOf dX0_shelf_34 (js_goto hX (tgt := 41) dX0_shelf_37 rfl (hK 1))))))))
    (js_aload_n hX dX0_shelf_15 rfl (js_getfR hX (ci := 0) (k := 0) (RX0, TX0, 20) rfl (by decide) rfl (Or.inl q255) (fun _ h => h) dX0_shelf_16 (js_getfR hX (ci := 1) (k := 1) (RX1, TX1, 7) rfl (by decide) rfl (Or.inr ⟨_, q214⟩) (fun _ h => h) dX0_shelf_19 (js_iload_n hX dX0_shelf_22 rfl (js_iald hX dX0_shelf_23 (js_goto hX (tgt := 41) dX0_shelf_24 rfl (hK 1)))))))))
    (js_const hX (z := (-1)) (by unfold inI; omega) dX0_shelf_7 (Or.inl ⟨(-1), rfl, rfl, rfl⟩) (js_goto hX (tgt := 41) dX0_shelf_8 rfl (hK 1))))))
  | 1 => exact (js_ireturn hX hr hlk dX0_shelf_41)
  | k + 2 => intro ls st h nc ns hf; exact hf.elim
def bX0_written : jjB := fun e K k => match k with
  | 0 => (ji_iload 1 (ji_const (-1) (ji_icmp_ne (ji_iload 1 (ji_const 0 (ji_aload 0 (ji_getfR 0 0 (ji_getfR 1 2 (ji_const 46 (ji_iald (ji_const 1 (ji_isub (ji_callS e MX0_in 3 (ji_if_eq (K 1)
    (ji_iload 2 (ji_const 0 (ji_const 3 (ji_callS e MX0_in 3 (ji_if_eq (K 1)
    (ji_aload 0 (ji_getfR 0 0 (ji_getfR 1 2 (ji_const 47 (ji_const 4 (ji_iload 1 (ji_imul (ji_iadd (ji_iload 2 (ji_iadd (ji_iald (ji_goto (K 2)))))))))))))))))))))))))))))
    (ji_aload 0 (ji_getfR 0 0 (ji_getfR 1 2 (ji_const 46 (ji_iald (ji_ireturn e)))))))))
  | 1 => (ji_const (-2) (K 2))
  | 2 => (ji_ireturn e)
  | _ => fun _ _ _ _ _ => False
def pX0_written : Nat → Nat := fun k => match k with
  | 0 => 0
  | 1 => 64
  | 2 => 66
  | _ => 0
theorem sX0_written : jSound bX0_written pX0_written MX0_written := by
  intro e p ev R s m args below meth c hX hr hn hlk K hK k
  match k with
  | 0 => exact (js_iload_n hX dX0_written_0 rfl (js_const hX (z := (-1)) (by unfold inI; omega) dX0_written_1 (Or.inl ⟨(-1), rfl, rfl, rfl⟩) (js_icmp_ne hX (tgt := 16) dX0_written_2 rfl (js_iload_n hX dX0_written_16 rfl (js_const hX (z := 0) (by unfold inI; omega) dX0_written_17 (Or.inl ⟨0, rfl, rfl, rfl⟩) (js_aload_n hX dX0_written_18 rfl (js_getfR hX (ci := 0) (k := 0) (RX0, TX0, 20) rfl (by decide) rfl (Or.inl q255) (fun _ h => h) dX0_written_19 (js_getfR hX (ci := 1) (k := 2) (RX1, TX1, 7) rfl (by decide) rfl (Or.inr ⟨_, q216⟩) (fun _ h => h) dX0_written_22 (js_const hX (z := 46) (by unfold inI; omega) dX0_written_25 (Or.inr (Or.inl ⟨46, rfl, rfl, rfl⟩)) (js_iald hX dX0_written_27 (js_const hX (z := 1) (by unfold inI; omega) dX0_written_28 (Or.inl ⟨1, rfl, rfl, rfl⟩) (js_isub hX dX0_written_29 (js_callS hX MX0_in (n := 3) (lw_S q325 q326 q152 q327) npX0_in dX0_written_30 (js_if_eq hX (tgt := 64) dX0_written_33 rfl (hK 1)
    (js_iload_n hX dX0_written_36 rfl (js_const hX (z := 0) (by unfold inI; omega) dX0_written_37 (Or.inl ⟨0, rfl, rfl, rfl⟩) (js_const hX (z := 3) (by unfold inI; omega) dX0_written_38 (Or.inl ⟨3, rfl, rfl, rfl⟩) (js_callS hX MX0_in (n := 3) (lw_S q325 q326 q152 q327) npX0_in dX0_written_39 (js_if_eq hX (tgt := 64) dX0_written_42 rfl (hK 1)
    (js_aload_n hX dX0_written_45 rfl (js_getfR hX (ci := 0) (k := 0) (RX0, TX0, 20) rfl (by decide) rfl (Or.inl q255) (fun _ h => h) dX0_written_46 (js_getfR hX (ci := 1) (k := 2) (RX1, TX1, 7) rfl (by decide) rfl (Or.inr ⟨_, q216⟩) (fun _ h => h) dX0_written_49 (js_const hX (z := 47) (by unfold inI; omega) dX0_written_52 (Or.inr (Or.inl ⟨47, rfl, rfl, rfl⟩)) (js_const hX (z := 4) (by unfold inI; omega) dX0_written_54 (Or.inl ⟨4, rfl, rfl, rfl⟩) (js_iload_n hX dX0_written_55 rfl (js_imul hX dX0_written_56 (js_iadd hX dX0_written_57 (js_iload_n hX dX0_written_58 rfl (js_iadd hX dX0_written_59 (js_iald hX dX0_written_60 (js_goto hX (tgt := 66) dX0_written_61 rfl (hK 2)))))))))))))))))))))))))))))
    (js_aload_n hX dX0_written_5 rfl (js_getfR hX (ci := 0) (k := 0) (RX0, TX0, 20) rfl (by decide) rfl (Or.inl q255) (fun _ h => h) dX0_written_6 (js_getfR hX (ci := 1) (k := 2) (RX1, TX1, 7) rfl (by decide) rfl (Or.inr ⟨_, q216⟩) (fun _ h => h) dX0_written_9 (js_const hX (z := 46) (by unfold inI; omega) dX0_written_12 (Or.inr (Or.inl ⟨46, rfl, rfl, rfl⟩)) (js_iald hX dX0_written_14 (js_ireturn hX hr hlk dX0_written_15)))))))))
  | 1 => exact (js_const hX (z := (-2)) (by unfold inI; omega) dX0_written_64 (Or.inr (Or.inl ⟨(-2), rfl, rfl, rfl⟩)) (hK 2))
  | 2 => exact (js_ireturn hX hr hlk dX0_written_66)
  | k + 3 => intro ls st h nc ns hf; exact hf.elim
def bX0_rest : jjB := fun e K k => match k with
  | 0 => (ji_iload 1 (ji_callS e MX0_isShelf 1 (ji_if_ne (ji_aload 0 (ji_callV e MX0_laysChange 0 1 (ji_aload 0 (ji_iload 1 (ji_const (-1) (ji_callV e MX0_laysRow 0 3 (ji_aload 0 (ji_callV e MX0_rests 0 1 (ji_ireturn e)))))))))
    (ji_const (-1) (ji_ireturn e)))))
  | _ => fun _ _ _ _ _ => False
def pX0_rest : Nat → Nat := fun k => match k with
  | 0 => 0
  | _ => 0
theorem sX0_rest : jSound bX0_rest pX0_rest MX0_rest := by
  intro e p ev R s m args below meth c hX hr hn hlk K hK k
  match k with
  | 0 => exact (js_iload_n hX dX0_rest_0 rfl (js_callS hX MX0_isShelf (n := 1) (lw_S q322 q323 q152 q324) npX0_isShelf dX0_rest_1 (js_if_ne hX (tgt := 9) dX0_rest_4 rfl (js_aload_n hX dX0_rest_9 rfl (js_callV hX MX0_laysChange (ci := 0) (n := 0) (RX0, TX0, 20) rfl rfl (lw_V q1006 q1008 qs30 q152 q1009) npX0_laysChange dX0_rest_10 (js_aload_n hX dX0_rest_13 rfl (js_iload_n hX dX0_rest_14 rfl (js_const hX (z := (-1)) (by unfold inI; omega) dX0_rest_15 (Or.inl ⟨(-1), rfl, rfl, rfl⟩) (js_callV hX MX0_laysRow (ci := 0) (n := 2) (RX0, TX0, 20) rfl rfl (lw_V q1148 q1150 qs41 q152 q1151) npX0_laysRow dX0_rest_16 (js_aload_n hX dX0_rest_19 rfl (js_callV hX MX0_rests (ci := 0) (n := 0) (RX0, TX0, 20) rfl rfl (lw_V q1152 q1154 qs42 q152 q1155) npX0_rests dX0_rest_20 (js_ireturn hX hr hlk dX0_rest_23)))))))))
    (js_const hX (z := (-1)) (by unfold inI; omega) dX0_rest_7 (Or.inl ⟨(-1), rfl, rfl, rfl⟩) (js_ireturn hX hr hlk dX0_rest_8)))))
  | k + 1 => intro ls st h nc ns hf; exact hf.elim
def bX0_laysRow : jjB := fun e K k => match k with
  | 0 => (ji_aload 0 (ji_const 0 (ji_putfI 0 10 (ji_const 0 (ji_istore 3 (K 1))))))
  | 1 => (ji_iload 3 (ji_aload 0 (ji_getfR 0 0 (ji_iload 1 (ji_callV e MX1_many 1 2 (ji_icmp_ge (ji_return e)
    (ji_aload 0 (ji_getfR 0 0 (ji_iload 1 (ji_iload 3 (ji_callV e MX1_bookAt 1 3 (ji_iload 2 (ji_icmp_ne (ji_aload 0 (ji_getfR 0 8 (ji_aload 0 (ji_getfI 0 10 (ji_aload 0 (ji_getfR 0 0 (ji_iload 1 (ji_iload 3 (ji_callV e MX1_bookAt 1 3 (ji_iast (ji_aload 0 (ji_dup (ji_getfI 0 10 (ji_const 1 (ji_iadd (ji_putfI 0 10 (K 2)))))))))))))))))
    (ji_goto (K 2)))))))))))))))
  | 2 => (ji_iinc 3 1 (ji_goto (K 1)))
  | _ => fun _ _ _ _ _ => False
def pX0_laysRow : Nat → Nat := fun k => match k with
  | 0 => 0
  | 1 => 7
  | 2 => 63
  | _ => 0
theorem sX0_laysRow : jSound bX0_laysRow pX0_laysRow MX0_laysRow := by
  intro e p ev R s m args below meth c hX hr hn hlk K hK k
  match k with
  | 0 => exact (js_aload_n hX dX0_laysRow_0 rfl (js_const hX (z := 0) (by unfold inI; omega) dX0_laysRow_1 (Or.inl ⟨0, rfl, rfl, rfl⟩) (js_putfI hX (ci := 0) (k := 10) (RX0, TX0, 20) rfl (by decide) rfl (Or.inl q265) (fun _ h => h) (Or.inl rfl) dX0_laysRow_2 (js_const hX (z := 0) (by unfold inI; omega) dX0_laysRow_5 (Or.inl ⟨0, rfl, rfl, rfl⟩) (js_istore_n hX dX0_laysRow_6 rfl (by decide) (hK 1))))))
  | 1 => exact (js_iload_n hX dX0_laysRow_7 rfl (js_aload_n hX dX0_laysRow_8 rfl (js_getfR hX (ci := 0) (k := 0) (RX0, TX0, 20) rfl (by decide) rfl (Or.inl q255) (fun _ h => h) dX0_laysRow_9 (js_iload_n hX dX0_laysRow_12 rfl (js_callV hX MX1_many (ci := 1) (n := 1) (RX1, TX1, 7) rfl rfl (lw_V q332 q333 q334 q153 q335) npX1_many dX0_laysRow_13 (js_icmp_ge hX (tgt := 69) dX0_laysRow_16 rfl (js_return hX hr hlk dX0_laysRow_69)
    (js_aload_n hX dX0_laysRow_19 rfl (js_getfR hX (ci := 0) (k := 0) (RX0, TX0, 20) rfl (by decide) rfl (Or.inl q255) (fun _ h => h) dX0_laysRow_20 (js_iload_n hX dX0_laysRow_23 rfl (js_iload_n hX dX0_laysRow_24 rfl (js_callV hX MX1_bookAt (ci := 1) (n := 2) (RX1, TX1, 7) rfl rfl (lw_V q336 q337 q338 q153 q339) npX1_bookAt dX0_laysRow_25 (js_iload_n hX dX0_laysRow_28 rfl (js_icmp_ne hX (tgt := 35) dX0_laysRow_29 rfl (js_aload_n hX dX0_laysRow_35 rfl (js_getfR hX (ci := 0) (k := 8) (RX0, TX0, 20) rfl (by decide) rfl (Or.inl q263) (fun _ h => h) dX0_laysRow_36 (js_aload_n hX dX0_laysRow_39 rfl (js_getfI hX (ci := 0) (k := 10) (RX0, TX0, 20) rfl (by decide) rfl (Or.inl q265) (fun _ h => h) dX0_laysRow_40 (js_aload_n hX dX0_laysRow_43 rfl (js_getfR hX (ci := 0) (k := 0) (RX0, TX0, 20) rfl (by decide) rfl (Or.inl q255) (fun _ h => h) dX0_laysRow_44 (js_iload_n hX dX0_laysRow_47 rfl (js_iload_n hX dX0_laysRow_48 rfl (js_callV hX MX1_bookAt (ci := 1) (n := 2) (RX1, TX1, 7) rfl rfl (lw_V q336 q337 q338 q153 q339) npX1_bookAt dX0_laysRow_49 (js_iast hX dX0_laysRow_52 (js_aload_n hX dX0_laysRow_53 rfl (js_dup hX dX0_laysRow_54 (js_getfI hX (ci := 0) (k := 10) (RX0, TX0, 20) rfl (by decide) rfl (Or.inl q265) (fun _ h => h) dX0_laysRow_55 (js_const hX (z := 1) (by unfold inI; omega) dX0_laysRow_58 (Or.inl ⟨1, rfl, rfl, rfl⟩) (js_iadd hX dX0_laysRow_59 (js_putfI hX (ci := 0) (k := 10) (RX0, TX0, 20) rfl (by decide) rfl (Or.inl q265) (fun _ h => h) (Or.inl rfl) dX0_laysRow_60 (hK 2)))))))))))))))))
    (js_goto hX (tgt := 63) dX0_laysRow_32 rfl (hK 2)))))))))))))))
  | 2 => exact (js_iinc hX dX0_laysRow_63 (by decide) (js_goto hX (tgt := 7) dX0_laysRow_66 rfl (hK 1)))
  | k + 3 => intro ls st h nc ns hf; exact hf.elim
def bX0_rests : jjB := fun e K k => match k with
  | 0 => (ji_const 0 (ji_istore 1 (K 1)))
  | 1 => (ji_iload 1 (ji_const 500 (ji_icmp_gt (ji_const (-1) (ji_ireturn e))
    (ji_aload 0 (ji_aload 0 (ji_getfR 0 8 (ji_aload 0 (ji_getfI 0 10 (ji_callV e MX0_isCalm 0 3 (ji_if_eq (ji_aload 0 (ji_aload 0 (ji_getfR 0 8 (ji_const 0 (ji_aload 0 (ji_getfI 0 10 (ji_aload 0 (ji_getfR 0 0 (ji_getfR 1 2 (ji_const 44 (ji_iald (ji_iload 1 (ji_iadd (ji_const 2 (ji_irem (ji_callV e MX0_nightOn 0 5 (ji_istore 2 (ji_iinc 1 1 (ji_goto (K 1))))))))))))))))))))
    (ji_iload 1 (ji_ireturn e))))))))))))
  | _ => fun _ _ _ _ _ => False
def pX0_rests : Nat → Nat := fun k => match k with
  | 0 => 0
  | 1 => 2
  | _ => 0
theorem sX0_rests : jSound bX0_rests pX0_rests MX0_rests := by
  intro e p ev R s m args below meth c hX hr hn hlk K hK k
  match k with
  | 0 => exact (js_const hX (z := 0) (by unfold inI; omega) dX0_rests_0 (Or.inl ⟨0, rfl, rfl, rfl⟩) (js_istore_n hX dX0_rests_1 rfl (by decide) (hK 1)))
  | 1 => exact (js_iload_n hX dX0_rests_2 rfl (js_const hX (z := 500) (by unfold inI; omega) dX0_rests_3 (Or.inr (Or.inr (Or.inl ⟨500, rfl, rfl, rfl⟩))) (js_icmp_gt hX (tgt := 60) dX0_rests_6 rfl (js_const hX (z := (-1)) (by unfold inI; omega) dX0_rests_60 (Or.inl ⟨(-1), rfl, rfl, rfl⟩) (js_ireturn hX hr hlk dX0_rests_61))
    (js_aload_n hX dX0_rests_9 rfl (js_aload_n hX dX0_rests_10 rfl (js_getfR hX (ci := 0) (k := 8) (RX0, TX0, 20) rfl (by decide) rfl (Or.inl q263) (fun _ h => h) dX0_rests_11 (js_aload_n hX dX0_rests_14 rfl (js_getfI hX (ci := 0) (k := 10) (RX0, TX0, 20) rfl (by decide) rfl (Or.inl q265) (fun _ h => h) dX0_rests_15 (js_callV hX MX0_isCalm (ci := 0) (n := 2) (RX0, TX0, 20) rfl rfl (lw_V q1156 q1158 qs43 q152 q1159) npX0_isCalm dX0_rests_18 (js_if_eq hX (tgt := 26) dX0_rests_21 rfl (js_aload_n hX dX0_rests_26 rfl (js_aload_n hX dX0_rests_27 rfl (js_getfR hX (ci := 0) (k := 8) (RX0, TX0, 20) rfl (by decide) rfl (Or.inl q263) (fun _ h => h) dX0_rests_28 (js_const hX (z := 0) (by unfold inI; omega) dX0_rests_31 (Or.inl ⟨0, rfl, rfl, rfl⟩) (js_aload_n hX dX0_rests_32 rfl (js_getfI hX (ci := 0) (k := 10) (RX0, TX0, 20) rfl (by decide) rfl (Or.inl q265) (fun _ h => h) dX0_rests_33 (js_aload_n hX dX0_rests_36 rfl (js_getfR hX (ci := 0) (k := 0) (RX0, TX0, 20) rfl (by decide) rfl (Or.inl q255) (fun _ h => h) dX0_rests_37 (js_getfR hX (ci := 1) (k := 2) (RX1, TX1, 7) rfl (by decide) rfl (Or.inr ⟨_, q216⟩) (fun _ h => h) dX0_rests_40 (js_const hX (z := 44) (by unfold inI; omega) dX0_rests_43 (Or.inr (Or.inl ⟨44, rfl, rfl, rfl⟩)) (js_iald hX dX0_rests_45 (js_iload_n hX dX0_rests_46 rfl (js_iadd hX dX0_rests_47 (js_const hX (z := 2) (by unfold inI; omega) dX0_rests_48 (Or.inl ⟨2, rfl, rfl, rfl⟩) (js_irem hX dX0_rests_49 (js_callV hX MX0_nightOn (ci := 0) (n := 4) (RX0, TX0, 20) rfl rfl (lw_V q1030 q1032 qs34 q152 q1033) npX0_nightOn dX0_rests_50 (js_istore_n hX dX0_rests_53 rfl (by decide) (js_iinc hX dX0_rests_54 (by decide) (js_goto hX (tgt := 2) dX0_rests_57 rfl (hK 1))))))))))))))))))))
    (js_iload_n hX dX0_rests_24 rfl (js_ireturn hX hr hlk dX0_rests_25))))))))))))
  | k + 2 => intro ls st h nc ns hf; exact hf.elim
def bX0_isCalm : jjB := fun e K k => match k with
  | 0 => (ji_const 0 (ji_istore 3 (K 1)))
  | 1 => (ji_iload 3 (ji_const 1 (ji_iadd (ji_iload 2 (ji_icmp_ge (ji_const 1 (ji_zreturn e))
    (ji_aload 0 (ji_aload 1 (ji_iload 3 (ji_iald (ji_aload 1 (ji_iload 3 (ji_const 1 (ji_iadd (ji_iald (ji_callV e MX0_doChange 0 3 (ji_if_eq (ji_iinc 3 1 (ji_goto (K 1)))
    (ji_const 0 (ji_zreturn e))))))))))))))))))
  | _ => fun _ _ _ _ _ => False
def pX0_isCalm : Nat → Nat := fun k => match k with
  | 0 => 0
  | 1 => 2
  | _ => 0
theorem sX0_isCalm : jSound bX0_isCalm pX0_isCalm MX0_isCalm := by
  intro e p ev R s m args below meth c hX hr hn hlk K hK k
  match k with
  | 0 => exact (js_const hX (z := 0) (by unfold inI; omega) dX0_isCalm_0 (Or.inl ⟨0, rfl, rfl, rfl⟩) (js_istore_n hX dX0_isCalm_1 rfl (by decide) (hK 1)))
  | 1 => exact (js_iload_n hX dX0_isCalm_2 rfl (js_const hX (z := 1) (by unfold inI; omega) dX0_isCalm_3 (Or.inl ⟨1, rfl, rfl, rfl⟩) (js_iadd hX dX0_isCalm_4 (js_iload_n hX dX0_isCalm_5 rfl (js_icmp_ge hX (tgt := 32) dX0_isCalm_6 rfl (js_const hX (z := 1) (by unfold inI; omega) dX0_isCalm_32 (Or.inl ⟨1, rfl, rfl, rfl⟩) (js_zreturn hX hr hlk dX0_isCalm_33))
    (js_aload_n hX dX0_isCalm_9 rfl (js_aload_n hX dX0_isCalm_10 rfl (js_iload_n hX dX0_isCalm_11 rfl (js_iald hX dX0_isCalm_12 (js_aload_n hX dX0_isCalm_13 rfl (js_iload_n hX dX0_isCalm_14 rfl (js_const hX (z := 1) (by unfold inI; omega) dX0_isCalm_15 (Or.inl ⟨1, rfl, rfl, rfl⟩) (js_iadd hX dX0_isCalm_16 (js_iald hX dX0_isCalm_17 (js_callV hX MX0_doChange (ci := 0) (n := 2) (RX0, TX0, 20) rfl rfl (lw_V q1022 q1024 qs33 q152 q1025) npX0_doChange dX0_isCalm_18 (js_if_eq hX (tgt := 26) dX0_isCalm_21 rfl (js_iinc hX dX0_isCalm_26 (by decide) (js_goto hX (tgt := 2) dX0_isCalm_29 rfl (hK 1)))
    (js_const hX (z := 0) (by unfold inI; omega) dX0_isCalm_24 (Or.inl ⟨0, rfl, rfl, rfl⟩) (js_zreturn hX hr hlk dX0_isCalm_25))))))))))))))))))
  | k + 2 => intro ls st h nc ns hf; exact hf.elim
def bX0_round : jjB := fun e K k => match k with
  | 0 => (ji_aload 0 (ji_iload 1 (ji_callV e MX0_rest 0 2 (ji_const (-1) (ji_icmp_ne (K 1)
    (ji_iload 1 (ji_callS e MX0_isShelf 1 (ji_if_ne (ji_aload 0 (ji_iload 1 (ji_const (-1) (ji_callV e MX0_laysRow 0 3 (ji_const 0 (ji_istore 3 (K 2)))))))
    (K 1)))))))))
  | 1 => (ji_const (-1) (ji_ireturn e))
  | 2 => (ji_iload 3 (ji_const 500 (ji_icmp_gt (ji_const (-1) (ji_ireturn e))
    (ji_aload 0 (ji_getfR 0 9 (ji_iload 3 (ji_aload 0 (ji_aload 0 (ji_getfR 0 0 (ji_getfR 1 2 (ji_const 44 (ji_iald (ji_iload 3 (ji_iadd (ji_callV e MX0_standing 0 2 (ji_last (ji_const 0 (ji_istore 4 (K 3)))))))))))))))))))
  | 3 => (ji_iload 4 (ji_iload 3 (ji_icmp_ge (ji_aload 0 (ji_aload 0 (ji_getfR 0 8 (ji_const 0 (ji_aload 0 (ji_getfI 0 10 (ji_aload 0 (ji_getfR 0 0 (ji_getfR 1 2 (ji_const 44 (ji_iald (ji_iload 3 (ji_iadd (ji_const 2 (ji_irem (ji_callV e MX0_nightOn 0 5 (ji_istore 4 (ji_iinc 3 1 (ji_goto (K 2))))))))))))))))))))
    (ji_aload 0 (ji_getfR 0 9 (ji_iload 4 (ji_lald (ji_aload 0 (ji_getfR 0 9 (ji_iload 3 (ji_lald (ji_lcmp (ji_if_ne (ji_iinc 4 1 (ji_goto (K 3)))
    (ji_iload 2 (ji_if_eq (ji_iload 4 (K 4))
    (ji_iload 3 (ji_iload 4 (ji_isub (ji_goto (K 4))))))))))))))))))))
  | 4 => (ji_ireturn e)
  | _ => fun _ _ _ _ _ => False
def pX0_round : Nat → Nat := fun k => match k with
  | 0 => 0
  | 1 => 16
  | 2 => 26
  | 3 => 58
  | 4 => 94
  | _ => 0
theorem sX0_round : jSound bX0_round pX0_round MX0_round := by
  intro e p ev R s m args below meth c hX hr hn hlk K hK k
  match k with
  | 0 => exact (js_aload_n hX dX0_round_0 rfl (js_iload_n hX dX0_round_1 rfl (js_callV hX MX0_rest (ci := 0) (n := 1) (RX0, TX0, 20) rfl rfl (lw_V q1164 q1145 q1146 q152 q1147) npX0_rest dX0_round_2 (js_const hX (z := (-1)) (by unfold inI; omega) dX0_round_5 (Or.inl ⟨(-1), rfl, rfl, rfl⟩) (js_icmp_ne hX (tgt := 16) dX0_round_6 rfl (hK 1)
    (js_iload_n hX dX0_round_9 rfl (js_callS hX MX0_isShelf (n := 1) (lw_S q322 q323 q152 q324) npX0_isShelf dX0_round_10 (js_if_ne hX (tgt := 18) dX0_round_13 rfl (js_aload_n hX dX0_round_18 rfl (js_iload_n hX dX0_round_19 rfl (js_const hX (z := (-1)) (by unfold inI; omega) dX0_round_20 (Or.inl ⟨(-1), rfl, rfl, rfl⟩) (js_callV hX MX0_laysRow (ci := 0) (n := 2) (RX0, TX0, 20) rfl rfl (lw_V q1148 q1150 qs41 q152 q1151) npX0_laysRow dX0_round_21 (js_const hX (z := 0) (by unfold inI; omega) dX0_round_24 (Or.inl ⟨0, rfl, rfl, rfl⟩) (js_istore_n hX dX0_round_25 rfl (by decide) (hK 2)))))))
    (hK 1)))))))))
  | 1 => exact (js_const hX (z := (-1)) (by unfold inI; omega) dX0_round_16 (Or.inl ⟨(-1), rfl, rfl, rfl⟩) (js_ireturn hX hr hlk dX0_round_17))
  | 2 => exact (js_iload_n hX dX0_round_26 rfl (js_const hX (z := 500) (by unfold inI; omega) dX0_round_27 (Or.inr (Or.inr (Or.inl ⟨500, rfl, rfl, rfl⟩))) (js_icmp_gt hX (tgt := 136) dX0_round_30 rfl (js_const hX (z := (-1)) (by unfold inI; omega) dX0_round_136 (Or.inl ⟨(-1), rfl, rfl, rfl⟩) (js_ireturn hX hr hlk dX0_round_137))
    (js_aload_n hX dX0_round_33 rfl (js_getfR hX (ci := 0) (k := 9) (RX0, TX0, 20) rfl (by decide) rfl (Or.inl q264) (fun _ h => h) dX0_round_34 (js_iload_n hX dX0_round_37 rfl (js_aload_n hX dX0_round_38 rfl (js_aload_n hX dX0_round_39 rfl (js_getfR hX (ci := 0) (k := 0) (RX0, TX0, 20) rfl (by decide) rfl (Or.inl q255) (fun _ h => h) dX0_round_40 (js_getfR hX (ci := 1) (k := 2) (RX1, TX1, 7) rfl (by decide) rfl (Or.inr ⟨_, q216⟩) (fun _ h => h) dX0_round_43 (js_const hX (z := 44) (by unfold inI; omega) dX0_round_46 (Or.inr (Or.inl ⟨44, rfl, rfl, rfl⟩)) (js_iald hX dX0_round_48 (js_iload_n hX dX0_round_49 rfl (js_iadd hX dX0_round_50 (js_callV hX MX0_standing (ci := 0) (n := 1) (RX0, TX0, 20) rfl rfl (lw_V q1165 q1167 qs44 q152 q1168) npX0_standing dX0_round_51 (js_last hX dX0_round_54 (js_const hX (z := 0) (by unfold inI; omega) dX0_round_55 (Or.inl ⟨0, rfl, rfl, rfl⟩) (js_istore hX dX0_round_56 (by decide) (hK 3)))))))))))))))))))
  | 3 => exact (js_iload hX dX0_round_58 (js_iload_n hX dX0_round_60 rfl (js_icmp_ge hX (tgt := 101) dX0_round_61 rfl (js_aload_n hX dX0_round_101 rfl (js_aload_n hX dX0_round_102 rfl (js_getfR hX (ci := 0) (k := 8) (RX0, TX0, 20) rfl (by decide) rfl (Or.inl q263) (fun _ h => h) dX0_round_103 (js_const hX (z := 0) (by unfold inI; omega) dX0_round_106 (Or.inl ⟨0, rfl, rfl, rfl⟩) (js_aload_n hX dX0_round_107 rfl (js_getfI hX (ci := 0) (k := 10) (RX0, TX0, 20) rfl (by decide) rfl (Or.inl q265) (fun _ h => h) dX0_round_108 (js_aload_n hX dX0_round_111 rfl (js_getfR hX (ci := 0) (k := 0) (RX0, TX0, 20) rfl (by decide) rfl (Or.inl q255) (fun _ h => h) dX0_round_112 (js_getfR hX (ci := 1) (k := 2) (RX1, TX1, 7) rfl (by decide) rfl (Or.inr ⟨_, q216⟩) (fun _ h => h) dX0_round_115 (js_const hX (z := 44) (by unfold inI; omega) dX0_round_118 (Or.inr (Or.inl ⟨44, rfl, rfl, rfl⟩)) (js_iald hX dX0_round_120 (js_iload_n hX dX0_round_121 rfl (js_iadd hX dX0_round_122 (js_const hX (z := 2) (by unfold inI; omega) dX0_round_123 (Or.inl ⟨2, rfl, rfl, rfl⟩) (js_irem hX dX0_round_124 (js_callV hX MX0_nightOn (ci := 0) (n := 4) (RX0, TX0, 20) rfl rfl (lw_V q1030 q1032 qs34 q152 q1033) npX0_nightOn dX0_round_125 (js_istore hX dX0_round_128 (by decide) (js_iinc hX dX0_round_130 (by decide) (js_goto hX (tgt := 26) dX0_round_133 rfl (hK 2))))))))))))))))))))
    (js_aload_n hX dX0_round_64 rfl (js_getfR hX (ci := 0) (k := 9) (RX0, TX0, 20) rfl (by decide) rfl (Or.inl q264) (fun _ h => h) dX0_round_65 (js_iload hX dX0_round_68 (js_lald hX dX0_round_70 (js_aload_n hX dX0_round_71 rfl (js_getfR hX (ci := 0) (k := 9) (RX0, TX0, 20) rfl (by decide) rfl (Or.inl q264) (fun _ h => h) dX0_round_72 (js_iload_n hX dX0_round_75 rfl (js_lald hX dX0_round_76 (js_lcmp hX dX0_round_77 (js_if_ne hX (tgt := 95) dX0_round_78 rfl (js_iinc hX dX0_round_95 (by decide) (js_goto hX (tgt := 58) dX0_round_98 rfl (hK 3)))
    (js_iload_n hX dX0_round_81 rfl (js_if_eq hX (tgt := 92) dX0_round_82 rfl (js_iload hX dX0_round_92 (hK 4))
    (js_iload_n hX dX0_round_85 rfl (js_iload hX dX0_round_86 (js_isub hX dX0_round_88 (js_goto hX (tgt := 94) dX0_round_89 rfl (hK 4))))))))))))))))))))
  | 4 => exact (js_ireturn hX hr hlk dX0_round_94)
  | k + 5 => intro ls st h nc ns hf; exact hf.elim
def bX0_standing : jjB := fun e K k => match k with
  | 0 => (ji_iload 1 (ji_const 2 (ji_irem (ji_i2l (ji_lstore 2 (ji_const 0 (ji_istore 4 (K 1))))))))
  | 1 => (ji_iload 4 (ji_aload 0 (ji_getfI 0 10 (ji_icmp_ge (ji_lload 2 (ji_lreturn e))
    (ji_lconst 10 (ji_lload 2 (ji_lmul (ji_aload 0 (ji_getfR 0 8 (ji_iload 4 (ji_iald (ji_i2l (ji_ladd (ji_lstore 2 (ji_iinc 4 1 (ji_goto (K 1)))))))))))))))))
  | _ => fun _ _ _ _ _ => False
def pX0_standing : Nat → Nat := fun k => match k with
  | 0 => 0
  | 1 => 8
  | _ => 0
theorem sX0_standing : jSound bX0_standing pX0_standing MX0_standing := by
  intro e p ev R s m args below meth c hX hr hn hlk K hK k
  match k with
  | 0 => exact (js_iload_n hX dX0_standing_0 rfl (js_const hX (z := 2) (by unfold inI; omega) dX0_standing_1 (Or.inl ⟨2, rfl, rfl, rfl⟩) (js_irem hX dX0_standing_2 (js_i2l hX dX0_standing_3 (js_lstore_n hX dX0_standing_4 rfl (by decide) (js_const hX (z := 0) (by unfold inI; omega) dX0_standing_5 (Or.inl ⟨0, rfl, rfl, rfl⟩) (js_istore hX dX0_standing_6 (by decide) (hK 1))))))))
  | 1 => exact (js_iload hX dX0_standing_8 (js_aload_n hX dX0_standing_10 rfl (js_getfI hX (ci := 0) (k := 10) (RX0, TX0, 20) rfl (by decide) rfl (Or.inl q265) (fun _ h => h) dX0_standing_11 (js_icmp_ge hX (tgt := 38) dX0_standing_14 rfl (js_lload_n hX dX0_standing_38 rfl (js_lreturn hX hr hlk dX0_standing_39))
    (js_ldc2 hX (z := 10) (by unfold inL; omega) dX0_standing_17 q1169 (js_lload_n hX dX0_standing_20 rfl (js_lmul hX dX0_standing_21 (js_aload_n hX dX0_standing_22 rfl (js_getfR hX (ci := 0) (k := 8) (RX0, TX0, 20) rfl (by decide) rfl (Or.inl q263) (fun _ h => h) dX0_standing_23 (js_iload hX dX0_standing_26 (js_iald hX dX0_standing_28 (js_i2l hX dX0_standing_29 (js_ladd hX dX0_standing_30 (js_lstore_n hX dX0_standing_31 rfl (by decide) (js_iinc hX dX0_standing_32 (by decide) (js_goto hX (tgt := 8) dX0_standing_35 rfl (hK 1)))))))))))))))))
  | k + 2 => intro ls st h nc ns hf; exact hf.elim
def bX0_calm : jjB := fun e K k => match k with
  | 0 => (ji_iload 2 (ji_const (-1) (ji_icmp_lt (K 1)
    (ji_aload 0 (ji_iload 1 (ji_const 6 (ji_callV e MX0_choose 0 3 (ji_if_ne (ji_aload 0 (ji_callV e MX0_laysChange 0 1 (ji_aload 0 (ji_iload 2 (ji_callV e MX0_calmNumber 0 2 (ji_istore 4 (ji_iload 2 (ji_const (-1) (ji_icmp_ne (ji_iload 4 (ji_const (-1) (ji_icmp_eq (K 2)
    (ji_iload 3 (ji_const 0 (ji_aload 0 (ji_getfI 0 13 (ji_const 1 (ji_isub (ji_callS e MX0_in 3 (ji_if_ne (ji_aload 0 (ji_getfR 0 12 (ji_iload 3 (ji_iald (K 3)))))
    (K 2))))))))))))
    (ji_aload 0 (ji_getfI 0 14 (ji_ireturn e))))))))))))
    (K 1)))))))))
  | 1 => (ji_const (-1) (ji_ireturn e))
  | 2 => (ji_const (-1) (ji_goto (K 3)))
  | 3 => (ji_ireturn e)
  | _ => fun _ _ _ _ _ => False
def pX0_calm : Nat → Nat := fun k => match k with
  | 0 => 0
  | 1 => 15
  | 2 => 58
  | 3 => 68
  | _ => 0
theorem sX0_calm : jSound bX0_calm pX0_calm MX0_calm := by
  intro e p ev R s m args below meth c hX hr hn hlk K hK k
  match k with
  | 0 => exact (js_iload_n hX dX0_calm_0 rfl (js_const hX (z := (-1)) (by unfold inI; omega) dX0_calm_1 (Or.inl ⟨(-1), rfl, rfl, rfl⟩) (js_icmp_lt hX (tgt := 15) dX0_calm_2 rfl (hK 1)
    (js_aload_n hX dX0_calm_5 rfl (js_iload_n hX dX0_calm_6 rfl (js_const hX (z := 6) (by unfold inI; omega) dX0_calm_7 (Or.inr (Or.inl ⟨6, rfl, rfl, rfl⟩)) (js_callV hX MX0_choose (ci := 0) (n := 2) (RX0, TX0, 20) rfl rfl (lw_V q1174 q1176 qs45 q152 q1177) npX0_choose dX0_calm_9 (js_if_ne hX (tgt := 17) dX0_calm_12 rfl (js_aload_n hX dX0_calm_17 rfl (js_callV hX MX0_laysChange (ci := 0) (n := 0) (RX0, TX0, 20) rfl rfl (lw_V q1006 q1008 qs30 q152 q1009) npX0_laysChange dX0_calm_18 (js_aload_n hX dX0_calm_21 rfl (js_iload_n hX dX0_calm_22 rfl (js_callV hX MX0_calmNumber (ci := 0) (n := 1) (RX0, TX0, 20) rfl rfl (lw_V q1184 q1186 qs46 q152 q1187) npX0_calmNumber dX0_calm_23 (js_istore hX dX0_calm_26 (by decide) (js_iload_n hX dX0_calm_28 rfl (js_const hX (z := (-1)) (by unfold inI; omega) dX0_calm_29 (Or.inl ⟨(-1), rfl, rfl, rfl⟩) (js_icmp_ne hX (tgt := 38) dX0_calm_30 rfl (js_iload hX dX0_calm_38 (js_const hX (z := (-1)) (by unfold inI; omega) dX0_calm_40 (Or.inl ⟨(-1), rfl, rfl, rfl⟩) (js_icmp_eq hX (tgt := 58) dX0_calm_41 rfl (hK 2)
    (js_iload_n hX dX0_calm_44 rfl (js_const hX (z := 0) (by unfold inI; omega) dX0_calm_45 (Or.inl ⟨0, rfl, rfl, rfl⟩) (js_aload_n hX dX0_calm_46 rfl (js_getfI hX (ci := 0) (k := 13) (RX0, TX0, 20) rfl (by decide) rfl (Or.inl q268) (fun _ h => h) dX0_calm_47 (js_const hX (z := 1) (by unfold inI; omega) dX0_calm_50 (Or.inl ⟨1, rfl, rfl, rfl⟩) (js_isub hX dX0_calm_51 (js_callS hX MX0_in (n := 3) (lw_S q325 q326 q152 q327) npX0_in dX0_calm_52 (js_if_ne hX (tgt := 62) dX0_calm_55 rfl (js_aload_n hX dX0_calm_62 rfl (js_getfR hX (ci := 0) (k := 12) (RX0, TX0, 20) rfl (by decide) rfl (Or.inl q267) (fun _ h => h) dX0_calm_63 (js_iload_n hX dX0_calm_66 rfl (js_iald hX dX0_calm_67 (hK 3)))))
    (hK 2))))))))))))
    (js_aload_n hX dX0_calm_33 rfl (js_getfI hX (ci := 0) (k := 14) (RX0, TX0, 20) rfl (by decide) rfl (Or.inl q269) (fun _ h => h) dX0_calm_34 (js_ireturn hX hr hlk dX0_calm_37))))))))))))
    (hK 1)))))))))
  | 1 => exact (js_const hX (z := (-1)) (by unfold inI; omega) dX0_calm_15 (Or.inl ⟨(-1), rfl, rfl, rfl⟩) (js_ireturn hX hr hlk dX0_calm_16))
  | 2 => exact (js_const hX (z := (-1)) (by unfold inI; omega) dX0_calm_58 (Or.inl ⟨(-1), rfl, rfl, rfl⟩) (js_goto hX (tgt := 68) dX0_calm_59 rfl (hK 3)))
  | 3 => exact (js_ireturn hX hr hlk dX0_calm_68)
  | k + 4 => intro ls st h nc ns hf; exact hf.elim
def bX0_choose : jjB := fun e K k => match k with
  | 0 => (ji_aload 0 (ji_const 0 (ji_putfI 0 13 (ji_iload 1 (ji_const 1 (ji_const 1 (ji_aload 0 (ji_getfR 0 0 (ji_getfR 1 0 (ji_const 0 (ji_iald (ji_ishl (ji_const 1 (ji_isub (ji_callS e MX0_in 3 (ji_if_eq (K 1)
    (ji_iload 1 (ji_callS e MJ14_bitCount 1 (ji_iload 2 (ji_icmp_le (ji_const 0 (ji_istore 3 (K 2)))
    (K 1)))))))))))))))))))))
  | 1 => (ji_const 0 (ji_zreturn e))
  | 2 => (ji_iload 3 (ji_aload 0 (ji_getfR 0 0 (ji_getfR 1 0 (ji_const 0 (ji_iald (ji_icmp_ge (ji_const 1 (ji_zreturn e))
    (ji_iload 1 (ji_iload 3 (ji_ishr (ji_const 1 (ji_iand (ji_if_ne (ji_aload 0 (ji_getfR 0 11 (ji_aload 0 (ji_getfI 0 13 (ji_iload 3 (ji_iast (ji_aload 0 (ji_dup (ji_getfI 0 13 (ji_const 1 (ji_iadd (ji_putfI 0 13 (K 3)))))))))))))
    (ji_goto (K 3)))))))))))))))
  | 3 => (ji_iinc 3 1 (ji_goto (K 2)))
  | _ => fun _ _ _ _ _ => False
def pX0_choose : Nat → Nat := fun k => match k with
  | 0 => 0
  | 1 => 34
  | 2 => 38
  | 3 => 82
  | _ => 0
theorem sX0_choose : jSound bX0_choose pX0_choose MX0_choose := by
  intro e p ev R s m args below meth c hX hr hn hlk K hK k
  match k with
  | 0 => exact (js_aload_n hX dX0_choose_0 rfl (js_const hX (z := 0) (by unfold inI; omega) dX0_choose_1 (Or.inl ⟨0, rfl, rfl, rfl⟩) (js_putfI hX (ci := 0) (k := 13) (RX0, TX0, 20) rfl (by decide) rfl (Or.inl q268) (fun _ h => h) (Or.inl rfl) dX0_choose_2 (js_iload_n hX dX0_choose_5 rfl (js_const hX (z := 1) (by unfold inI; omega) dX0_choose_6 (Or.inl ⟨1, rfl, rfl, rfl⟩) (js_const hX (z := 1) (by unfold inI; omega) dX0_choose_7 (Or.inl ⟨1, rfl, rfl, rfl⟩) (js_aload_n hX dX0_choose_8 rfl (js_getfR hX (ci := 0) (k := 0) (RX0, TX0, 20) rfl (by decide) rfl (Or.inl q255) (fun _ h => h) dX0_choose_9 (js_getfR hX (ci := 1) (k := 0) (RX1, TX1, 7) rfl (by decide) rfl (Or.inr ⟨_, q212⟩) (fun _ h => h) dX0_choose_12 (js_const hX (z := 0) (by unfold inI; omega) dX0_choose_15 (Or.inl ⟨0, rfl, rfl, rfl⟩) (js_iald hX dX0_choose_16 (js_ishl hX dX0_choose_17 (js_const hX (z := 1) (by unfold inI; omega) dX0_choose_18 (Or.inl ⟨1, rfl, rfl, rfl⟩) (js_isub hX dX0_choose_19 (js_callS hX MX0_in (n := 3) (lw_S q325 q326 q152 q327) npX0_in dX0_choose_20 (js_if_eq hX (tgt := 34) dX0_choose_23 rfl (hK 1)
    (js_iload_n hX dX0_choose_26 rfl (js_callS hX MJ14_bitCount (n := 1) (lw_S q1178 q1179 q178 q1180) npJ14_bitCount dX0_choose_27 (js_iload_n hX dX0_choose_30 rfl (js_icmp_le hX (tgt := 36) dX0_choose_31 rfl (js_const hX (z := 0) (by unfold inI; omega) dX0_choose_36 (Or.inl ⟨0, rfl, rfl, rfl⟩) (js_istore_n hX dX0_choose_37 rfl (by decide) (hK 2)))
    (hK 1)))))))))))))))))))))
  | 1 => exact (js_const hX (z := 0) (by unfold inI; omega) dX0_choose_34 (Or.inl ⟨0, rfl, rfl, rfl⟩) (js_zreturn hX hr hlk dX0_choose_35))
  | 2 => exact (js_iload_n hX dX0_choose_38 rfl (js_aload_n hX dX0_choose_39 rfl (js_getfR hX (ci := 0) (k := 0) (RX0, TX0, 20) rfl (by decide) rfl (Or.inl q255) (fun _ h => h) dX0_choose_40 (js_getfR hX (ci := 1) (k := 0) (RX1, TX1, 7) rfl (by decide) rfl (Or.inr ⟨_, q212⟩) (fun _ h => h) dX0_choose_43 (js_const hX (z := 0) (by unfold inI; omega) dX0_choose_46 (Or.inl ⟨0, rfl, rfl, rfl⟩) (js_iald hX dX0_choose_47 (js_icmp_ge hX (tgt := 88) dX0_choose_48 rfl (js_const hX (z := 1) (by unfold inI; omega) dX0_choose_88 (Or.inl ⟨1, rfl, rfl, rfl⟩) (js_zreturn hX hr hlk dX0_choose_89))
    (js_iload_n hX dX0_choose_51 rfl (js_iload_n hX dX0_choose_52 rfl (js_ishr hX dX0_choose_53 (js_const hX (z := 1) (by unfold inI; omega) dX0_choose_54 (Or.inl ⟨1, rfl, rfl, rfl⟩) (js_iand hX dX0_choose_55 (js_if_ne hX (tgt := 62) dX0_choose_56 rfl (js_aload_n hX dX0_choose_62 rfl (js_getfR hX (ci := 0) (k := 11) (RX0, TX0, 20) rfl (by decide) rfl (Or.inl q266) (fun _ h => h) dX0_choose_63 (js_aload_n hX dX0_choose_66 rfl (js_getfI hX (ci := 0) (k := 13) (RX0, TX0, 20) rfl (by decide) rfl (Or.inl q268) (fun _ h => h) dX0_choose_67 (js_iload_n hX dX0_choose_70 rfl (js_iast hX dX0_choose_71 (js_aload_n hX dX0_choose_72 rfl (js_dup hX dX0_choose_73 (js_getfI hX (ci := 0) (k := 13) (RX0, TX0, 20) rfl (by decide) rfl (Or.inl q268) (fun _ h => h) dX0_choose_74 (js_const hX (z := 1) (by unfold inI; omega) dX0_choose_77 (Or.inl ⟨1, rfl, rfl, rfl⟩) (js_iadd hX dX0_choose_78 (js_putfI hX (ci := 0) (k := 13) (RX0, TX0, 20) rfl (by decide) rfl (Or.inl q268) (fun _ h => h) (Or.inl rfl) dX0_choose_79 (hK 3)))))))))))))
    (js_goto hX (tgt := 82) dX0_choose_59 rfl (hK 3)))))))))))))))
  | 3 => exact (js_iinc hX dX0_choose_82 (by decide) (js_goto hX (tgt := 38) dX0_choose_85 rfl (hK 2)))
  | k + 4 => intro ls st h nc ns hf; exact hf.elim
def bX0_calmNumber : jjB := fun e K k => match k with
  | 0 => (ji_aload 0 (ji_const 0 (ji_putfI 0 14 (ji_const 0 (ji_istore 2 (K 1))))))
  | 1 => (ji_iload 2 (ji_aload 0 (ji_getfI 0 13 (ji_callS e MX0_rows 1 (ji_icmp_ge (ji_const (-1) (ji_ireturn e))
    (ji_aload 0 (ji_iload 2 (ji_callV e MX0_laysOrder 0 2 (ji_aload 0 (ji_aload 0 (ji_getfR 0 12 (ji_aload 0 (ji_getfI 0 13 (ji_callV e MX0_isCalm 0 3 (ji_if_ne (ji_aload 0 (ji_getfI 0 14 (ji_iload 1 (ji_icmp_ne (ji_aload 0 (ji_dup (ji_getfI 0 14 (ji_const 1 (ji_iadd (ji_putfI 0 14 (K 2)))))))
    (ji_iload 2 (ji_ireturn e))))))
    (ji_goto (K 2)))))))))))))))))
  | 2 => (ji_iinc 2 1 (ji_goto (K 1)))
  | _ => fun _ _ _ _ _ => False
def pX0_calmNumber : Nat → Nat := fun k => match k with
  | 0 => 0
  | 1 => 7
  | 2 => 61
  | _ => 0
theorem sX0_calmNumber : jSound bX0_calmNumber pX0_calmNumber MX0_calmNumber := by
  intro e p ev R s m args below meth c hX hr hn hlk K hK k
  match k with
  | 0 => exact (js_aload_n hX dX0_calmNumber_0 rfl (js_const hX (z := 0) (by unfold inI; omega) dX0_calmNumber_1 (Or.inl ⟨0, rfl, rfl, rfl⟩) (js_putfI hX (ci := 0) (k := 14) (RX0, TX0, 20) rfl (by decide) rfl (Or.inl q269) (fun _ h => h) (Or.inl rfl) dX0_calmNumber_2 (js_const hX (z := 0) (by unfold inI; omega) dX0_calmNumber_5 (Or.inl ⟨0, rfl, rfl, rfl⟩) (js_istore_n hX dX0_calmNumber_6 rfl (by decide) (hK 1))))))
  | 1 => exact (js_iload_n hX dX0_calmNumber_7 rfl (js_aload_n hX dX0_calmNumber_8 rfl (js_getfI hX (ci := 0) (k := 13) (RX0, TX0, 20) rfl (by decide) rfl (Or.inl q268) (fun _ h => h) dX0_calmNumber_9 (js_callS hX MX0_rows (n := 1) (lw_S q1188 q1189 q152 q1190) npX0_rows dX0_calmNumber_12 (js_icmp_ge hX (tgt := 67) dX0_calmNumber_15 rfl (js_const hX (z := (-1)) (by unfold inI; omega) dX0_calmNumber_67 (Or.inl ⟨(-1), rfl, rfl, rfl⟩) (js_ireturn hX hr hlk dX0_calmNumber_68))
    (js_aload_n hX dX0_calmNumber_18 rfl (js_iload_n hX dX0_calmNumber_19 rfl (js_callV hX MX0_laysOrder (ci := 0) (n := 1) (RX0, TX0, 20) rfl rfl (lw_V q1191 q1193 qs47 q152 q1194) npX0_laysOrder dX0_calmNumber_20 (js_aload_n hX dX0_calmNumber_23 rfl (js_aload_n hX dX0_calmNumber_24 rfl (js_getfR hX (ci := 0) (k := 12) (RX0, TX0, 20) rfl (by decide) rfl (Or.inl q267) (fun _ h => h) dX0_calmNumber_25 (js_aload_n hX dX0_calmNumber_28 rfl (js_getfI hX (ci := 0) (k := 13) (RX0, TX0, 20) rfl (by decide) rfl (Or.inl q268) (fun _ h => h) dX0_calmNumber_29 (js_callV hX MX0_isCalm (ci := 0) (n := 2) (RX0, TX0, 20) rfl rfl (lw_V q1156 q1158 qs43 q152 q1159) npX0_isCalm dX0_calmNumber_32 (js_if_ne hX (tgt := 41) dX0_calmNumber_35 rfl (js_aload_n hX dX0_calmNumber_41 rfl (js_getfI hX (ci := 0) (k := 14) (RX0, TX0, 20) rfl (by decide) rfl (Or.inl q269) (fun _ h => h) dX0_calmNumber_42 (js_iload_n hX dX0_calmNumber_45 rfl (js_icmp_ne hX (tgt := 51) dX0_calmNumber_46 rfl (js_aload_n hX dX0_calmNumber_51 rfl (js_dup hX dX0_calmNumber_52 (js_getfI hX (ci := 0) (k := 14) (RX0, TX0, 20) rfl (by decide) rfl (Or.inl q269) (fun _ h => h) dX0_calmNumber_53 (js_const hX (z := 1) (by unfold inI; omega) dX0_calmNumber_56 (Or.inl ⟨1, rfl, rfl, rfl⟩) (js_iadd hX dX0_calmNumber_57 (js_putfI hX (ci := 0) (k := 14) (RX0, TX0, 20) rfl (by decide) rfl (Or.inl q269) (fun _ h => h) (Or.inl rfl) dX0_calmNumber_58 (hK 2)))))))
    (js_iload_n hX dX0_calmNumber_49 rfl (js_ireturn hX hr hlk dX0_calmNumber_50))))))
    (js_goto hX (tgt := 61) dX0_calmNumber_38 rfl (hK 2)))))))))))))))))
  | 2 => exact (js_iinc hX dX0_calmNumber_61 (by decide) (js_goto hX (tgt := 7) dX0_calmNumber_64 rfl (hK 1)))
  | k + 3 => intro ls st h nc ns hf; exact hf.elim
def bX0_rows : jjB := fun e K k => match k with
  | 0 => (ji_iload 0 (ji_const 2 (ji_icmp_ge (ji_iload 0 (ji_iload 0 (ji_const 1 (ji_isub (ji_callS e MX0_rows 1 (ji_imul (K 1)))))))
    (ji_const 1 (ji_goto (K 1))))))
  | 1 => (ji_ireturn e)
  | _ => fun _ _ _ _ _ => False
def pX0_rows : Nat → Nat := fun k => match k with
  | 0 => 0
  | 1 => 17
  | _ => 0
theorem sX0_rows : jSound bX0_rows pX0_rows MX0_rows := by
  intro e p ev R s m args below meth c hX hr hn hlk K hK k
  match k with
  | 0 => exact (js_iload_n hX dX0_rows_0 rfl (js_const hX (z := 2) (by unfold inI; omega) dX0_rows_1 (Or.inl ⟨2, rfl, rfl, rfl⟩) (js_icmp_ge hX (tgt := 9) dX0_rows_2 rfl (js_iload_n hX dX0_rows_9 rfl (js_iload_n hX dX0_rows_10 rfl (js_const hX (z := 1) (by unfold inI; omega) dX0_rows_11 (Or.inl ⟨1, rfl, rfl, rfl⟩) (js_isub hX dX0_rows_12 (js_callS hX MX0_rows (n := 1) (lw_S q1188 q1189 q152 q1190) npX0_rows dX0_rows_13 (js_imul hX dX0_rows_16 (hK 1)))))))
    (js_const hX (z := 1) (by unfold inI; omega) dX0_rows_5 (Or.inl ⟨1, rfl, rfl, rfl⟩) (js_goto hX (tgt := 17) dX0_rows_6 rfl (hK 1))))))
  | 1 => exact (js_ireturn hX hr hlk dX0_rows_17)
  | k + 2 => intro ls st h nc ns hf; exact hf.elim
def bX0_laysOrder : jjB := fun e K k => match k with
  | 0 => (ji_iload 1 (ji_istore 2 (ji_const 0 (ji_istore 3 (ji_const 0 (ji_istore 4 (K 1)))))))
  | 1 => (ji_iload 4 (ji_aload 0 (ji_getfI 0 13 (ji_icmp_ge (ji_return e)
    (ji_iload 2 (ji_aload 0 (ji_getfI 0 13 (ji_const 1 (ji_isub (ji_iload 4 (ji_isub (ji_callS e MX0_rows 1 (ji_idiv (ji_istore 5 (ji_iload 2 (ji_aload 0 (ji_getfI 0 13 (ji_const 1 (ji_isub (ji_iload 4 (ji_isub (ji_callS e MX0_rows 1 (ji_irem (ji_istore 2 (ji_const 0 (ji_istore 6 (K 2)))))))))))))))))))))))))))
  | 2 => (ji_iload 3 (ji_iload 6 (ji_ishr (ji_const 1 (ji_iand (ji_const 1 (ji_icmp_eq (K 3)
    (ji_iload 5 (ji_if_le (ji_iload 3 (ji_const 1 (ji_iload 6 (ji_ishl (ji_ior (ji_istore 3 (ji_aload 0 (ji_getfR 0 12 (ji_iload 4 (ji_aload 0 (ji_getfR 0 11 (ji_iload 6 (ji_iald (ji_iast (ji_iinc 4 1 (ji_goto (K 1)))))))))))))))))
    (K 3))))))))))
  | 3 => (ji_iload 5 (ji_const 1 (ji_iload 3 (ji_iload 6 (ji_ishr (ji_const 1 (ji_iand (ji_isub (ji_isub (ji_istore 5 (ji_iinc 6 1 (ji_goto (K 2)))))))))))))
  | _ => fun _ _ _ _ _ => False
def pX0_laysOrder : Nat → Nat := fun k => match k with
  | 0 => 0
  | 1 => 7
  | 2 => 50
  | 3 => 65
  | _ => 0
theorem sX0_laysOrder : jSound bX0_laysOrder pX0_laysOrder MX0_laysOrder := by
  intro e p ev R s m args below meth c hX hr hn hlk K hK k
  match k with
  | 0 => exact (js_iload_n hX dX0_laysOrder_0 rfl (js_istore_n hX dX0_laysOrder_1 rfl (by decide) (js_const hX (z := 0) (by unfold inI; omega) dX0_laysOrder_2 (Or.inl ⟨0, rfl, rfl, rfl⟩) (js_istore_n hX dX0_laysOrder_3 rfl (by decide) (js_const hX (z := 0) (by unfold inI; omega) dX0_laysOrder_4 (Or.inl ⟨0, rfl, rfl, rfl⟩) (js_istore hX dX0_laysOrder_5 (by decide) (hK 1)))))))
  | 1 => exact (js_iload hX dX0_laysOrder_7 (js_aload_n hX dX0_laysOrder_9 rfl (js_getfI hX (ci := 0) (k := 13) (RX0, TX0, 20) rfl (by decide) rfl (Or.inl q268) (fun _ h => h) dX0_laysOrder_10 (js_icmp_ge hX (tgt := 111) dX0_laysOrder_13 rfl (js_return hX hr hlk dX0_laysOrder_111)
    (js_iload_n hX dX0_laysOrder_16 rfl (js_aload_n hX dX0_laysOrder_17 rfl (js_getfI hX (ci := 0) (k := 13) (RX0, TX0, 20) rfl (by decide) rfl (Or.inl q268) (fun _ h => h) dX0_laysOrder_18 (js_const hX (z := 1) (by unfold inI; omega) dX0_laysOrder_21 (Or.inl ⟨1, rfl, rfl, rfl⟩) (js_isub hX dX0_laysOrder_22 (js_iload hX dX0_laysOrder_23 (js_isub hX dX0_laysOrder_25 (js_callS hX MX0_rows (n := 1) (lw_S q1188 q1189 q152 q1190) npX0_rows dX0_laysOrder_26 (js_idiv hX dX0_laysOrder_29 (js_istore hX dX0_laysOrder_30 (by decide) (js_iload_n hX dX0_laysOrder_32 rfl (js_aload_n hX dX0_laysOrder_33 rfl (js_getfI hX (ci := 0) (k := 13) (RX0, TX0, 20) rfl (by decide) rfl (Or.inl q268) (fun _ h => h) dX0_laysOrder_34 (js_const hX (z := 1) (by unfold inI; omega) dX0_laysOrder_37 (Or.inl ⟨1, rfl, rfl, rfl⟩) (js_isub hX dX0_laysOrder_38 (js_iload hX dX0_laysOrder_39 (js_isub hX dX0_laysOrder_41 (js_callS hX MX0_rows (n := 1) (lw_S q1188 q1189 q152 q1190) npX0_rows dX0_laysOrder_42 (js_irem hX dX0_laysOrder_45 (js_istore_n hX dX0_laysOrder_46 rfl (by decide) (js_const hX (z := 0) (by unfold inI; omega) dX0_laysOrder_47 (Or.inl ⟨0, rfl, rfl, rfl⟩) (js_istore hX dX0_laysOrder_48 (by decide) (hK 2)))))))))))))))))))))))))))
  | 2 => exact (js_iload_n hX dX0_laysOrder_50 rfl (js_iload hX dX0_laysOrder_51 (js_ishr hX dX0_laysOrder_53 (js_const hX (z := 1) (by unfold inI; omega) dX0_laysOrder_54 (Or.inl ⟨1, rfl, rfl, rfl⟩) (js_iand hX dX0_laysOrder_55 (js_const hX (z := 1) (by unfold inI; omega) dX0_laysOrder_56 (Or.inl ⟨1, rfl, rfl, rfl⟩) (js_icmp_eq hX (tgt := 65) dX0_laysOrder_57 rfl (hK 3)
    (js_iload hX dX0_laysOrder_60 (js_if_le hX (tgt := 84) dX0_laysOrder_62 rfl (js_iload_n hX dX0_laysOrder_84 rfl (js_const hX (z := 1) (by unfold inI; omega) dX0_laysOrder_85 (Or.inl ⟨1, rfl, rfl, rfl⟩) (js_iload hX dX0_laysOrder_86 (js_ishl hX dX0_laysOrder_88 (js_ior hX dX0_laysOrder_89 (js_istore_n hX dX0_laysOrder_90 rfl (by decide) (js_aload_n hX dX0_laysOrder_91 rfl (js_getfR hX (ci := 0) (k := 12) (RX0, TX0, 20) rfl (by decide) rfl (Or.inl q267) (fun _ h => h) dX0_laysOrder_92 (js_iload hX dX0_laysOrder_95 (js_aload_n hX dX0_laysOrder_97 rfl (js_getfR hX (ci := 0) (k := 11) (RX0, TX0, 20) rfl (by decide) rfl (Or.inl q266) (fun _ h => h) dX0_laysOrder_98 (js_iload hX dX0_laysOrder_101 (js_iald hX dX0_laysOrder_103 (js_iast hX dX0_laysOrder_104 (js_iinc hX dX0_laysOrder_105 (by decide) (js_goto hX (tgt := 7) dX0_laysOrder_108 rfl (hK 1)))))))))))))))))
    (hK 3))))))))))
  | 3 => exact (js_iload hX dX0_laysOrder_65 (js_const hX (z := 1) (by unfold inI; omega) dX0_laysOrder_67 (Or.inl ⟨1, rfl, rfl, rfl⟩) (js_iload_n hX dX0_laysOrder_68 rfl (js_iload hX dX0_laysOrder_69 (js_ishr hX dX0_laysOrder_71 (js_const hX (z := 1) (by unfold inI; omega) dX0_laysOrder_72 (Or.inl ⟨1, rfl, rfl, rfl⟩) (js_iand hX dX0_laysOrder_73 (js_isub hX dX0_laysOrder_74 (js_isub hX dX0_laysOrder_75 (js_istore hX dX0_laysOrder_76 (by decide) (js_iinc hX dX0_laysOrder_78 (by decide) (js_goto hX (tgt := 50) dX0_laysOrder_81 rfl (hK 2)))))))))))))
  | k + 4 => intro ls st h nc ns hf; exact hf.elim
def bX0_basin : jjB := fun e K k => match k with
  | 0 => (ji_iload 2 (ji_if_lt (K 1)
    (ji_aload 0 (ji_iload 1 (ji_const 6 (ji_callV e MX0_choose 0 3 (ji_if_ne (ji_aload 0 (ji_callV e MX0_laysChange 0 1 (ji_aload 0 (ji_iload 2 (ji_callV e MX0_calmNumber 0 2 (ji_istore 3 (ji_iload 3 (ji_const (-1) (ji_icmp_ne (ji_aload 0 (ji_iload 3 (ji_callV e MX0_leadTo 0 2 (K 2))))
    (ji_const (-1) (ji_goto (K 2))))))))))))
    (K 1))))))))
  | 1 => (ji_const (-1) (ji_ireturn e))
  | 2 => (ji_ireturn e)
  | _ => fun _ _ _ _ _ => False
def pX0_basin : Nat → Nat := fun k => match k with
  | 0 => 0
  | 1 => 14
  | 2 => 40
  | _ => 0
theorem sX0_basin : jSound bX0_basin pX0_basin MX0_basin := by
  intro e p ev R s m args below meth c hX hr hn hlk K hK k
  match k with
  | 0 => exact (js_iload_n hX dX0_basin_0 rfl (js_if_lt hX (tgt := 14) dX0_basin_1 rfl (hK 1)
    (js_aload_n hX dX0_basin_4 rfl (js_iload_n hX dX0_basin_5 rfl (js_const hX (z := 6) (by unfold inI; omega) dX0_basin_6 (Or.inr (Or.inl ⟨6, rfl, rfl, rfl⟩)) (js_callV hX MX0_choose (ci := 0) (n := 2) (RX0, TX0, 20) rfl rfl (lw_V q1174 q1176 qs45 q152 q1177) npX0_choose dX0_basin_8 (js_if_ne hX (tgt := 16) dX0_basin_11 rfl (js_aload_n hX dX0_basin_16 rfl (js_callV hX MX0_laysChange (ci := 0) (n := 0) (RX0, TX0, 20) rfl rfl (lw_V q1006 q1008 qs30 q152 q1009) npX0_laysChange dX0_basin_17 (js_aload_n hX dX0_basin_20 rfl (js_iload_n hX dX0_basin_21 rfl (js_callV hX MX0_calmNumber (ci := 0) (n := 1) (RX0, TX0, 20) rfl rfl (lw_V q1184 q1186 qs46 q152 q1187) npX0_calmNumber dX0_basin_22 (js_istore_n hX dX0_basin_25 rfl (by decide) (js_iload_n hX dX0_basin_26 rfl (js_const hX (z := (-1)) (by unfold inI; omega) dX0_basin_27 (Or.inl ⟨(-1), rfl, rfl, rfl⟩) (js_icmp_ne hX (tgt := 35) dX0_basin_28 rfl (js_aload_n hX dX0_basin_35 rfl (js_iload_n hX dX0_basin_36 rfl (js_callV hX MX0_leadTo (ci := 0) (n := 1) (RX0, TX0, 20) rfl rfl (lw_V q1199 q1201 qs48 q152 q1202) npX0_leadTo dX0_basin_37 (hK 2))))
    (js_const hX (z := (-1)) (by unfold inI; omega) dX0_basin_31 (Or.inl ⟨(-1), rfl, rfl, rfl⟩) (js_goto hX (tgt := 40) dX0_basin_32 rfl (hK 2))))))))))))
    (hK 1))))))))
  | 1 => exact (js_const hX (z := (-1)) (by unfold inI; omega) dX0_basin_14 (Or.inl ⟨(-1), rfl, rfl, rfl⟩) (js_ireturn hX hr hlk dX0_basin_15))
  | 2 => exact (js_ireturn hX hr hlk dX0_basin_40)
  | k + 3 => intro ls st h nc ns hf; exact hf.elim
def bX0_leadTo : jjB := fun e K k => match k with
  | 0 => (ji_const 0 (ji_istore 2 (ji_const 0 (ji_istore 3 (K 1)))))
  | 1 => (ji_iload 3 (ji_aload 0 (ji_getfI 0 13 (ji_callS e MX0_rows 1 (ji_icmp_ge (ji_iload 2 (ji_ireturn e))
    (ji_aload 0 (ji_iload 3 (ji_callV e MX0_laysOrder 0 2 (ji_iload 2 (ji_aload 0 (ji_callV e MX0_endOf 0 1 (ji_iload 1 (ji_icmp_ne (ji_const 0 (K 2))
    (ji_const 1 (ji_goto (K 2))))))))))))))))
  | 2 => (ji_iadd (ji_istore 2 (ji_iinc 3 1 (ji_goto (K 1)))))
  | _ => fun _ _ _ _ _ => False
def pX0_leadTo : Nat → Nat := fun k => match k with
  | 0 => 0
  | 1 => 4
  | 2 => 34
  | _ => 0
theorem sX0_leadTo : jSound bX0_leadTo pX0_leadTo MX0_leadTo := by
  intro e p ev R s m args below meth c hX hr hn hlk K hK k
  match k with
  | 0 => exact (js_const hX (z := 0) (by unfold inI; omega) dX0_leadTo_0 (Or.inl ⟨0, rfl, rfl, rfl⟩) (js_istore_n hX dX0_leadTo_1 rfl (by decide) (js_const hX (z := 0) (by unfold inI; omega) dX0_leadTo_2 (Or.inl ⟨0, rfl, rfl, rfl⟩) (js_istore_n hX dX0_leadTo_3 rfl (by decide) (hK 1)))))
  | 1 => exact (js_iload_n hX dX0_leadTo_4 rfl (js_aload_n hX dX0_leadTo_5 rfl (js_getfI hX (ci := 0) (k := 13) (RX0, TX0, 20) rfl (by decide) rfl (Or.inl q268) (fun _ h => h) dX0_leadTo_6 (js_callS hX MX0_rows (n := 1) (lw_S q1188 q1189 q152 q1190) npX0_rows dX0_leadTo_9 (js_icmp_ge hX (tgt := 42) dX0_leadTo_12 rfl (js_iload_n hX dX0_leadTo_42 rfl (js_ireturn hX hr hlk dX0_leadTo_43))
    (js_aload_n hX dX0_leadTo_15 rfl (js_iload_n hX dX0_leadTo_16 rfl (js_callV hX MX0_laysOrder (ci := 0) (n := 1) (RX0, TX0, 20) rfl rfl (lw_V q1191 q1193 qs47 q152 q1194) npX0_laysOrder dX0_leadTo_17 (js_iload_n hX dX0_leadTo_20 rfl (js_aload_n hX dX0_leadTo_21 rfl (js_callV hX MX0_endOf (ci := 0) (n := 0) (RX0, TX0, 20) rfl rfl (lw_V q1203 q1205 qs49 q152 q1206) npX0_endOf dX0_leadTo_22 (js_iload_n hX dX0_leadTo_25 rfl (js_icmp_ne hX (tgt := 33) dX0_leadTo_26 rfl (js_const hX (z := 0) (by unfold inI; omega) dX0_leadTo_33 (Or.inl ⟨0, rfl, rfl, rfl⟩) (hK 2))
    (js_const hX (z := 1) (by unfold inI; omega) dX0_leadTo_29 (Or.inl ⟨1, rfl, rfl, rfl⟩) (js_goto hX (tgt := 34) dX0_leadTo_30 rfl (hK 2))))))))))))))))
  | 2 => exact (js_iadd hX dX0_leadTo_34 (js_istore_n hX dX0_leadTo_35 rfl (by decide) (js_iinc hX dX0_leadTo_36 (by decide) (js_goto hX (tgt := 4) dX0_leadTo_39 rfl (hK 1)))))
  | k + 3 => intro ls st h nc ns hf; exact hf.elim
def bX0_endOf : jjB := fun e K k => match k with
  | 0 => (ji_const 2 (ji_aload 0 (ji_getfI 0 13 (ji_callS e MX0_rows 1 (ji_imul (ji_istore 1 (ji_const 0 (ji_istore 2 (K 1)))))))))
  | 1 => (ji_iload 2 (ji_iload 1 (ji_icmp_gt (ji_const (-1) (ji_ireturn e))
    (ji_aload 0 (ji_aload 0 (ji_getfR 0 12 (ji_aload 0 (ji_getfI 0 13 (ji_callV e MX0_isCalm 0 3 (ji_if_eq (ji_aload 0 (ji_aload 0 (ji_getfR 0 12 (ji_const 0 (ji_aload 0 (ji_getfI 0 13 (ji_iload 2 (ji_const 2 (ji_irem (ji_callV e MX0_nightOn 0 5 (ji_istore 3 (ji_iinc 2 1 (ji_goto (K 1))))))))))))))
    (ji_aload 0 (ji_callV e MX0_numberOf 0 1 (ji_ireturn e)))))))))))))
  | _ => fun _ _ _ _ _ => False
def pX0_endOf : Nat → Nat := fun k => match k with
  | 0 => 0
  | 1 => 12
  | _ => 0
theorem sX0_endOf : jSound bX0_endOf pX0_endOf MX0_endOf := by
  intro e p ev R s m args below meth c hX hr hn hlk K hK k
  match k with
  | 0 => exact (js_const hX (z := 2) (by unfold inI; omega) dX0_endOf_0 (Or.inl ⟨2, rfl, rfl, rfl⟩) (js_aload_n hX dX0_endOf_1 rfl (js_getfI hX (ci := 0) (k := 13) (RX0, TX0, 20) rfl (by decide) rfl (Or.inl q268) (fun _ h => h) dX0_endOf_2 (js_callS hX MX0_rows (n := 1) (lw_S q1188 q1189 q152 q1190) npX0_rows dX0_endOf_5 (js_imul hX dX0_endOf_8 (js_istore_n hX dX0_endOf_9 rfl (by decide) (js_const hX (z := 0) (by unfold inI; omega) dX0_endOf_10 (Or.inl ⟨0, rfl, rfl, rfl⟩) (js_istore_n hX dX0_endOf_11 rfl (by decide) (hK 1)))))))))
  | 1 => exact (js_iload_n hX dX0_endOf_12 rfl (js_iload_n hX dX0_endOf_13 rfl (js_icmp_gt hX (tgt := 60) dX0_endOf_14 rfl (js_const hX (z := (-1)) (by unfold inI; omega) dX0_endOf_60 (Or.inl ⟨(-1), rfl, rfl, rfl⟩) (js_ireturn hX hr hlk dX0_endOf_61))
    (js_aload_n hX dX0_endOf_17 rfl (js_aload_n hX dX0_endOf_18 rfl (js_getfR hX (ci := 0) (k := 12) (RX0, TX0, 20) rfl (by decide) rfl (Or.inl q267) (fun _ h => h) dX0_endOf_19 (js_aload_n hX dX0_endOf_22 rfl (js_getfI hX (ci := 0) (k := 13) (RX0, TX0, 20) rfl (by decide) rfl (Or.inl q268) (fun _ h => h) dX0_endOf_23 (js_callV hX MX0_isCalm (ci := 0) (n := 2) (RX0, TX0, 20) rfl rfl (lw_V q1156 q1158 qs43 q152 q1159) npX0_isCalm dX0_endOf_26 (js_if_eq hX (tgt := 37) dX0_endOf_29 rfl (js_aload_n hX dX0_endOf_37 rfl (js_aload_n hX dX0_endOf_38 rfl (js_getfR hX (ci := 0) (k := 12) (RX0, TX0, 20) rfl (by decide) rfl (Or.inl q267) (fun _ h => h) dX0_endOf_39 (js_const hX (z := 0) (by unfold inI; omega) dX0_endOf_42 (Or.inl ⟨0, rfl, rfl, rfl⟩) (js_aload_n hX dX0_endOf_43 rfl (js_getfI hX (ci := 0) (k := 13) (RX0, TX0, 20) rfl (by decide) rfl (Or.inl q268) (fun _ h => h) dX0_endOf_44 (js_iload_n hX dX0_endOf_47 rfl (js_const hX (z := 2) (by unfold inI; omega) dX0_endOf_48 (Or.inl ⟨2, rfl, rfl, rfl⟩) (js_irem hX dX0_endOf_49 (js_callV hX MX0_nightOn (ci := 0) (n := 4) (RX0, TX0, 20) rfl rfl (lw_V q1030 q1032 qs34 q152 q1033) npX0_nightOn dX0_endOf_50 (js_istore_n hX dX0_endOf_53 rfl (by decide) (js_iinc hX dX0_endOf_54 (by decide) (js_goto hX (tgt := 12) dX0_endOf_57 rfl (hK 1))))))))))))))
    (js_aload_n hX dX0_endOf_32 rfl (js_callV hX MX0_numberOf (ci := 0) (n := 0) (RX0, TX0, 20) rfl rfl (lw_V q1207 q1209 qs50 q152 q1210) npX0_numberOf dX0_endOf_33 (js_ireturn hX hr hlk dX0_endOf_36)))))))))))))
  | k + 2 => intro ls st h nc ns hf; exact hf.elim
def bX0_numberOf : jjB := fun e K k => match k with
  | 0 => (ji_const 0 (ji_istore 1 (ji_const 0 (ji_istore 2 (K 1)))))
  | 1 => (ji_iload 2 (ji_aload 0 (ji_getfI 0 13 (ji_icmp_ge (ji_iload 1 (ji_ireturn e))
    (ji_const 0 (ji_istore 3 (ji_iload 2 (ji_const 1 (ji_iadd (ji_istore 4 (K 2)))))))))))
  | 2 => (ji_iload 4 (ji_aload 0 (ji_getfI 0 13 (ji_icmp_ge (ji_iload 1 (ji_aload 0 (ji_getfI 0 13 (ji_iload 2 (ji_isub (ji_imul (ji_iload 3 (ji_iadd (ji_istore 1 (ji_iinc 2 1 (ji_goto (K 1))))))))))))
    (ji_iload 3 (ji_aload 0 (ji_getfR 0 12 (ji_iload 4 (ji_iald (ji_aload 0 (ji_getfR 0 12 (ji_iload 2 (ji_iald (ji_icmp_ge (ji_const 0 (K 3))
    (ji_const 1 (ji_goto (K 3)))))))))))))))))
  | 3 => (ji_iadd (ji_istore 3 (ji_iinc 4 1 (ji_goto (K 2)))))
  | _ => fun _ _ _ _ _ => False
def pX0_numberOf : Nat → Nat := fun k => match k with
  | 0 => 0
  | 1 => 4
  | 2 => 19
  | 3 => 50
  | _ => 0
theorem sX0_numberOf : jSound bX0_numberOf pX0_numberOf MX0_numberOf := by
  intro e p ev R s m args below meth c hX hr hn hlk K hK k
  match k with
  | 0 => exact (js_const hX (z := 0) (by unfold inI; omega) dX0_numberOf_0 (Or.inl ⟨0, rfl, rfl, rfl⟩) (js_istore_n hX dX0_numberOf_1 rfl (by decide) (js_const hX (z := 0) (by unfold inI; omega) dX0_numberOf_2 (Or.inl ⟨0, rfl, rfl, rfl⟩) (js_istore_n hX dX0_numberOf_3 rfl (by decide) (hK 1)))))
  | 1 => exact (js_iload_n hX dX0_numberOf_4 rfl (js_aload_n hX dX0_numberOf_5 rfl (js_getfI hX (ci := 0) (k := 13) (RX0, TX0, 20) rfl (by decide) rfl (Or.inl q268) (fun _ h => h) dX0_numberOf_6 (js_icmp_ge hX (tgt := 75) dX0_numberOf_9 rfl (js_iload_n hX dX0_numberOf_75 rfl (js_ireturn hX hr hlk dX0_numberOf_76))
    (js_const hX (z := 0) (by unfold inI; omega) dX0_numberOf_12 (Or.inl ⟨0, rfl, rfl, rfl⟩) (js_istore_n hX dX0_numberOf_13 rfl (by decide) (js_iload_n hX dX0_numberOf_14 rfl (js_const hX (z := 1) (by unfold inI; omega) dX0_numberOf_15 (Or.inl ⟨1, rfl, rfl, rfl⟩) (js_iadd hX dX0_numberOf_16 (js_istore hX dX0_numberOf_17 (by decide) (hK 2)))))))))))
  | 2 => exact (js_iload hX dX0_numberOf_19 (js_aload_n hX dX0_numberOf_21 rfl (js_getfI hX (ci := 0) (k := 13) (RX0, TX0, 20) rfl (by decide) rfl (Or.inl q268) (fun _ h => h) dX0_numberOf_22 (js_icmp_ge hX (tgt := 58) dX0_numberOf_25 rfl (js_iload_n hX dX0_numberOf_58 rfl (js_aload_n hX dX0_numberOf_59 rfl (js_getfI hX (ci := 0) (k := 13) (RX0, TX0, 20) rfl (by decide) rfl (Or.inl q268) (fun _ h => h) dX0_numberOf_60 (js_iload_n hX dX0_numberOf_63 rfl (js_isub hX dX0_numberOf_64 (js_imul hX dX0_numberOf_65 (js_iload_n hX dX0_numberOf_66 rfl (js_iadd hX dX0_numberOf_67 (js_istore_n hX dX0_numberOf_68 rfl (by decide) (js_iinc hX dX0_numberOf_69 (by decide) (js_goto hX (tgt := 4) dX0_numberOf_72 rfl (hK 1))))))))))))
    (js_iload_n hX dX0_numberOf_28 rfl (js_aload_n hX dX0_numberOf_29 rfl (js_getfR hX (ci := 0) (k := 12) (RX0, TX0, 20) rfl (by decide) rfl (Or.inl q267) (fun _ h => h) dX0_numberOf_30 (js_iload hX dX0_numberOf_33 (js_iald hX dX0_numberOf_35 (js_aload_n hX dX0_numberOf_36 rfl (js_getfR hX (ci := 0) (k := 12) (RX0, TX0, 20) rfl (by decide) rfl (Or.inl q267) (fun _ h => h) dX0_numberOf_37 (js_iload_n hX dX0_numberOf_40 rfl (js_iald hX dX0_numberOf_41 (js_icmp_ge hX (tgt := 49) dX0_numberOf_42 rfl (js_const hX (z := 0) (by unfold inI; omega) dX0_numberOf_49 (Or.inl ⟨0, rfl, rfl, rfl⟩) (hK 3))
    (js_const hX (z := 1) (by unfold inI; omega) dX0_numberOf_45 (Or.inl ⟨1, rfl, rfl, rfl⟩) (js_goto hX (tgt := 50) dX0_numberOf_46 rfl (hK 3)))))))))))))))))
  | 3 => exact (js_iadd hX dX0_numberOf_50 (js_istore_n hX dX0_numberOf_51 rfl (by decide) (js_iinc hX dX0_numberOf_52 (by decide) (js_goto hX (tgt := 19) dX0_numberOf_55 rfl (hK 2)))))
  | k + 4 => intro ls st h nc ns hf; exact hf.elim
def bX0_never : jjB := fun e K k => match k with
  | 0 => (ji_aload 0 (ji_iload 1 (ji_const 6 (ji_callV e MX0_choose 0 3 (ji_if_ne (ji_aload 0 (ji_callV e MX0_laysChange 0 1 (ji_aload 0 (ji_const (-1) (ji_callV e MX0_leadTo 0 2 (ji_ireturn e))))))
    (ji_const (-1) (ji_ireturn e)))))))
  | _ => fun _ _ _ _ _ => False
def pX0_never : Nat → Nat := fun k => match k with
  | 0 => 0
  | _ => 0
theorem sX0_never : jSound bX0_never pX0_never MX0_never := by
  intro e p ev R s m args below meth c hX hr hn hlk K hK k
  match k with
  | 0 => exact (js_aload_n hX dX0_never_0 rfl (js_iload_n hX dX0_never_1 rfl (js_const hX (z := 6) (by unfold inI; omega) dX0_never_2 (Or.inr (Or.inl ⟨6, rfl, rfl, rfl⟩)) (js_callV hX MX0_choose (ci := 0) (n := 2) (RX0, TX0, 20) rfl rfl (lw_V q1174 q1176 qs45 q152 q1177) npX0_choose dX0_never_4 (js_if_ne hX (tgt := 12) dX0_never_7 rfl (js_aload_n hX dX0_never_12 rfl (js_callV hX MX0_laysChange (ci := 0) (n := 0) (RX0, TX0, 20) rfl rfl (lw_V q1006 q1008 qs30 q152 q1009) npX0_laysChange dX0_never_13 (js_aload_n hX dX0_never_16 rfl (js_const hX (z := (-1)) (by unfold inI; omega) dX0_never_17 (Or.inl ⟨(-1), rfl, rfl, rfl⟩) (js_callV hX MX0_leadTo (ci := 0) (n := 1) (RX0, TX0, 20) rfl rfl (lw_V q1199 q1201 qs48 q152 q1202) npX0_leadTo dX0_never_18 (js_ireturn hX hr hlk dX0_never_21))))))
    (js_const hX (z := (-1)) (by unfold inI; omega) dX0_never_10 (Or.inl ⟨(-1), rfl, rfl, rfl⟩) (js_ireturn hX hr hlk dX0_never_11)))))))
  | k + 1 => intro ls st h nc ns hf; exact hf.elim
def bX0_trouble : jjB := fun e K k => match k with
  | 0 => (ji_aload 0 (ji_callV e MX0_laysChange 0 1 (ji_const 2 (ji_istore 1 (K 1)))))
  | 1 => (ji_iload 1 (ji_const 6 (ji_icmp_ge (ji_const (-1) (ji_ireturn e))
    (ji_const 1 (ji_istore 2 (K 2))))))
  | 2 => (ji_iload 2 (ji_const 1 (ji_aload 0 (ji_getfR 0 0 (ji_getfR 1 0 (ji_const 0 (ji_iald (ji_ishl (ji_icmp_ge (ji_iinc 1 1 (ji_goto (K 1)))
    (ji_iload 2 (ji_callS e MJ14_bitCount 1 (ji_iload 1 (ji_icmp_ne (K 3)
    (ji_aload 0 (ji_iload 2 (ji_const 6 (ji_callV e MX0_choose 0 3 (ji_if_eq (K 3)
    (ji_aload 0 (ji_callV e MX0_isTrouble 0 1 (ji_if_eq (K 3)
    (ji_iload 2 (ji_ireturn e)))))))))))))))))))))))
  | 3 => (ji_iinc 2 1 (ji_goto (K 2)))
  | _ => fun _ _ _ _ _ => False
def pX0_trouble : Nat → Nat := fun k => match k with
  | 0 => 0
  | 1 => 6
  | 2 => 14
  | 3 => 56
  | _ => 0
theorem sX0_trouble : jSound bX0_trouble pX0_trouble MX0_trouble := by
  intro e p ev R s m args below meth c hX hr hn hlk K hK k
  match k with
  | 0 => exact (js_aload_n hX dX0_trouble_0 rfl (js_callV hX MX0_laysChange (ci := 0) (n := 0) (RX0, TX0, 20) rfl rfl (lw_V q1006 q1008 qs30 q152 q1009) npX0_laysChange dX0_trouble_1 (js_const hX (z := 2) (by unfold inI; omega) dX0_trouble_4 (Or.inl ⟨2, rfl, rfl, rfl⟩) (js_istore_n hX dX0_trouble_5 rfl (by decide) (hK 1)))))
  | 1 => exact (js_iload_n hX dX0_trouble_6 rfl (js_const hX (z := 6) (by unfold inI; omega) dX0_trouble_7 (Or.inr (Or.inl ⟨6, rfl, rfl, rfl⟩)) (js_icmp_ge hX (tgt := 68) dX0_trouble_9 rfl (js_const hX (z := (-1)) (by unfold inI; omega) dX0_trouble_68 (Or.inl ⟨(-1), rfl, rfl, rfl⟩) (js_ireturn hX hr hlk dX0_trouble_69))
    (js_const hX (z := 1) (by unfold inI; omega) dX0_trouble_12 (Or.inl ⟨1, rfl, rfl, rfl⟩) (js_istore_n hX dX0_trouble_13 rfl (by decide) (hK 2))))))
  | 2 => exact (js_iload_n hX dX0_trouble_14 rfl (js_const hX (z := 1) (by unfold inI; omega) dX0_trouble_15 (Or.inl ⟨1, rfl, rfl, rfl⟩) (js_aload_n hX dX0_trouble_16 rfl (js_getfR hX (ci := 0) (k := 0) (RX0, TX0, 20) rfl (by decide) rfl (Or.inl q255) (fun _ h => h) dX0_trouble_17 (js_getfR hX (ci := 1) (k := 0) (RX1, TX1, 7) rfl (by decide) rfl (Or.inr ⟨_, q212⟩) (fun _ h => h) dX0_trouble_20 (js_const hX (z := 0) (by unfold inI; omega) dX0_trouble_23 (Or.inl ⟨0, rfl, rfl, rfl⟩) (js_iald hX dX0_trouble_24 (js_ishl hX dX0_trouble_25 (js_icmp_ge hX (tgt := 62) dX0_trouble_26 rfl (js_iinc hX dX0_trouble_62 (by decide) (js_goto hX (tgt := 6) dX0_trouble_65 rfl (hK 1)))
    (js_iload_n hX dX0_trouble_29 rfl (js_callS hX MJ14_bitCount (n := 1) (lw_S q1178 q1179 q178 q1180) npJ14_bitCount dX0_trouble_30 (js_iload_n hX dX0_trouble_33 rfl (js_icmp_ne hX (tgt := 56) dX0_trouble_34 rfl (hK 3)
    (js_aload_n hX dX0_trouble_37 rfl (js_iload_n hX dX0_trouble_38 rfl (js_const hX (z := 6) (by unfold inI; omega) dX0_trouble_39 (Or.inr (Or.inl ⟨6, rfl, rfl, rfl⟩)) (js_callV hX MX0_choose (ci := 0) (n := 2) (RX0, TX0, 20) rfl rfl (lw_V q1174 q1176 qs45 q152 q1177) npX0_choose dX0_trouble_41 (js_if_eq hX (tgt := 56) dX0_trouble_44 rfl (hK 3)
    (js_aload_n hX dX0_trouble_47 rfl (js_callV hX MX0_isTrouble (ci := 0) (n := 0) (RX0, TX0, 20) rfl rfl (lw_V q1219 q1221 qs51 q152 q1222) npX0_isTrouble dX0_trouble_48 (js_if_eq hX (tgt := 56) dX0_trouble_51 rfl (hK 3)
    (js_iload_n hX dX0_trouble_54 rfl (js_ireturn hX hr hlk dX0_trouble_55)))))))))))))))))))))))
  | 3 => exact (js_iinc hX dX0_trouble_56 (by decide) (js_goto hX (tgt := 14) dX0_trouble_59 rfl (hK 2)))
  | k + 4 => intro ls st h nc ns hf; exact hf.elim
def bX0_isTrouble : jjB := fun e K k => match k with
  | 0 => (ji_const 0 (ji_istore 1 (K 1)))
  | 1 => (ji_iload 1 (ji_aload 0 (ji_getfI 0 13 (ji_callS e MX0_rows 1 (ji_icmp_ge (ji_const 0 (ji_zreturn e))
    (ji_aload 0 (ji_iload 1 (ji_callV e MX0_laysOrder 0 2 (ji_aload 0 (ji_callV e MX0_endOf 0 1 (ji_const (-1) (ji_icmp_ne (ji_iinc 1 1 (ji_goto (K 1)))
    (ji_const 1 (ji_zreturn e))))))))))))))
  | _ => fun _ _ _ _ _ => False
def pX0_isTrouble : Nat → Nat := fun k => match k with
  | 0 => 0
  | 1 => 2
  | _ => 0
theorem sX0_isTrouble : jSound bX0_isTrouble pX0_isTrouble MX0_isTrouble := by
  intro e p ev R s m args below meth c hX hr hn hlk K hK k
  match k with
  | 0 => exact (js_const hX (z := 0) (by unfold inI; omega) dX0_isTrouble_0 (Or.inl ⟨0, rfl, rfl, rfl⟩) (js_istore_n hX dX0_isTrouble_1 rfl (by decide) (hK 1)))
  | 1 => exact (js_iload_n hX dX0_isTrouble_2 rfl (js_aload_n hX dX0_isTrouble_3 rfl (js_getfI hX (ci := 0) (k := 13) (RX0, TX0, 20) rfl (by decide) rfl (Or.inl q268) (fun _ h => h) dX0_isTrouble_4 (js_callS hX MX0_rows (n := 1) (lw_S q1188 q1189 q152 q1190) npX0_rows dX0_isTrouble_7 (js_icmp_ge hX (tgt := 34) dX0_isTrouble_10 rfl (js_const hX (z := 0) (by unfold inI; omega) dX0_isTrouble_34 (Or.inl ⟨0, rfl, rfl, rfl⟩) (js_zreturn hX hr hlk dX0_isTrouble_35))
    (js_aload_n hX dX0_isTrouble_13 rfl (js_iload_n hX dX0_isTrouble_14 rfl (js_callV hX MX0_laysOrder (ci := 0) (n := 1) (RX0, TX0, 20) rfl rfl (lw_V q1191 q1193 qs47 q152 q1194) npX0_laysOrder dX0_isTrouble_15 (js_aload_n hX dX0_isTrouble_18 rfl (js_callV hX MX0_endOf (ci := 0) (n := 0) (RX0, TX0, 20) rfl rfl (lw_V q1203 q1205 qs49 q152 q1206) npX0_endOf dX0_isTrouble_19 (js_const hX (z := (-1)) (by unfold inI; omega) dX0_isTrouble_22 (Or.inl ⟨(-1), rfl, rfl, rfl⟩) (js_icmp_ne hX (tgt := 28) dX0_isTrouble_23 rfl (js_iinc hX dX0_isTrouble_28 (by decide) (js_goto hX (tgt := 2) dX0_isTrouble_31 rfl (hK 1)))
    (js_const hX (z := 1) (by unfold inI; omega) dX0_isTrouble_26 (Or.inl ⟨1, rfl, rfl, rfl⟩) (js_zreturn hX hr hlk dX0_isTrouble_27))))))))))))))
  | k + 2 => intro ls st h nc ns hf; exact hf.elim
def bX0_rank : jjB := fun e K k => match k with
  | 0 => (ji_aload 0 (ji_iload 1 (ji_const 6 (ji_callV e MX0_choose 0 3 (ji_if_eq (K 1)
    (ji_iload 2 (ji_const 0 (ji_aload 0 (ji_getfI 0 13 (ji_const 1 (ji_isub (ji_callS e MX0_in 3 (ji_if_ne (ji_aload 0 (ji_callV e MX0_laysChange 0 1 (ji_const 0 (ji_istore 3 (K 2)))))
    (K 1))))))))))))))
  | 1 => (ji_const (-1) (ji_ireturn e))
  | 2 => (ji_iload 3 (ji_aload 0 (ji_getfI 0 13 (ji_callS e MX0_rows 1 (ji_icmp_ge (ji_const (-1) (ji_ireturn e))
    (ji_aload 0 (ji_iload 3 (ji_callV e MX0_laysOrder 0 2 (ji_aload 0 (ji_callV e MX0_isRank 0 1 (ji_if_eq (ji_iinc 3 1 (ji_goto (K 2)))
    (ji_aload 0 (ji_getfR 0 12 (ji_iload 2 (ji_iald (ji_ireturn e))))))))))))))))
  | _ => fun _ _ _ _ _ => False
def pX0_rank : Nat → Nat := fun k => match k with
  | 0 => 0
  | 1 => 24
  | 2 => 32
  | _ => 0
theorem sX0_rank : jSound bX0_rank pX0_rank MX0_rank := by
  intro e p ev R s m args below meth c hX hr hn hlk K hK k
  match k with
  | 0 => exact (js_aload_n hX dX0_rank_0 rfl (js_iload_n hX dX0_rank_1 rfl (js_const hX (z := 6) (by unfold inI; omega) dX0_rank_2 (Or.inr (Or.inl ⟨6, rfl, rfl, rfl⟩)) (js_callV hX MX0_choose (ci := 0) (n := 2) (RX0, TX0, 20) rfl rfl (lw_V q1174 q1176 qs45 q152 q1177) npX0_choose dX0_rank_4 (js_if_eq hX (tgt := 24) dX0_rank_7 rfl (hK 1)
    (js_iload_n hX dX0_rank_10 rfl (js_const hX (z := 0) (by unfold inI; omega) dX0_rank_11 (Or.inl ⟨0, rfl, rfl, rfl⟩) (js_aload_n hX dX0_rank_12 rfl (js_getfI hX (ci := 0) (k := 13) (RX0, TX0, 20) rfl (by decide) rfl (Or.inl q268) (fun _ h => h) dX0_rank_13 (js_const hX (z := 1) (by unfold inI; omega) dX0_rank_16 (Or.inl ⟨1, rfl, rfl, rfl⟩) (js_isub hX dX0_rank_17 (js_callS hX MX0_in (n := 3) (lw_S q325 q326 q152 q327) npX0_in dX0_rank_18 (js_if_ne hX (tgt := 26) dX0_rank_21 rfl (js_aload_n hX dX0_rank_26 rfl (js_callV hX MX0_laysChange (ci := 0) (n := 0) (RX0, TX0, 20) rfl rfl (lw_V q1006 q1008 qs30 q152 q1009) npX0_laysChange dX0_rank_27 (js_const hX (z := 0) (by unfold inI; omega) dX0_rank_30 (Or.inl ⟨0, rfl, rfl, rfl⟩) (js_istore_n hX dX0_rank_31 rfl (by decide) (hK 2)))))
    (hK 1))))))))))))))
  | 1 => exact (js_const hX (z := (-1)) (by unfold inI; omega) dX0_rank_24 (Or.inl ⟨(-1), rfl, rfl, rfl⟩) (js_ireturn hX hr hlk dX0_rank_25))
  | 2 => exact (js_iload_n hX dX0_rank_32 rfl (js_aload_n hX dX0_rank_33 rfl (js_getfI hX (ci := 0) (k := 13) (RX0, TX0, 20) rfl (by decide) rfl (Or.inl q268) (fun _ h => h) dX0_rank_34 (js_callS hX MX0_rows (n := 1) (lw_S q1188 q1189 q152 q1190) npX0_rows dX0_rank_37 (js_icmp_ge hX (tgt := 68) dX0_rank_40 rfl (js_const hX (z := (-1)) (by unfold inI; omega) dX0_rank_68 (Or.inl ⟨(-1), rfl, rfl, rfl⟩) (js_ireturn hX hr hlk dX0_rank_69))
    (js_aload_n hX dX0_rank_43 rfl (js_iload_n hX dX0_rank_44 rfl (js_callV hX MX0_laysOrder (ci := 0) (n := 1) (RX0, TX0, 20) rfl rfl (lw_V q1191 q1193 qs47 q152 q1194) npX0_laysOrder dX0_rank_45 (js_aload_n hX dX0_rank_48 rfl (js_callV hX MX0_isRank (ci := 0) (n := 0) (RX0, TX0, 20) rfl rfl (lw_V q1227 q1229 qs52 q152 q1230) npX0_isRank dX0_rank_49 (js_if_eq hX (tgt := 62) dX0_rank_52 rfl (js_iinc hX dX0_rank_62 (by decide) (js_goto hX (tgt := 32) dX0_rank_65 rfl (hK 2)))
    (js_aload_n hX dX0_rank_55 rfl (js_getfR hX (ci := 0) (k := 12) (RX0, TX0, 20) rfl (by decide) rfl (Or.inl q267) (fun _ h => h) dX0_rank_56 (js_iload_n hX dX0_rank_59 rfl (js_iald hX dX0_rank_60 (js_ireturn hX hr hlk dX0_rank_61))))))))))))))))
  | k + 3 => intro ls st h nc ns hf; exact hf.elim
def bX0_isRank : jjB := fun e K k => match k with
  | 0 => (ji_const 0 (ji_istore 1 (K 1)))
  | 1 => (ji_iload 1 (ji_aload 0 (ji_getfI 0 13 (ji_icmp_ge (ji_const 1 (ji_zreturn e))
    (ji_iload 1 (ji_const 1 (ji_iadd (ji_istore 2 (K 2)))))))))
  | 2 => (ji_iload 2 (ji_aload 0 (ji_getfI 0 13 (ji_icmp_ge (ji_iinc 1 1 (ji_goto (K 1)))
    (ji_aload 0 (ji_aload 0 (ji_getfR 0 12 (ji_iload 1 (ji_iald (ji_aload 0 (ji_getfR 0 12 (ji_iload 2 (ji_iald (ji_callV e MX0_doChange 0 3 (ji_if_ne (K 3)
    (ji_aload 0 (ji_aload 0 (ji_getfR 0 12 (ji_iload 2 (ji_iald (ji_aload 0 (ji_getfR 0 12 (ji_iload 1 (ji_iald (ji_callV e MX0_doChange 0 3 (ji_if_ne (ji_iinc 2 1 (ji_goto (K 2)))
    (K 3)))))))))))))))))))))))))))
  | 3 => (ji_const 0 (ji_zreturn e))
  | _ => fun _ _ _ _ _ => False
def pX0_isRank : Nat → Nat := fun k => match k with
  | 0 => 0
  | 1 => 2
  | 2 => 14
  | 3 => 60
  | _ => 0
theorem sX0_isRank : jSound bX0_isRank pX0_isRank MX0_isRank := by
  intro e p ev R s m args below meth c hX hr hn hlk K hK k
  match k with
  | 0 => exact (js_const hX (z := 0) (by unfold inI; omega) dX0_isRank_0 (Or.inl ⟨0, rfl, rfl, rfl⟩) (js_istore_n hX dX0_isRank_1 rfl (by decide) (hK 1)))
  | 1 => exact (js_iload_n hX dX0_isRank_2 rfl (js_aload_n hX dX0_isRank_3 rfl (js_getfI hX (ci := 0) (k := 13) (RX0, TX0, 20) rfl (by decide) rfl (Or.inl q268) (fun _ h => h) dX0_isRank_4 (js_icmp_ge hX (tgt := 74) dX0_isRank_7 rfl (js_const hX (z := 1) (by unfold inI; omega) dX0_isRank_74 (Or.inl ⟨1, rfl, rfl, rfl⟩) (js_zreturn hX hr hlk dX0_isRank_75))
    (js_iload_n hX dX0_isRank_10 rfl (js_const hX (z := 1) (by unfold inI; omega) dX0_isRank_11 (Or.inl ⟨1, rfl, rfl, rfl⟩) (js_iadd hX dX0_isRank_12 (js_istore_n hX dX0_isRank_13 rfl (by decide) (hK 2)))))))))
  | 2 => exact (js_iload_n hX dX0_isRank_14 rfl (js_aload_n hX dX0_isRank_15 rfl (js_getfI hX (ci := 0) (k := 13) (RX0, TX0, 20) rfl (by decide) rfl (Or.inl q268) (fun _ h => h) dX0_isRank_16 (js_icmp_ge hX (tgt := 68) dX0_isRank_19 rfl (js_iinc hX dX0_isRank_68 (by decide) (js_goto hX (tgt := 2) dX0_isRank_71 rfl (hK 1)))
    (js_aload_n hX dX0_isRank_22 rfl (js_aload_n hX dX0_isRank_23 rfl (js_getfR hX (ci := 0) (k := 12) (RX0, TX0, 20) rfl (by decide) rfl (Or.inl q267) (fun _ h => h) dX0_isRank_24 (js_iload_n hX dX0_isRank_27 rfl (js_iald hX dX0_isRank_28 (js_aload_n hX dX0_isRank_29 rfl (js_getfR hX (ci := 0) (k := 12) (RX0, TX0, 20) rfl (by decide) rfl (Or.inl q267) (fun _ h => h) dX0_isRank_30 (js_iload_n hX dX0_isRank_33 rfl (js_iald hX dX0_isRank_34 (js_callV hX MX0_doChange (ci := 0) (n := 2) (RX0, TX0, 20) rfl rfl (lw_V q1022 q1024 qs33 q152 q1025) npX0_doChange dX0_isRank_35 (js_if_ne hX (tgt := 60) dX0_isRank_38 rfl (hK 3)
    (js_aload_n hX dX0_isRank_41 rfl (js_aload_n hX dX0_isRank_42 rfl (js_getfR hX (ci := 0) (k := 12) (RX0, TX0, 20) rfl (by decide) rfl (Or.inl q267) (fun _ h => h) dX0_isRank_43 (js_iload_n hX dX0_isRank_46 rfl (js_iald hX dX0_isRank_47 (js_aload_n hX dX0_isRank_48 rfl (js_getfR hX (ci := 0) (k := 12) (RX0, TX0, 20) rfl (by decide) rfl (Or.inl q267) (fun _ h => h) dX0_isRank_49 (js_iload_n hX dX0_isRank_52 rfl (js_iald hX dX0_isRank_53 (js_callV hX MX0_doChange (ci := 0) (n := 2) (RX0, TX0, 20) rfl rfl (lw_V q1022 q1024 qs33 q152 q1025) npX0_doChange dX0_isRank_54 (js_if_ne hX (tgt := 62) dX0_isRank_57 rfl (js_iinc hX dX0_isRank_62 (by decide) (js_goto hX (tgt := 14) dX0_isRank_65 rfl (hK 2)))
    (hK 3)))))))))))))))))))))))))))
  | 3 => exact (js_const hX (z := 0) (by unfold inI; omega) dX0_isRank_60 (Or.inl ⟨0, rfl, rfl, rfl⟩) (js_zreturn hX hr hlk dX0_isRank_61))
  | k + 4 => intro ls st h nc ns hf; exact hf.elim
def bX0_nudges : jjB := fun e K k => match k with
  | 0 => (ji_iload 1 (ji_callS e MX0_isShelf 1 (ji_if_eq (K 2)
    (ji_aload 0 (ji_iload 1 (ji_iload 2 (ji_iload 3 (ji_callV e MX0_isPlaced 0 4 (ji_if_eq (K 2)
    (ji_iload 4 (ji_iload 2 (ji_icmp_eq (K 2)
    (ji_iload 4 (ji_const (-1) (ji_icmp_eq (K 1)
    (ji_aload 0 (ji_iload 1 (ji_iload 4 (ji_iload 5 (ji_callV e MX0_isPlaced 0 4 (ji_if_eq (K 2)
    (K 1))))))))))))))))))))))
  | 1 => (ji_aload 0 (ji_aload 0 (ji_iload 1 (ji_callV e MX0_setOf 0 2 (ji_const 6 (ji_callV e MX0_choose 0 3 (ji_if_ne (ji_const 0 (ji_istore 6 (K 3)))
    (K 2))))))))
  | 2 => (ji_const (-1) (ji_ireturn e))
  | 3 => (ji_iload 6 (ji_aload 0 (ji_getfI 0 13 (ji_icmp_ge (ji_aload 0 (ji_getfR 0 16 (ji_const (-1) (ji_callS e MJ0_fill 2 (ji_aload 0 (ji_getfR 0 15 (ji_const 0 (ji_aload 0 (ji_callV e MX0_numberOf 0 1 (ji_iast (ji_aload 0 (ji_getfR 0 16 (ji_aload 0 (ji_getfR 0 15 (ji_const 0 (ji_iald (ji_const 0 (ji_iast (ji_const 1 (ji_istore 6 (ji_const 0 (ji_istore 7 (K 4)))))))))))))))))))))))
    (ji_aload 0 (ji_getfR 0 12 (ji_iload 6 (ji_aload 0 (ji_getfR 0 0 (ji_iload 1 (ji_iload 6 (ji_callV e MX1_bookAt 1 3 (ji_iast (ji_iinc 6 1 (ji_goto (K 3))))))))))))))))
  | 4 => (ji_iload 7 (ji_iload 6 (ji_icmp_ge (ji_const (-1) (ji_ireturn e))
    (ji_aload 0 (ji_aload 0 (ji_getfR 0 15 (ji_iload 7 (ji_iald (ji_callV e MX0_laysOrder 0 2 (ji_aload 0 (ji_iload 2 (ji_iload 3 (ji_callV e MX0_stands 0 3 (ji_if_eq (K 5)
    (ji_aload 0 (ji_iload 4 (ji_iload 5 (ji_callV e MX0_stands 0 3 (ji_if_eq (K 5)
    (ji_aload 0 (ji_getfR 0 16 (ji_aload 0 (ji_getfR 0 15 (ji_iload 7 (ji_iald (ji_iald (ji_ireturn e)))))))))))))))))))))))))))
  | 5 => (ji_const 0 (ji_istore 8 (K 6)))
  | 6 => (ji_iload 8 (ji_const 1 (ji_iadd (ji_aload 0 (ji_getfI 0 13 (ji_icmp_ge (ji_iinc 7 1 (ji_goto (K 4)))
    (ji_aload 0 (ji_iload 8 (ji_callV e MX0_swaps 0 2 (ji_aload 0 (ji_callV e MX0_numberOf 0 1 (ji_istore 9 (ji_aload 0 (ji_iload 8 (ji_callV e MX0_swaps 0 2 (ji_aload 0 (ji_getfR 0 16 (ji_iload 9 (ji_iald (ji_const (-1) (ji_icmp_eq (ji_aload 0 (ji_getfR 0 16 (ji_iload 9 (ji_aload 0 (ji_getfR 0 16 (ji_aload 0 (ji_getfR 0 15 (ji_iload 7 (ji_iald (ji_iald (ji_const 1 (ji_iadd (ji_iast (ji_aload 0 (ji_getfR 0 15 (ji_iload 6 (ji_iload 9 (ji_iast (ji_iinc 6 1 (K 7))))))))))))))))))))
    (ji_goto (K 7)))))))))))))))))))))))
  | 7 => (ji_iinc 8 1 (ji_goto (K 6)))
  | _ => fun _ _ _ _ _ => False
def pX0_nudges : Nat → Nat := fun k => match k with
  | 0 => 0
  | 1 => 41
  | 2 => 55
  | 3 => 60
  | 4 => 128
  | 5 => 179
  | 6 => 182
  | 7 => 258
  | _ => 0
theorem sX0_nudges : jSound bX0_nudges pX0_nudges MX0_nudges := by
  intro e p ev R s m args below meth c hX hr hn hlk K hK k
  match k with
  | 0 => exact (js_iload_n hX dX0_nudges_0 rfl (js_callS hX MX0_isShelf (n := 1) (lw_S q322 q323 q152 q324) npX0_isShelf dX0_nudges_1 (js_if_eq hX (tgt := 55) dX0_nudges_4 rfl (hK 2)
    (js_aload_n hX dX0_nudges_7 rfl (js_iload_n hX dX0_nudges_8 rfl (js_iload_n hX dX0_nudges_9 rfl (js_iload_n hX dX0_nudges_10 rfl (js_callV hX MX0_isPlaced (ci := 0) (n := 3) (RX0, TX0, 20) rfl rfl (lw_V q1235 q1237 qs53 q152 q1238) npX0_isPlaced dX0_nudges_11 (js_if_eq hX (tgt := 55) dX0_nudges_14 rfl (hK 2)
    (js_iload hX dX0_nudges_17 (js_iload_n hX dX0_nudges_19 rfl (js_icmp_eq hX (tgt := 55) dX0_nudges_20 rfl (hK 2)
    (js_iload hX dX0_nudges_23 (js_const hX (z := (-1)) (by unfold inI; omega) dX0_nudges_25 (Or.inl ⟨(-1), rfl, rfl, rfl⟩) (js_icmp_eq hX (tgt := 41) dX0_nudges_26 rfl (hK 1)
    (js_aload_n hX dX0_nudges_29 rfl (js_iload_n hX dX0_nudges_30 rfl (js_iload hX dX0_nudges_31 (js_iload hX dX0_nudges_33 (js_callV hX MX0_isPlaced (ci := 0) (n := 3) (RX0, TX0, 20) rfl rfl (lw_V q1235 q1237 qs53 q152 q1238) npX0_isPlaced dX0_nudges_35 (js_if_eq hX (tgt := 55) dX0_nudges_38 rfl (hK 2)
    (hK 1))))))))))))))))))))))
  | 1 => exact (js_aload_n hX dX0_nudges_41 rfl (js_aload_n hX dX0_nudges_42 rfl (js_iload_n hX dX0_nudges_43 rfl (js_callV hX MX0_setOf (ci := 0) (n := 1) (RX0, TX0, 20) rfl rfl (lw_V q1239 q1241 qs54 q152 q1242) npX0_setOf dX0_nudges_44 (js_const hX (z := 6) (by unfold inI; omega) dX0_nudges_47 (Or.inr (Or.inl ⟨6, rfl, rfl, rfl⟩)) (js_callV hX MX0_choose (ci := 0) (n := 2) (RX0, TX0, 20) rfl rfl (lw_V q1174 q1176 qs45 q152 q1177) npX0_choose dX0_nudges_49 (js_if_ne hX (tgt := 57) dX0_nudges_52 rfl (js_const hX (z := 0) (by unfold inI; omega) dX0_nudges_57 (Or.inl ⟨0, rfl, rfl, rfl⟩) (js_istore hX dX0_nudges_58 (by decide) (hK 3)))
    (hK 2))))))))
  | 2 => exact (js_const hX (z := (-1)) (by unfold inI; omega) dX0_nudges_55 (Or.inl ⟨(-1), rfl, rfl, rfl⟩) (js_ireturn hX hr hlk dX0_nudges_56))
  | 3 => exact (js_iload hX dX0_nudges_60 (js_aload_n hX dX0_nudges_62 rfl (js_getfI hX (ci := 0) (k := 13) (RX0, TX0, 20) rfl (by decide) rfl (Or.inl q268) (fun _ h => h) dX0_nudges_63 (js_icmp_ge hX (tgt := 92) dX0_nudges_66 rfl (js_aload_n hX dX0_nudges_92 rfl (js_getfR hX (ci := 0) (k := 16) (RX0, TX0, 20) rfl (by decide) rfl (Or.inl q271) (fun _ h => h) dX0_nudges_93 (js_const hX (z := (-1)) (by unfold inI; omega) dX0_nudges_96 (Or.inl ⟨(-1), rfl, rfl, rfl⟩) (js_callS hX MJ0_fill (n := 2) (lw_S q1243 q203 q154 q204) npJ0_fill dX0_nudges_97 (js_aload_n hX dX0_nudges_100 rfl (js_getfR hX (ci := 0) (k := 15) (RX0, TX0, 20) rfl (by decide) rfl (Or.inl q270) (fun _ h => h) dX0_nudges_101 (js_const hX (z := 0) (by unfold inI; omega) dX0_nudges_104 (Or.inl ⟨0, rfl, rfl, rfl⟩) (js_aload_n hX dX0_nudges_105 rfl (js_callV hX MX0_numberOf (ci := 0) (n := 0) (RX0, TX0, 20) rfl rfl (lw_V q1207 q1209 qs50 q152 q1210) npX0_numberOf dX0_nudges_106 (js_iast hX dX0_nudges_109 (js_aload_n hX dX0_nudges_110 rfl (js_getfR hX (ci := 0) (k := 16) (RX0, TX0, 20) rfl (by decide) rfl (Or.inl q271) (fun _ h => h) dX0_nudges_111 (js_aload_n hX dX0_nudges_114 rfl (js_getfR hX (ci := 0) (k := 15) (RX0, TX0, 20) rfl (by decide) rfl (Or.inl q270) (fun _ h => h) dX0_nudges_115 (js_const hX (z := 0) (by unfold inI; omega) dX0_nudges_118 (Or.inl ⟨0, rfl, rfl, rfl⟩) (js_iald hX dX0_nudges_119 (js_const hX (z := 0) (by unfold inI; omega) dX0_nudges_120 (Or.inl ⟨0, rfl, rfl, rfl⟩) (js_iast hX dX0_nudges_121 (js_const hX (z := 1) (by unfold inI; omega) dX0_nudges_122 (Or.inl ⟨1, rfl, rfl, rfl⟩) (js_istore hX dX0_nudges_123 (by decide) (js_const hX (z := 0) (by unfold inI; omega) dX0_nudges_125 (Or.inl ⟨0, rfl, rfl, rfl⟩) (js_istore hX dX0_nudges_126 (by decide) (hK 4)))))))))))))))))))))))
    (js_aload_n hX dX0_nudges_69 rfl (js_getfR hX (ci := 0) (k := 12) (RX0, TX0, 20) rfl (by decide) rfl (Or.inl q267) (fun _ h => h) dX0_nudges_70 (js_iload hX dX0_nudges_73 (js_aload_n hX dX0_nudges_75 rfl (js_getfR hX (ci := 0) (k := 0) (RX0, TX0, 20) rfl (by decide) rfl (Or.inl q255) (fun _ h => h) dX0_nudges_76 (js_iload_n hX dX0_nudges_79 rfl (js_iload hX dX0_nudges_80 (js_callV hX MX1_bookAt (ci := 1) (n := 2) (RX1, TX1, 7) rfl rfl (lw_V q336 q337 q338 q153 q339) npX1_bookAt dX0_nudges_82 (js_iast hX dX0_nudges_85 (js_iinc hX dX0_nudges_86 (by decide) (js_goto hX (tgt := 60) dX0_nudges_89 rfl (hK 3))))))))))))))))
  | 4 => exact (js_iload hX dX0_nudges_128 (js_iload hX dX0_nudges_130 (js_icmp_ge hX (tgt := 270) dX0_nudges_132 rfl (js_const hX (z := (-1)) (by unfold inI; omega) dX0_nudges_270 (Or.inl ⟨(-1), rfl, rfl, rfl⟩) (js_ireturn hX hr hlk dX0_nudges_271))
    (js_aload_n hX dX0_nudges_135 rfl (js_aload_n hX dX0_nudges_136 rfl (js_getfR hX (ci := 0) (k := 15) (RX0, TX0, 20) rfl (by decide) rfl (Or.inl q270) (fun _ h => h) dX0_nudges_137 (js_iload hX dX0_nudges_140 (js_iald hX dX0_nudges_142 (js_callV hX MX0_laysOrder (ci := 0) (n := 1) (RX0, TX0, 20) rfl rfl (lw_V q1191 q1193 qs47 q152 q1194) npX0_laysOrder dX0_nudges_143 (js_aload_n hX dX0_nudges_146 rfl (js_iload_n hX dX0_nudges_147 rfl (js_iload_n hX dX0_nudges_148 rfl (js_callV hX MX0_stands (ci := 0) (n := 2) (RX0, TX0, 20) rfl rfl (lw_V q1244 q1246 qs55 q152 q1247) npX0_stands dX0_nudges_149 (js_if_eq hX (tgt := 179) dX0_nudges_152 rfl (hK 5)
    (js_aload_n hX dX0_nudges_155 rfl (js_iload hX dX0_nudges_156 (js_iload hX dX0_nudges_158 (js_callV hX MX0_stands (ci := 0) (n := 2) (RX0, TX0, 20) rfl rfl (lw_V q1244 q1246 qs55 q152 q1247) npX0_stands dX0_nudges_160 (js_if_eq hX (tgt := 179) dX0_nudges_163 rfl (hK 5)
    (js_aload_n hX dX0_nudges_166 rfl (js_getfR hX (ci := 0) (k := 16) (RX0, TX0, 20) rfl (by decide) rfl (Or.inl q271) (fun _ h => h) dX0_nudges_167 (js_aload_n hX dX0_nudges_170 rfl (js_getfR hX (ci := 0) (k := 15) (RX0, TX0, 20) rfl (by decide) rfl (Or.inl q270) (fun _ h => h) dX0_nudges_171 (js_iload hX dX0_nudges_174 (js_iald hX dX0_nudges_176 (js_iald hX dX0_nudges_177 (js_ireturn hX hr hlk dX0_nudges_178)))))))))))))))))))))))))))
  | 5 => exact (js_const hX (z := 0) (by unfold inI; omega) dX0_nudges_179 (Or.inl ⟨0, rfl, rfl, rfl⟩) (js_istore hX dX0_nudges_180 (by decide) (hK 6)))
  | 6 => exact (js_iload hX dX0_nudges_182 (js_const hX (z := 1) (by unfold inI; omega) dX0_nudges_184 (Or.inl ⟨1, rfl, rfl, rfl⟩) (js_iadd hX dX0_nudges_185 (js_aload_n hX dX0_nudges_186 rfl (js_getfI hX (ci := 0) (k := 13) (RX0, TX0, 20) rfl (by decide) rfl (Or.inl q268) (fun _ h => h) dX0_nudges_187 (js_icmp_ge hX (tgt := 264) dX0_nudges_190 rfl (js_iinc hX dX0_nudges_264 (by decide) (js_goto hX (tgt := 128) dX0_nudges_267 rfl (hK 4)))
    (js_aload_n hX dX0_nudges_193 rfl (js_iload hX dX0_nudges_194 (js_callV hX MX0_swaps (ci := 0) (n := 1) (RX0, TX0, 20) rfl rfl (lw_V q1248 q1250 qs56 q152 q1251) npX0_swaps dX0_nudges_196 (js_aload_n hX dX0_nudges_199 rfl (js_callV hX MX0_numberOf (ci := 0) (n := 0) (RX0, TX0, 20) rfl rfl (lw_V q1207 q1209 qs50 q152 q1210) npX0_numberOf dX0_nudges_200 (js_istore hX dX0_nudges_203 (by decide) (js_aload_n hX dX0_nudges_205 rfl (js_iload hX dX0_nudges_206 (js_callV hX MX0_swaps (ci := 0) (n := 1) (RX0, TX0, 20) rfl rfl (lw_V q1248 q1250 qs56 q152 q1251) npX0_swaps dX0_nudges_208 (js_aload_n hX dX0_nudges_211 rfl (js_getfR hX (ci := 0) (k := 16) (RX0, TX0, 20) rfl (by decide) rfl (Or.inl q271) (fun _ h => h) dX0_nudges_212 (js_iload hX dX0_nudges_215 (js_iald hX dX0_nudges_217 (js_const hX (z := (-1)) (by unfold inI; omega) dX0_nudges_218 (Or.inl ⟨(-1), rfl, rfl, rfl⟩) (js_icmp_eq hX (tgt := 225) dX0_nudges_219 rfl (js_aload_n hX dX0_nudges_225 rfl (js_getfR hX (ci := 0) (k := 16) (RX0, TX0, 20) rfl (by decide) rfl (Or.inl q271) (fun _ h => h) dX0_nudges_226 (js_iload hX dX0_nudges_229 (js_aload_n hX dX0_nudges_231 rfl (js_getfR hX (ci := 0) (k := 16) (RX0, TX0, 20) rfl (by decide) rfl (Or.inl q271) (fun _ h => h) dX0_nudges_232 (js_aload_n hX dX0_nudges_235 rfl (js_getfR hX (ci := 0) (k := 15) (RX0, TX0, 20) rfl (by decide) rfl (Or.inl q270) (fun _ h => h) dX0_nudges_236 (js_iload hX dX0_nudges_239 (js_iald hX dX0_nudges_241 (js_iald hX dX0_nudges_242 (js_const hX (z := 1) (by unfold inI; omega) dX0_nudges_243 (Or.inl ⟨1, rfl, rfl, rfl⟩) (js_iadd hX dX0_nudges_244 (js_iast hX dX0_nudges_245 (js_aload_n hX dX0_nudges_246 rfl (js_getfR hX (ci := 0) (k := 15) (RX0, TX0, 20) rfl (by decide) rfl (Or.inl q270) (fun _ h => h) dX0_nudges_247 (js_iload hX dX0_nudges_250 (js_iload hX dX0_nudges_252 (js_iast hX dX0_nudges_254 (js_iinc hX dX0_nudges_255 (by decide) (hK 7))))))))))))))))))))
    (js_goto hX (tgt := 258) dX0_nudges_222 rfl (hK 7)))))))))))))))))))))))
  | 7 => exact (js_iinc hX dX0_nudges_258 (by decide) (js_goto hX (tgt := 182) dX0_nudges_261 rfl (hK 6)))
  | k + 8 => intro ls st h nc ns hf; exact hf.elim
