/-! blocks of the methods and their soundness -/
set_option maxRecDepth 100000
def bX3_mayName : jjB := fun e K k => match k with
  | 0 => (ji_iload 1 (ji_const 6 (ji_icmp_lt (K 1)
    (ji_iload 1 (ji_const 12 (ji_icmp_ge (ji_aload 0 (ji_getfI 3 7 (ji_const 201 (ji_icmp_ne (K 2)
    (K 1)))))
    (ji_aload 0 (ji_getfI 3 7 (ji_const 200 (ji_icmp_ne (K 2)
    (ji_goto (K 1))))))))))))
  | 1 => (ji_const 1 (ji_goto (K 3)))
  | 2 => (ji_const 0 (K 3))
  | 3 => (ji_zreturn e)
  | _ => fun _ _ _ _ _ => False
def pX3_mayName : Nat → Nat := fun k => match k with
  | 0 => 0
  | 1 => 35
  | 2 => 39
  | 3 => 40
  | _ => 0
theorem sX3_mayName : jSound bX3_mayName pX3_mayName MX3_mayName := by
  intro e p ev R s m args below meth c hX hr hn hlk K hK k
  match k with
  | 0 => exact (js_iload_n hX dX3_mayName_0 rfl (js_const hX (z := 6) (by unfold inI; omega) dX3_mayName_1 (Or.inr (Or.inl ⟨6, rfl, rfl, rfl⟩)) (js_icmp_lt hX (tgt := 35) dX3_mayName_3 rfl (hK 1)
    (js_iload_n hX dX3_mayName_6 rfl (js_const hX (z := 12) (by unfold inI; omega) dX3_mayName_7 (Or.inr (Or.inl ⟨12, rfl, rfl, rfl⟩)) (js_icmp_ge hX (tgt := 25) dX3_mayName_9 rfl (js_aload_n hX dX3_mayName_25 rfl (js_getfI hX (ci := 3) (k := 7) (RX3, TX3, 8) rfl (by decide) rfl (Or.inl q461) (fun _ h => h) dX3_mayName_26 (js_const hX (z := 201) (by unfold inI; omega) dX3_mayName_29 (Or.inr (Or.inr (Or.inl ⟨201, rfl, rfl, rfl⟩))) (js_icmp_ne hX (tgt := 39) dX3_mayName_32 rfl (hK 2)
    (hK 1)))))
    (js_aload_n hX dX3_mayName_12 rfl (js_getfI hX (ci := 3) (k := 7) (RX3, TX3, 8) rfl (by decide) rfl (Or.inl q461) (fun _ h => h) dX3_mayName_13 (js_const hX (z := 200) (by unfold inI; omega) dX3_mayName_16 (Or.inr (Or.inr (Or.inl ⟨200, rfl, rfl, rfl⟩))) (js_icmp_ne hX (tgt := 39) dX3_mayName_19 rfl (hK 2)
    (js_goto hX (tgt := 35) dX3_mayName_22 rfl (hK 1))))))))))))
  | 1 => exact (js_const hX (z := 1) (by unfold inI; omega) dX3_mayName_35 (Or.inl ⟨1, rfl, rfl, rfl⟩) (js_goto hX (tgt := 40) dX3_mayName_36 rfl (hK 3)))
  | 2 => exact (js_const hX (z := 0) (by unfold inI; omega) dX3_mayName_39 (Or.inl ⟨0, rfl, rfl, rfl⟩) (hK 3))
  | 3 => exact (js_zreturn hX hr hlk dX3_mayName_40)
  | k + 4 => intro ls st h nc ns hf; exact hf.elim
def bX3_want : jjB := fun e K k => match k with
  | 0 => (ji_aload 0 (ji_getfI 3 4 (ji_iload 1 (ji_icmp_eq (ji_aload 0 (ji_callV e MX3_next 3 1 (ji_return e)))
    (ji_aload 0 (ji_const 1 (ji_callV e MX3_wrong 3 2 (ji_athrow e))))))))
  | _ => fun _ _ _ _ _ => False
def pX3_want : Nat → Nat := fun k => match k with
  | 0 => 0
  | _ => 0
theorem sX3_want : jSound bX3_want pX3_want MX3_want := by
  intro e p ev R s m args below meth c hX hr hn hlk K hK k
  match k with
  | 0 => exact (js_aload_n hX dX3_want_0 rfl (js_getfI hX (ci := 3) (k := 4) (RX3, TX3, 8) rfl (by decide) rfl (Or.inl q458) (fun _ h => h) dX3_want_1 (js_iload_n hX dX3_want_4 rfl (js_icmp_eq hX (tgt := 14) dX3_want_5 rfl (js_aload_n hX dX3_want_14 rfl (js_callV hX MX3_next (ci := 3) (n := 0) (RX3, TX3, 8) rfl rfl (lw_V q543 q545 qs5 q160 q546) npX3_next dX3_want_15 (js_return hX hr hlk dX3_want_18)))
    (js_aload_n hX dX3_want_8 rfl (js_const hX (z := 1) (by unfold inI; omega) dX3_want_9 (Or.inl ⟨1, rfl, rfl, rfl⟩) (js_callV hX MX3_wrong (ci := 3) (n := 1) (RX3, TX3, 8) rfl rfl (lw_V q610 q612 qs7 q160 q613) npX3_wrong dX3_want_10 (js_athrow hX dX3_want_13))))))))
  | k + 1 => intro ls st h nc ns hf; exact hf.elim
def bX3_doing : jjB := fun e K k => match k with
  | 0 => (ji_aload 0 (ji_getfI 3 7 (ji_istore 2 (ji_iload 2 (ji_tsw 204 (ji_new e 13 5 (ji_dup (ji_iload 2 (ji_const (-1) (ji_const (-1) (ji_const (-1) (ji_iload 1 (ji_callI e MX13_init 6 (ji_areturn e))))))))) [(ji_new e 13 5 (ji_dup (ji_iload 2 (ji_aload 0 (ji_const 1 (ji_const 99 (ji_callV e MX3_number 3 3 (ji_const (-1) (ji_const (-1) (ji_iload 1 (ji_callI e MX13_init 6 (ji_areturn e)))))))))))), (ji_aload 0 (ji_const 0 (ji_const 2 (ji_callV e MX3_number 3 3 (ji_istore 3 (ji_aload 0 (ji_const 210 (ji_callV e MX3_want 3 2 (ji_new e 13 5 (ji_dup (ji_iload 2 (ji_iload 3 (ji_aload 0 (ji_const 0 (ji_const 9 (ji_callV e MX3_number 3 3 (ji_const (-1) (ji_iload 1 (ji_callI e MX13_init 6 (ji_areturn e)))))))))))))))))))), (ji_new e 13 5 (ji_dup (ji_iload 2 (ji_aload 0 (ji_const 0 (ji_const 9 (ji_callV e MX3_number 3 3 (ji_const (-1) (ji_const (-1) (ji_iload 1 (ji_callI e MX13_init 6 (ji_areturn e)))))))))))), (ji_aload 0 (ji_const 0 (ji_const 9 (ji_callV e MX3_number 3 3 (ji_istore 3 (ji_aload 0 (ji_const 211 (ji_callV e MX3_want 3 2 (ji_aload 0 (ji_const 0 (ji_const 2 (ji_callV e MX3_number 3 3 (ji_istore 4 (ji_aload 0 (ji_const 210 (ji_callV e MX3_want 3 2 (ji_new e 13 5 (ji_dup (ji_iload 2 (ji_iload 3 (ji_iload 4 (ji_aload 0 (ji_const 0 (ji_const 9 (ji_callV e MX3_number 3 3 (ji_iload 1 (ji_callI e MX13_init 6 (ji_areturn e))))))))))))))))))))))))))))])))))
  | _ => fun _ _ _ _ _ => False
def pX3_doing : Nat → Nat := fun k => match k with
  | 0 => 0
  | _ => 0
theorem sX3_doing : jSound bX3_doing pX3_doing MX3_doing := by
  intro e p ev R s m args below meth c hX hr hn hlk K hK k
  match k with
  | 0 => exact (js_aload_n hX dX3_doing_0 rfl (js_getfI hX (ci := 3) (k := 7) (RX3, TX3, 8) rfl (by decide) rfl (Or.inl q461) (fun _ h => h) dX3_doing_1 (js_istore_n hX dX3_doing_4 rfl (by decide) (js_iload_n hX dX3_doing_5 rfl (js_tsw hX (dflt := 151) (lo := 204) (hi := 207) (tgt := 157) (tgts := [36, 55, 88, 107]) (offs := #[30, 49, 82, 101]) dX3_doing_6 rfl (by decide) (js_new hX (ci := 13) (RX13, TX13, 5) rfl (by decide) q921 q922 q183 dX3_doing_157 (js_dup hX dX3_doing_160 (js_iload_n hX dX3_doing_161 rfl (js_const hX (z := (-1)) (by unfold inI; omega) dX3_doing_162 (Or.inl ⟨(-1), rfl, rfl, rfl⟩) (js_const hX (z := (-1)) (by unfold inI; omega) dX3_doing_163 (Or.inl ⟨(-1), rfl, rfl, rfl⟩) (js_const hX (z := (-1)) (by unfold inI; omega) dX3_doing_164 (Or.inl ⟨(-1), rfl, rfl, rfl⟩) (js_iload_n hX dX3_doing_165 rfl (js_callIN hX MX13_init (n := 5) q923 q924 q183 (lw_meth q925) rfl rfl npX13_init dX3_doing_166 (js_areturn hX hr (by first | exact Or.inl ⟨_, rfl⟩ | exact Or.inr ⟨_, rfl⟩) hlk dX3_doing_169))))))))) (jswl_cons (js_new hX (ci := 13) (RX13, TX13, 5) rfl (by decide) q921 q922 q183 dX3_doing_36 (js_dup hX dX3_doing_39 (js_iload_n hX dX3_doing_40 rfl (js_aload_n hX dX3_doing_41 rfl (js_const hX (z := 1) (by unfold inI; omega) dX3_doing_42 (Or.inl ⟨1, rfl, rfl, rfl⟩) (js_const hX (z := 99) (by unfold inI; omega) dX3_doing_43 (Or.inr (Or.inl ⟨99, rfl, rfl, rfl⟩)) (js_callV hX MX3_number (ci := 3) (n := 2) (RX3, TX3, 8) rfl rfl (lw_V q686 q688 qs11 q160 q689) npX3_number dX3_doing_45 (js_const hX (z := (-1)) (by unfold inI; omega) dX3_doing_48 (Or.inl ⟨(-1), rfl, rfl, rfl⟩) (js_const hX (z := (-1)) (by unfold inI; omega) dX3_doing_49 (Or.inl ⟨(-1), rfl, rfl, rfl⟩) (js_iload_n hX dX3_doing_50 rfl (js_callIN hX MX13_init (n := 5) q923 q924 q183 (lw_meth q925) rfl rfl npX13_init dX3_doing_51 (js_areturn hX hr (by first | exact Or.inl ⟨_, rfl⟩ | exact Or.inr ⟨_, rfl⟩) hlk dX3_doing_54)))))))))))) (jswl_cons (js_aload_n hX dX3_doing_55 rfl (js_const hX (z := 0) (by unfold inI; omega) dX3_doing_56 (Or.inl ⟨0, rfl, rfl, rfl⟩) (js_const hX (z := 2) (by unfold inI; omega) dX3_doing_57 (Or.inl ⟨2, rfl, rfl, rfl⟩) (js_callV hX MX3_number (ci := 3) (n := 2) (RX3, TX3, 8) rfl rfl (lw_V q686 q688 qs11 q160 q689) npX3_number dX3_doing_58 (js_istore_n hX dX3_doing_61 rfl (by decide) (js_aload_n hX dX3_doing_62 rfl (js_const hX (z := 210) (by unfold inI; omega) dX3_doing_63 (Or.inr (Or.inr (Or.inl ⟨210, rfl, rfl, rfl⟩))) (js_callV hX MX3_want (ci := 3) (n := 1) (RX3, TX3, 8) rfl rfl (lw_V q763 q765 qs21 q160 q766) npX3_want dX3_doing_66 (js_new hX (ci := 13) (RX13, TX13, 5) rfl (by decide) q921 q922 q183 dX3_doing_69 (js_dup hX dX3_doing_72 (js_iload_n hX dX3_doing_73 rfl (js_iload_n hX dX3_doing_74 rfl (js_aload_n hX dX3_doing_75 rfl (js_const hX (z := 0) (by unfold inI; omega) dX3_doing_76 (Or.inl ⟨0, rfl, rfl, rfl⟩) (js_const hX (z := 9) (by unfold inI; omega) dX3_doing_77 (Or.inr (Or.inl ⟨9, rfl, rfl, rfl⟩)) (js_callV hX MX3_number (ci := 3) (n := 2) (RX3, TX3, 8) rfl rfl (lw_V q686 q688 qs11 q160 q689) npX3_number dX3_doing_79 (js_const hX (z := (-1)) (by unfold inI; omega) dX3_doing_82 (Or.inl ⟨(-1), rfl, rfl, rfl⟩) (js_iload_n hX dX3_doing_83 rfl (js_callIN hX MX13_init (n := 5) q923 q924 q183 (lw_meth q925) rfl rfl npX13_init dX3_doing_84 (js_areturn hX hr (by first | exact Or.inl ⟨_, rfl⟩ | exact Or.inr ⟨_, rfl⟩) hlk dX3_doing_87)))))))))))))))))))) (jswl_cons (js_new hX (ci := 13) (RX13, TX13, 5) rfl (by decide) q921 q922 q183 dX3_doing_88 (js_dup hX dX3_doing_91 (js_iload_n hX dX3_doing_92 rfl (js_aload_n hX dX3_doing_93 rfl (js_const hX (z := 0) (by unfold inI; omega) dX3_doing_94 (Or.inl ⟨0, rfl, rfl, rfl⟩) (js_const hX (z := 9) (by unfold inI; omega) dX3_doing_95 (Or.inr (Or.inl ⟨9, rfl, rfl, rfl⟩)) (js_callV hX MX3_number (ci := 3) (n := 2) (RX3, TX3, 8) rfl rfl (lw_V q686 q688 qs11 q160 q689) npX3_number dX3_doing_97 (js_const hX (z := (-1)) (by unfold inI; omega) dX3_doing_100 (Or.inl ⟨(-1), rfl, rfl, rfl⟩) (js_const hX (z := (-1)) (by unfold inI; omega) dX3_doing_101 (Or.inl ⟨(-1), rfl, rfl, rfl⟩) (js_iload_n hX dX3_doing_102 rfl (js_callIN hX MX13_init (n := 5) q923 q924 q183 (lw_meth q925) rfl rfl npX13_init dX3_doing_103 (js_areturn hX hr (by first | exact Or.inl ⟨_, rfl⟩ | exact Or.inr ⟨_, rfl⟩) hlk dX3_doing_106)))))))))))) (jswl_cons (js_aload_n hX dX3_doing_107 rfl (js_const hX (z := 0) (by unfold inI; omega) dX3_doing_108 (Or.inl ⟨0, rfl, rfl, rfl⟩) (js_const hX (z := 9) (by unfold inI; omega) dX3_doing_109 (Or.inr (Or.inl ⟨9, rfl, rfl, rfl⟩)) (js_callV hX MX3_number (ci := 3) (n := 2) (RX3, TX3, 8) rfl rfl (lw_V q686 q688 qs11 q160 q689) npX3_number dX3_doing_111 (js_istore_n hX dX3_doing_114 rfl (by decide) (js_aload_n hX dX3_doing_115 rfl (js_const hX (z := 211) (by unfold inI; omega) dX3_doing_116 (Or.inr (Or.inr (Or.inl ⟨211, rfl, rfl, rfl⟩))) (js_callV hX MX3_want (ci := 3) (n := 1) (RX3, TX3, 8) rfl rfl (lw_V q763 q765 qs21 q160 q766) npX3_want dX3_doing_119 (js_aload_n hX dX3_doing_122 rfl (js_const hX (z := 0) (by unfold inI; omega) dX3_doing_123 (Or.inl ⟨0, rfl, rfl, rfl⟩) (js_const hX (z := 2) (by unfold inI; omega) dX3_doing_124 (Or.inl ⟨2, rfl, rfl, rfl⟩) (js_callV hX MX3_number (ci := 3) (n := 2) (RX3, TX3, 8) rfl rfl (lw_V q686 q688 qs11 q160 q689) npX3_number dX3_doing_125 (js_istore hX dX3_doing_128 (by decide) (js_aload_n hX dX3_doing_130 rfl (js_const hX (z := 210) (by unfold inI; omega) dX3_doing_131 (Or.inr (Or.inr (Or.inl ⟨210, rfl, rfl, rfl⟩))) (js_callV hX MX3_want (ci := 3) (n := 1) (RX3, TX3, 8) rfl rfl (lw_V q763 q765 qs21 q160 q766) npX3_want dX3_doing_134 (js_new hX (ci := 13) (RX13, TX13, 5) rfl (by decide) q921 q922 q183 dX3_doing_137 (js_dup hX dX3_doing_140 (js_iload_n hX dX3_doing_141 rfl (js_iload_n hX dX3_doing_142 rfl (js_iload hX dX3_doing_143 (js_aload_n hX dX3_doing_145 rfl (js_const hX (z := 0) (by unfold inI; omega) dX3_doing_146 (Or.inl ⟨0, rfl, rfl, rfl⟩) (js_const hX (z := 9) (by unfold inI; omega) dX3_doing_147 (Or.inr (Or.inl ⟨9, rfl, rfl, rfl⟩)) (js_callV hX MX3_number (ci := 3) (n := 2) (RX3, TX3, 8) rfl rfl (lw_V q686 q688 qs11 q160 q689) npX3_number dX3_doing_149 (js_iload_n hX dX3_doing_152 rfl (js_callIN hX MX13_init (n := 5) q923 q924 q183 (lw_meth q925) rfl rfl npX13_init dX3_doing_153 (js_areturn hX hr (by first | exact Or.inl ⟨_, rfl⟩ | exact Or.inr ⟨_, rfl⟩) hlk dX3_doing_156)))))))))))))))))))))))))))) jswl_nil)))))))))
  | k + 1 => intro ls st h nc ns hf; exact hf.elim
def bX4_init : jjB := fun e K k => match k with
  | 0 => (ji_aload 0 (ji_callI e MJ16_init 1 (ji_aload 0 (ji_const 6 (ji_newarr e (-7) (ji_putfR 4 0 (ji_aload 0 (ji_new e 14 3 (ji_dup (ji_callI e MJ6_init 1 (ji_putfR 4 5 (ji_return e))))))))))))
  | _ => fun _ _ _ _ _ => False
def pX4_init : Nat → Nat := fun k => match k with
  | 0 => 0
  | _ => 0
theorem sX4_init : jSound bX4_init pX4_init MX4_init := by
  intro e p ev R s m args below meth c hX hr hn hlk K hK k
  match k with
  | 0 => exact (js_aload_n hX dX4_init_0 rfl (js_callI hX MJ16_init (n := 0) q488 q190 q2033 (lw_meth q191) rfl rfl npJ16_init dX4_init_1 (js_aload_n hX dX4_init_4 rfl (js_const hX (z := 6) (by unfold inI; omega) dX4_init_5 (Or.inr (Or.inl ⟨6, rfl, rfl, rfl⟩)) (js_anew hX (cd := (-7)) (by decide) (by decide) rfl q489 q490 dX4_init_7 (js_putfR hX (ci := 4) (k := 0) (RX4, TX4, 6) rfl (by decide) rfl rfl (Or.inl q517) (fun _ h => h) (Or.inr ⟨rfl, hn, rfl, q517⟩) dX4_init_10 (js_aload_n hX dX4_init_13 rfl (js_new hX (ci := 14) (RJ6, TJ6, 3) rfl (by decide) q491 q492 q164 dX4_init_14 (js_dup hX dX4_init_17 (js_callI hX MJ6_init (n := 0) q493 q494 q164 (lw_meth q495) rfl rfl npJ6_init dX4_init_18 (js_putfR hX (ci := 4) (k := 5) (RX4, TX4, 6) rfl (by decide) rfl rfl (Or.inl q527) (fun _ h => h) (Or.inr ⟨rfl, hn, rfl, q527⟩) dX4_init_21 (js_return hX hr hlk dX4_init_24))))))))))))
  | k + 1 => intro ls st h nc ns hf; exact hf.elim
def bX5_init : jjB := fun e K k => match k with
  | 0 => (ji_aload 0 (ji_callI e MJ11_init 1 (ji_aload 0 (ji_iload 1 (ji_putfI 5 0 (ji_aload 0 (ji_iload 2 (ji_putfI 5 1 (ji_return e)))))))))
  | _ => fun _ _ _ _ _ => False
def pX5_init : Nat → Nat := fun k => match k with
  | 0 => 0
  | _ => 0
theorem sX5_init : jSound bX5_init pX5_init MX5_init := by
  intro e p ev R s m args below meth c hX hr hn hlk K hK k
  match k with
  | 0 => exact (js_aload_n hX dX5_init_0 rfl (js_callI hX MJ11_init (n := 0) q654 q655 q169 (lw_meth q656) rfl rfl npJ11_init dX5_init_1 (js_aload_n hX dX5_init_4 rfl (js_iload_n hX dX5_init_5 rfl (js_putfI hX (ci := 5) (k := 0) (RX5, jT5, 2) rfl (by decide) rfl (Or.inl q658) (fun _ h => h) (Or.inr ⟨rfl, hn, rfl, q658⟩) dX5_init_6 (js_aload_n hX dX5_init_9 rfl (js_iload_n hX dX5_init_10 rfl (js_putfI hX (ci := 5) (k := 1) (RX5, jT5, 2) rfl (by decide) rfl (Or.inl q660) (fun _ h => h) (Or.inr ⟨rfl, hn, rfl, q660⟩) dX5_init_11 (js_return hX hr hlk dX5_init_14)))))))))
  | k + 1 => intro ls st h nc ns hf; exact hf.elim
def bX6_init : jjB := fun e K k => match k with
  | 0 => (ji_aload 0 (ji_callI e MJ12_init 1 (ji_aload 0 (ji_aload 1 (ji_putfR 6 0 (ji_return e))))))
  | _ => fun _ _ _ _ _ => False
def pX6_init : Nat → Nat := fun k => match k with
  | 0 => 0
  | _ => 0
theorem sX6_init : jSound bX6_init pX6_init MX6_init := by
  intro e p ev R s m args below meth c hX hr hn hlk K hK k
  match k with
  | 0 => exact (js_aload_n hX dX6_init_0 rfl (js_callI hX MJ12_init (n := 0) q713 q714 q171 (lw_meth q715) rfl rfl npJ12_init dX6_init_1 (js_aload_n hX dX6_init_4 rfl (js_aload_n hX dX6_init_5 rfl (js_putfR hX (ci := 6) (k := 0) (RX6, TX6, 1) rfl (by decide) rfl rfl (Or.inl q717) (fun _ h => h) (Or.inr ⟨rfl, hn, rfl, q717⟩) dX6_init_6 (js_return hX hr hlk dX6_init_9))))))
  | k + 1 => intro ls st h nc ns hf; exact hf.elim
def bX6_is : jjB := fun e K k => match k with
  | 0 => (ji_aload 0 (ji_getfR 6 0 (ji_aload 1 (ji_callF e [(11, MX11_is), (6, MX6_is), (12, MX12_is)] 2 (ji_if_ne (ji_const 0 (K 1))
    (ji_const 1 (ji_goto (K 1))))))))
  | 1 => (ji_zreturn e)
  | _ => fun _ _ _ _ _ => False
def pX6_is : Nat → Nat := fun k => match k with
  | 0 => 0
  | 1 => 18
  | _ => 0
theorem sX6_is : jSound bX6_is pX6_is MX6_is := by
  intro e p ev R s m args below meth c hX hr hn hlk K hK k
  match k with
  | 0 => exact (js_aload_n hX dX6_is_0 rfl (js_getfR hX (ci := 6) (k := 0) (RX6, TX6, 1) rfl (by decide) rfl (Or.inl q717) (fun _ h => h) dX6_is_1 (js_aload_n hX dX6_is_4 rfl (js_callF hX ⟨"SelfSorting$Asked", "is", "([I)Z"⟩ (l := [(11, MX11_is), (6, MX6_is), (12, MX12_is)]) (n := 1) (List.forall_mem_cons.mpr ⟨⟨(RX11, TX11, 3), rfl, lw_app (jF_ws q1001 q987 q989 q181) (lw_meth q991), by decide +kernel⟩, List.forall_mem_cons.mpr ⟨⟨(RX6, TX6, 1), rfl, lw_app (jF_ws q1001 q995 q997 q172) (lw_meth q999), by decide +kernel⟩, List.forall_mem_cons.mpr ⟨⟨(RX12, TX12, 2), rfl, lw_app (jF_ws q1001 q976 q978 q182) (lw_meth q980), by decide +kernel⟩, fun _ h => (by cases h)⟩⟩⟩) (by decide +kernel) dX6_is_5 (js_if_ne hX (tgt := 17) dX6_is_10 rfl (js_const hX (z := 0) (by unfold inI; omega) dX6_is_17 (Or.inl ⟨0, rfl, rfl, rfl⟩) (hK 1))
    (js_const hX (z := 1) (by unfold inI; omega) dX6_is_13 (Or.inl ⟨1, rfl, rfl, rfl⟩) (js_goto hX (tgt := 18) dX6_is_14 rfl (hK 1))))))))
  | 1 => exact (js_zreturn hX hr hlk dX6_is_18)
  | k + 2 => intro ls st h nc ns hf; exact hf.elim
def bX7_of : jjB := fun e K k => match k with
  | 0 => (ji_aload 0 (ji_getfR 7 0 (ji_aload 1 (ji_callF e [(8, MX8_of), (9, MX9_of), (10, MX10_of), (7, MX7_of)] 2 (ji_lstore 2 (ji_const 0 (ji_istore 4 (K 1))))))))
  | 1 => (ji_iload 4 (ji_aload 0 (ji_getfR 7 1 (ji_callV e MJ6_size 14 1 (ji_icmp_ge (ji_lload 2 (ji_lreturn e))
    (ji_aload 0 (ji_getfR 7 1 (ji_iload 4 (ji_callV e MJ6_get 14 2 (ji_cast [7, 8, 9, 10] (ji_aload 1 (ji_callF e [(8, MX8_of), (9, MX9_of), (10, MX10_of), (7, MX7_of)] 2 (ji_lstore 5 (ji_aload 0 (ji_getfR 7 2 (ji_iload 4 (ji_callV e MJ6_get 14 2 (ji_cast [15] (ji_callV e MJ14_intValue 15 1 (ji_istore 7 (ji_iload 7 (ji_const 43 (ji_icmp_ne (ji_iload 7 (ji_const 45 (ji_icmp_ne (ji_iload 7 (ji_const 42 (ji_icmp_ne (ji_lload 5 (ji_lconst 0 (ji_lcmp (ji_if_ne (ji_lload 2 (ji_lload 5 (ji_ldiv (K 2))))
    (ji_lconst 0 (ji_goto (K 2)))))))
    (ji_lload 2 (ji_lload 5 (ji_lmul (ji_goto (K 2))))))))
    (ji_lload 2 (ji_lload 5 (ji_lsub (ji_goto (K 2))))))))
    (ji_lload 2 (ji_lload 5 (ji_ladd (ji_goto (K 2))))))))))))))))))))))))))))
  | 2 => (ji_lstore 8 (ji_lconst (-1000000) (ji_lconst 1000000 (ji_lload 8 (ji_callS e MJ3_min 2 (ji_callS e MJ3_max 2 (ji_lstore 2 (ji_iinc 4 1 (ji_goto (K 1))))))))))
  | _ => fun _ _ _ _ _ => False
def pX7_of : Nat → Nat := fun k => match k with
  | 0 => 0
  | 1 => 14
  | 2 => 120
  | _ => 0
theorem sX7_of : jSound bX7_of pX7_of MX7_of := by
  intro e p ev R s m args below meth c hX hr hn hlk K hK k
  match k with
  | 0 => exact (js_aload_n hX dX7_of_0 rfl (js_getfR hX (ci := 7) (k := 0) (RX7, TX7, 3) rfl (by decide) rfl (Or.inl q783) (fun _ h => h) dX7_of_1 (js_aload_n hX dX7_of_4 rfl (js_callF hX ⟨"SelfSorting$Sum", "of", "([I)J"⟩ (l := [(8, MX8_of), (9, MX9_of), (10, MX10_of), (7, MX7_of)]) (n := 1) (List.forall_mem_cons.mpr ⟨⟨(RX8, TX8, 1), rfl, lw_app (jF_ws q367 q383 q385 q174) (lw_meth q387), by decide +kernel⟩, List.forall_mem_cons.mpr ⟨⟨(RX9, TX9, 1), rfl, lw_app (jF_ws q367 q377 q379 q175) (lw_meth q381), by decide +kernel⟩, List.forall_mem_cons.mpr ⟨⟨(RX10, TX10, 1), rfl, lw_app (jF_ws q367 q369 q371 q176) (lw_meth q373), by decide +kernel⟩, List.forall_mem_cons.mpr ⟨⟨(RX7, TX7, 3), rfl, lw_app (jF_ws q367 q361 q363 q173) (lw_meth q365), by decide +kernel⟩, fun _ h => (by cases h)⟩⟩⟩⟩) (by decide +kernel) dX7_of_5 (js_lstore_n hX dX7_of_10 rfl (by decide) (js_const hX (z := 0) (by unfold inI; omega) dX7_of_11 (Or.inl ⟨0, rfl, rfl, rfl⟩) (js_istore hX dX7_of_12 (by decide) (hK 1))))))))
  | 1 => exact (js_iload hX dX7_of_14 (js_aload_n hX dX7_of_16 rfl (js_getfR hX (ci := 7) (k := 1) (RX7, TX7, 3) rfl (by decide) rfl (Or.inl q784) (fun _ h => h) dX7_of_17 (js_callV hX MJ6_size (ci := 14) (n := 0) (RJ6, TJ6, 3) rfl rfl (lw_V q388 q389 q390 q164 q391) npJ6_size dX7_of_20 (js_icmp_ge hX (tgt := 143) dX7_of_23 rfl (js_lload_n hX dX7_of_143 rfl (js_lreturn hX hr hlk dX7_of_144))
    (js_aload_n hX dX7_of_26 rfl (js_getfR hX (ci := 7) (k := 1) (RX7, TX7, 3) rfl (by decide) rfl (Or.inl q784) (fun _ h => h) dX7_of_27 (js_iload hX dX7_of_30 (js_callV hX MJ6_get (ci := 14) (n := 1) (RJ6, TJ6, 3) rfl rfl (lw_V q392 q393 q394 q164 q395) npJ6_get dX7_of_32 (js_cast hX (cs := [7, 8, 9, 10]) q406 (jCA_Sum) dX7_of_35 (js_aload_n hX dX7_of_38 rfl (js_callF hX ⟨"SelfSorting$Sum", "of", "([I)J"⟩ (l := [(8, MX8_of), (9, MX9_of), (10, MX10_of), (7, MX7_of)]) (n := 1) (List.forall_mem_cons.mpr ⟨⟨(RX8, TX8, 1), rfl, lw_app (jF_ws q367 q383 q385 q174) (lw_meth q387), by decide +kernel⟩, List.forall_mem_cons.mpr ⟨⟨(RX9, TX9, 1), rfl, lw_app (jF_ws q367 q377 q379 q175) (lw_meth q381), by decide +kernel⟩, List.forall_mem_cons.mpr ⟨⟨(RX10, TX10, 1), rfl, lw_app (jF_ws q367 q369 q371 q176) (lw_meth q373), by decide +kernel⟩, List.forall_mem_cons.mpr ⟨⟨(RX7, TX7, 3), rfl, lw_app (jF_ws q367 q361 q363 q173) (lw_meth q365), by decide +kernel⟩, fun _ h => (by cases h)⟩⟩⟩⟩) (by decide +kernel) dX7_of_39 (js_lstore hX dX7_of_44 (by decide) (js_aload_n hX dX7_of_46 rfl (js_getfR hX (ci := 7) (k := 2) (RX7, TX7, 3) rfl (by decide) rfl (Or.inl q785) (fun _ h => h) dX7_of_47 (js_iload hX dX7_of_50 (js_callV hX MJ6_get (ci := 14) (n := 1) (RJ6, TJ6, 3) rfl rfl (lw_V q392 q393 q394 q164 q395) npJ6_get dX7_of_52 (js_cast hX (cs := [15]) q407 (jCA_Integer) dX7_of_55 (js_callV hX MJ14_intValue (ci := 15) (n := 0) (RJ14, TJ14, 1) rfl rfl (lw_V q408 q409 q410 q178 q411) npJ14_intValue dX7_of_58 (js_istore hX dX7_of_61 (by decide) (js_iload hX dX7_of_63 (js_const hX (z := 43) (by unfold inI; omega) dX7_of_65 (Or.inr (Or.inl ⟨43, rfl, rfl, rfl⟩)) (js_icmp_ne hX (tgt := 77) dX7_of_67 rfl (js_iload hX dX7_of_77 (js_const hX (z := 45) (by unfold inI; omega) dX7_of_79 (Or.inr (Or.inl ⟨45, rfl, rfl, rfl⟩)) (js_icmp_ne hX (tgt := 91) dX7_of_81 rfl (js_iload hX dX7_of_91 (js_const hX (z := 42) (by unfold inI; omega) dX7_of_93 (Or.inr (Or.inl ⟨42, rfl, rfl, rfl⟩)) (js_icmp_ne hX (tgt := 105) dX7_of_95 rfl (js_lload hX dX7_of_105 (js_lconst hX (z := 0) (by unfold inL; omega) dX7_of_107 rfl (js_lcmp hX dX7_of_108 (js_if_ne hX (tgt := 116) dX7_of_109 rfl (js_lload_n hX dX7_of_116 rfl (js_lload hX dX7_of_117 (js_ldiv hX dX7_of_119 (hK 2))))
    (js_lconst hX (z := 0) (by unfold inL; omega) dX7_of_112 rfl (js_goto hX (tgt := 120) dX7_of_113 rfl (hK 2)))))))
    (js_lload_n hX dX7_of_98 rfl (js_lload hX dX7_of_99 (js_lmul hX dX7_of_101 (js_goto hX (tgt := 120) dX7_of_102 rfl (hK 2))))))))
    (js_lload_n hX dX7_of_84 rfl (js_lload hX dX7_of_85 (js_lsub hX dX7_of_87 (js_goto hX (tgt := 120) dX7_of_88 rfl (hK 2))))))))
    (js_lload_n hX dX7_of_70 rfl (js_lload hX dX7_of_71 (js_ladd hX dX7_of_73 (js_goto hX (tgt := 120) dX7_of_74 rfl (hK 2))))))))))))))))))))))))))))
  | 2 => exact (js_lstore hX dX7_of_120 (by decide) (js_ldc2 hX (z := (-1000000)) (by unfold inL; omega) dX7_of_122 q412 (js_ldc2 hX (z := 1000000) (by unfold inL; omega) dX7_of_125 q413 (js_lload hX dX7_of_128 (js_callS hX MJ3_min (n := 2) (lw_S q414 q415 q159 q416) npJ3_min dX7_of_130 (js_callS hX MJ3_max (n := 2) (lw_S q417 q418 q159 q419) npJ3_max dX7_of_133 (js_lstore_n hX dX7_of_136 rfl (by decide) (js_iinc hX dX7_of_137 (by decide) (js_goto hX (tgt := 14) dX7_of_140 rfl (hK 1))))))))))
  | k + 3 => intro ls st h nc ns hf; exact hf.elim
def bX7_init : jjB := fun e K k => match k with
  | 0 => (ji_aload 0 (ji_callI e MJ16_init 1 (ji_aload 0 (ji_new e 14 3 (ji_dup (ji_callI e MJ6_init 1 (ji_putfR 7 1 (ji_aload 0 (ji_new e 14 3 (ji_dup (ji_callI e MJ6_init 1 (ji_putfR 7 2 (ji_aload 0 (ji_aload 1 (ji_putfR 7 0 (ji_return e))))))))))))))))
  | _ => fun _ _ _ _ _ => False
def pX7_init : Nat → Nat := fun k => match k with
  | 0 => 0
  | _ => 0
theorem sX7_init : jSound bX7_init pX7_init MX7_init := by
  intro e p ev R s m args below meth c hX hr hn hlk K hK k
  match k with
  | 0 => exact (js_aload_n hX dX7_init_0 rfl (js_callI hX MJ16_init (n := 0) q780 q190 q2033 (lw_meth q191) rfl rfl npJ16_init dX7_init_1 (js_aload_n hX dX7_init_4 rfl (js_new hX (ci := 14) (RJ6, TJ6, 3) rfl (by decide) q781 q492 q164 dX7_init_5 (js_dup hX dX7_init_8 (js_callI hX MJ6_init (n := 0) q782 q494 q164 (lw_meth q495) rfl rfl npJ6_init dX7_init_9 (js_putfR hX (ci := 7) (k := 1) (RX7, TX7, 3) rfl (by decide) rfl rfl (Or.inl q784) (fun _ h => h) (Or.inr ⟨rfl, hn, rfl, q784⟩) dX7_init_12 (js_aload_n hX dX7_init_15 rfl (js_new hX (ci := 14) (RJ6, TJ6, 3) rfl (by decide) q781 q492 q164 dX7_init_16 (js_dup hX dX7_init_19 (js_callI hX MJ6_init (n := 0) q782 q494 q164 (lw_meth q495) rfl rfl npJ6_init dX7_init_20 (js_putfR hX (ci := 7) (k := 2) (RX7, TX7, 3) rfl (by decide) rfl rfl (Or.inl q785) (fun _ h => h) (Or.inr ⟨rfl, hn, rfl, q785⟩) dX7_init_23 (js_aload_n hX dX7_init_26 rfl (js_aload_n hX dX7_init_27 rfl (js_putfR hX (ci := 7) (k := 0) (RX7, TX7, 3) rfl (by decide) rfl rfl (Or.inl q783) (fun _ h => h) (Or.inr ⟨rfl, hn, rfl, q783⟩) dX7_init_28 (js_return hX hr hlk dX7_init_31))))))))))))))))
  | k + 1 => intro ls st h nc ns hf; exact hf.elim
def bX7_add : jjB := fun e K k => match k with
  | 0 => (ji_aload 0 (ji_getfR 7 2 (ji_iload 1 (ji_callS e MJ14_valueOf 1 (ji_callV e MJ6_add 14 2 (ji_pop (ji_aload 0 (ji_getfR 7 1 (ji_aload 2 (ji_callV e MJ6_add 14 2 (ji_pop (ji_return e))))))))))))
  | _ => fun _ _ _ _ _ => False
def pX7_add : Nat → Nat := fun k => match k with
  | 0 => 0
  | _ => 0
theorem sX7_add : jSound bX7_add pX7_add MX7_add := by
  intro e p ev R s m args below meth c hX hr hn hlk K hK k
  match k with
  | 0 => exact (js_aload_n hX dX7_add_0 rfl (js_getfR hX (ci := 7) (k := 2) (RX7, TX7, 3) rfl (by decide) rfl (Or.inl q785) (fun _ h => h) dX7_add_1 (js_iload_n hX dX7_add_4 rfl (js_callS hX MJ14_valueOf (n := 1) (lw_S q797 q798 q178 q799) npJ14_valueOf dX7_add_5 (js_callV hX MJ6_add (ci := 14) (n := 1) (RJ6, TJ6, 3) rfl rfl (lw_V q817 q818 q819 q164 q820) npJ6_add dX7_add_8 (js_pop hX dX7_add_11 (js_aload_n hX dX7_add_12 rfl (js_getfR hX (ci := 7) (k := 1) (RX7, TX7, 3) rfl (by decide) rfl (Or.inl q784) (fun _ h => h) dX7_add_13 (js_aload_n hX dX7_add_16 rfl (js_callV hX MJ6_add (ci := 14) (n := 1) (RJ6, TJ6, 3) rfl rfl (lw_V q817 q818 q819 q164 q820) npJ6_add dX7_add_17 (js_pop hX dX7_add_20 (js_return hX hr hlk dX7_add_21))))))))))))
  | k + 1 => intro ls st h nc ns hf; exact hf.elim
def bX7_itself : jjB := fun e K k => match k with
  | 0 => (ji_aload 0 (ji_getfR 7 1 (ji_callV e MJ6_isEmpty 14 1 (ji_if_eq (ji_aload 0 (K 1))
    (ji_aload 0 (ji_getfR 7 0 (ji_goto (K 1))))))))
  | 1 => (ji_areturn e)
  | _ => fun _ _ _ _ _ => False
def pX7_itself : Nat → Nat := fun k => match k with
  | 0 => 0
  | 1 => 18
  | _ => 0
theorem sX7_itself : jSound bX7_itself pX7_itself MX7_itself := by
  intro e p ev R s m args below meth c hX hr hn hlk K hK k
  match k with
  | 0 => exact (js_aload_n hX dX7_itself_0 rfl (js_getfR hX (ci := 7) (k := 1) (RX7, TX7, 3) rfl (by decide) rfl (Or.inl q784) (fun _ h => h) dX7_itself_1 (js_callV hX MJ6_isEmpty (ci := 14) (n := 0) (RJ6, TJ6, 3) rfl rfl (lw_V q880 q881 q882 q164 q883) npJ6_isEmpty dX7_itself_4 (js_if_eq hX (tgt := 17) dX7_itself_7 rfl (js_aload_n hX dX7_itself_17 rfl (hK 1))
    (js_aload_n hX dX7_itself_10 rfl (js_getfR hX (ci := 7) (k := 0) (RX7, TX7, 3) rfl (by decide) rfl (Or.inl q783) (fun _ h => h) dX7_itself_11 (js_goto hX (tgt := 18) dX7_itself_14 rfl (hK 1))))))))
  | 1 => exact (js_areturn hX hr (by first | exact Or.inl ⟨_, rfl⟩ | exact Or.inr ⟨_, rfl⟩) hlk dX7_itself_18)
  | k + 2 => intro ls st h nc ns hf; exact hf.elim
def bX8_of : jjB := fun e K k => match k with
  | 0 => (ji_aload 0 (ji_getfI 8 0 (ji_i2l (ji_lreturn e))))
  | _ => fun _ _ _ _ _ => False
def pX8_of : Nat → Nat := fun k => match k with
  | 0 => 0
  | _ => 0
theorem sX8_of : jSound bX8_of pX8_of MX8_of := by
  intro e p ev R s m args below meth c hX hr hn hlk K hK k
  match k with
  | 0 => exact (js_aload_n hX dX8_of_0 rfl (js_getfI hX (ci := 8) (k := 0) (RX8, TX8, 1) rfl (by decide) rfl (Or.inl q741) (fun _ h => h) dX8_of_1 (js_i2l hX dX8_of_4 (js_lreturn hX hr hlk dX8_of_5))))
  | k + 1 => intro ls st h nc ns hf; exact hf.elim
def bX8_init : jjB := fun e K k => match k with
  | 0 => (ji_aload 0 (ji_callI e MJ12_init 1 (ji_aload 0 (ji_iload 1 (ji_putfI 8 0 (ji_return e))))))
  | _ => fun _ _ _ _ _ => False
def pX8_init : Nat → Nat := fun k => match k with
  | 0 => 0
  | _ => 0
theorem sX8_init : jSound bX8_init pX8_init MX8_init := by
  intro e p ev R s m args below meth c hX hr hn hlk K hK k
  match k with
  | 0 => exact (js_aload_n hX dX8_init_0 rfl (js_callI hX MJ12_init (n := 0) q740 q714 q171 (lw_meth q715) rfl rfl npJ12_init dX8_init_1 (js_aload_n hX dX8_init_4 rfl (js_iload_n hX dX8_init_5 rfl (js_putfI hX (ci := 8) (k := 0) (RX8, TX8, 1) rfl (by decide) rfl (Or.inl q741) (fun _ h => h) (Or.inr ⟨rfl, hn, rfl, q741⟩) dX8_init_6 (js_return hX hr hlk dX8_init_9))))))
  | k + 1 => intro ls st h nc ns hf; exact hf.elim
def bX9_of : jjB := fun e K k => match k with
  | 0 => (ji_aload 1 (ji_aload 0 (ji_getfI 9 0 (ji_iald (ji_i2l (ji_lreturn e))))))
  | _ => fun _ _ _ _ _ => False
def pX9_of : Nat → Nat := fun k => match k with
  | 0 => 0
  | _ => 0
theorem sX9_of : jSound bX9_of pX9_of MX9_of := by
  intro e p ev R s m args below meth c hX hr hn hlk K hK k
  match k with
  | 0 => exact (js_aload_n hX dX9_of_0 rfl (js_aload_n hX dX9_of_1 rfl (js_getfI hX (ci := 9) (k := 0) (RX9, TX9, 1) rfl (by decide) rfl (Or.inl q759) (fun _ h => h) dX9_of_2 (js_iald hX dX9_of_5 (js_i2l hX dX9_of_6 (js_lreturn hX hr hlk dX9_of_7))))))
  | k + 1 => intro ls st h nc ns hf; exact hf.elim
def bX9_init : jjB := fun e K k => match k with
  | 0 => (ji_aload 0 (ji_callI e MJ12_init 1 (ji_aload 0 (ji_iload 1 (ji_putfI 9 0 (ji_return e))))))
  | _ => fun _ _ _ _ _ => False
def pX9_init : Nat → Nat := fun k => match k with
  | 0 => 0
  | _ => 0
theorem sX9_init : jSound bX9_init pX9_init MX9_init := by
  intro e p ev R s m args below meth c hX hr hn hlk K hK k
  match k with
  | 0 => exact (js_aload_n hX dX9_init_0 rfl (js_callI hX MJ12_init (n := 0) q758 q714 q171 (lw_meth q715) rfl rfl npJ12_init dX9_init_1 (js_aload_n hX dX9_init_4 rfl (js_iload_n hX dX9_init_5 rfl (js_putfI hX (ci := 9) (k := 0) (RX9, TX9, 1) rfl (by decide) rfl (Or.inl q759) (fun _ h => h) (Or.inr ⟨rfl, hn, rfl, q759⟩) dX9_init_6 (js_return hX hr hlk dX9_init_9))))))
  | k + 1 => intro ls st h nc ns hf; exact hf.elim
