/-! blocks of the methods and their soundness -/
set_option maxRecDepth 100000
def bX0_image : jjB := fun e K k => match k with
  | 0 => (ji_aload 0 (ji_getfR 0 1 (ji_aload 0 (ji_getfR 0 0 (ji_callV e MX1_be 1 2 (ji_aload 0 (ji_getfR 0 0 (ji_getfR 1 2 (ji_const 44 (ji_iald (ji_ireturn e)))))))))))
  | _ => fun _ _ _ _ _ => False
def pX0_image : Nat → Nat := fun k => match k with
  | 0 => 0
  | _ => 0
theorem sX0_image : jSound bX0_image pX0_image MX0_image := by
  intro e p ev R s m args below meth c hX hr hn hlk K hK k
  match k with
  | 0 => exact (js_aload_n hX dX0_image_0 rfl (js_getfR hX (ci := 0) (k := 1) (RX0, TX0, 20) rfl (by decide) rfl (Or.inl q256) (fun _ h => h) dX0_image_1 (js_aload_n hX dX0_image_4 rfl (js_getfR hX (ci := 0) (k := 0) (RX0, TX0, 20) rfl (by decide) rfl (Or.inl q255) (fun _ h => h) dX0_image_5 (js_callV hX MX1_be (ci := 1) (n := 1) (RX1, TX1, 7) rfl rfl (lw_V q242 q243 q244 q153 q245) npX1_be dX0_image_8 (js_aload_n hX dX0_image_11 rfl (js_getfR hX (ci := 0) (k := 0) (RX0, TX0, 20) rfl (by decide) rfl (Or.inl q255) (fun _ h => h) dX0_image_12 (js_getfR hX (ci := 1) (k := 2) (RX1, TX1, 7) rfl (by decide) rfl (Or.inr ⟨_, q216⟩) (fun _ h => h) dX0_image_15 (js_const hX (z := 44) (by unfold inI; omega) dX0_image_18 (Or.inr (Or.inl ⟨44, rfl, rfl, rfl⟩)) (js_iald hX dX0_image_20 (js_ireturn hX hr hlk dX0_image_21)))))))))))
  | k + 1 => intro ls st h nc ns hf; exact hf.elim
def bX0_back : jjB := fun e K k => match k with
  | 0 => (ji_aload 0 (ji_getfR 0 0 (ji_aload 0 (ji_getfR 0 1 (ji_callV e MX1_be 1 2 (ji_aload 0 (ji_getfR 0 0 (ji_getfR 1 2 (ji_const 44 (ji_iald (ji_ireturn e)))))))))))
  | _ => fun _ _ _ _ _ => False
def pX0_back : Nat → Nat := fun k => match k with
  | 0 => 0
  | _ => 0
theorem sX0_back : jSound bX0_back pX0_back MX0_back := by
  intro e p ev R s m args below meth c hX hr hn hlk K hK k
  match k with
  | 0 => exact (js_aload_n hX dX0_back_0 rfl (js_getfR hX (ci := 0) (k := 0) (RX0, TX0, 20) rfl (by decide) rfl (Or.inl q255) (fun _ h => h) dX0_back_1 (js_aload_n hX dX0_back_4 rfl (js_getfR hX (ci := 0) (k := 1) (RX0, TX0, 20) rfl (by decide) rfl (Or.inl q256) (fun _ h => h) dX0_back_5 (js_callV hX MX1_be (ci := 1) (n := 1) (RX1, TX1, 7) rfl rfl (lw_V q242 q243 q244 q153 q245) npX1_be dX0_back_8 (js_aload_n hX dX0_back_11 rfl (js_getfR hX (ci := 0) (k := 0) (RX0, TX0, 20) rfl (by decide) rfl (Or.inl q255) (fun _ h => h) dX0_back_12 (js_getfR hX (ci := 1) (k := 2) (RX1, TX1, 7) rfl (by decide) rfl (Or.inr ⟨_, q216⟩) (fun _ h => h) dX0_back_15 (js_const hX (z := 44) (by unfold inI; omega) dX0_back_18 (Or.inr (Or.inl ⟨44, rfl, rfl, rfl⟩)) (js_iald hX dX0_back_20 (js_ireturn hX hr hlk dX0_back_21)))))))))))
  | k + 1 => intro ls st h nc ns hf; exact hf.elim
def bX0_about : jjB := fun e K k => match k with
  | 0 => (ji_iload 1 (ji_tsw 0 (ji_const (-2) (ji_ireturn e)) [(ji_aload 0 (ji_getfR 0 0 (ji_getfR 1 0 (ji_const 0 (ji_iald (ji_ireturn e)))))), (ji_aload 0 (ji_getfR 0 0 (ji_getfR 1 2 (ji_const 44 (ji_iald (ji_ireturn e)))))), (ji_aload 0 (ji_getfR 0 0 (ji_getfR 1 2 (ji_const 43 (ji_iald (ji_ireturn e)))))), (ji_aload 0 (ji_getfR 0 0 (ji_getfR 1 0 (ji_const 1 (ji_iald (ji_ireturn e)))))), (ji_aload 0 (ji_getfR 0 0 (ji_getfR 1 2 (ji_const 45 (ji_iald (ji_ireturn e)))))), (ji_aload 0 (ji_getfR 0 0 (ji_getfR 1 0 (ji_const 2 (ji_iald (ji_ireturn e)))))), (ji_aload 0 (ji_getfR 0 0 (ji_getfR 1 0 (ji_const 3 (ji_iald (ji_ireturn e)))))), (ji_aload 0 (ji_getfR 0 0 (ji_getfR 1 0 (ji_const 4 (ji_iald (ji_ireturn e)))))), (ji_aload 0 (ji_getfR 0 0 (ji_getfR 1 0 (ji_const 5 (ji_iald (ji_ireturn e)))))), (ji_aload 0 (ji_callV e MX0_onFloor 0 1 (ji_ireturn e))), (ji_aload 0 (ji_getfI 0 3 (ji_ireturn e)))]))
  | _ => fun _ _ _ _ _ => False
def pX0_about : Nat → Nat := fun k => match k with
  | 0 => 0
  | _ => 0
theorem sX0_about : jSound bX0_about pX0_about MX0_about := by
  intro e p ev R s m args below meth c hX hr hn hlk K hK k
  match k with
  | 0 => exact (js_iload_n hX dX0_about_0 rfl (js_tsw hX (dflt := 162) (lo := 0) (hi := 10) (tgt := 163) (tgts := [60, 70, 81, 92, 102, 113, 123, 133, 143, 153, 158]) (offs := #[59, 69, 80, 91, 101, 112, 122, 132, 142, 152, 157]) dX0_about_1 rfl (by decide) (js_const hX (z := (-2)) (by unfold inI; omega) dX0_about_163 (Or.inr (Or.inl ⟨(-2), rfl, rfl, rfl⟩)) (js_ireturn hX hr hlk dX0_about_165)) (jswl_cons (js_aload_n hX dX0_about_60 rfl (js_getfR hX (ci := 0) (k := 0) (RX0, TX0, 20) rfl (by decide) rfl (Or.inl q255) (fun _ h => h) dX0_about_61 (js_getfR hX (ci := 1) (k := 0) (RX1, TX1, 7) rfl (by decide) rfl (Or.inr ⟨_, q212⟩) (fun _ h => h) dX0_about_64 (js_const hX (z := 0) (by unfold inI; omega) dX0_about_67 (Or.inl ⟨0, rfl, rfl, rfl⟩) (js_iald hX dX0_about_68 (js_ireturn hX hr hlk dX0_about_69)))))) (jswl_cons (js_aload_n hX dX0_about_70 rfl (js_getfR hX (ci := 0) (k := 0) (RX0, TX0, 20) rfl (by decide) rfl (Or.inl q255) (fun _ h => h) dX0_about_71 (js_getfR hX (ci := 1) (k := 2) (RX1, TX1, 7) rfl (by decide) rfl (Or.inr ⟨_, q216⟩) (fun _ h => h) dX0_about_74 (js_const hX (z := 44) (by unfold inI; omega) dX0_about_77 (Or.inr (Or.inl ⟨44, rfl, rfl, rfl⟩)) (js_iald hX dX0_about_79 (js_ireturn hX hr hlk dX0_about_80)))))) (jswl_cons (js_aload_n hX dX0_about_81 rfl (js_getfR hX (ci := 0) (k := 0) (RX0, TX0, 20) rfl (by decide) rfl (Or.inl q255) (fun _ h => h) dX0_about_82 (js_getfR hX (ci := 1) (k := 2) (RX1, TX1, 7) rfl (by decide) rfl (Or.inr ⟨_, q216⟩) (fun _ h => h) dX0_about_85 (js_const hX (z := 43) (by unfold inI; omega) dX0_about_88 (Or.inr (Or.inl ⟨43, rfl, rfl, rfl⟩)) (js_iald hX dX0_about_90 (js_ireturn hX hr hlk dX0_about_91)))))) (jswl_cons (js_aload_n hX dX0_about_92 rfl (js_getfR hX (ci := 0) (k := 0) (RX0, TX0, 20) rfl (by decide) rfl (Or.inl q255) (fun _ h => h) dX0_about_93 (js_getfR hX (ci := 1) (k := 0) (RX1, TX1, 7) rfl (by decide) rfl (Or.inr ⟨_, q212⟩) (fun _ h => h) dX0_about_96 (js_const hX (z := 1) (by unfold inI; omega) dX0_about_99 (Or.inl ⟨1, rfl, rfl, rfl⟩) (js_iald hX dX0_about_100 (js_ireturn hX hr hlk dX0_about_101)))))) (jswl_cons (js_aload_n hX dX0_about_102 rfl (js_getfR hX (ci := 0) (k := 0) (RX0, TX0, 20) rfl (by decide) rfl (Or.inl q255) (fun _ h => h) dX0_about_103 (js_getfR hX (ci := 1) (k := 2) (RX1, TX1, 7) rfl (by decide) rfl (Or.inr ⟨_, q216⟩) (fun _ h => h) dX0_about_106 (js_const hX (z := 45) (by unfold inI; omega) dX0_about_109 (Or.inr (Or.inl ⟨45, rfl, rfl, rfl⟩)) (js_iald hX dX0_about_111 (js_ireturn hX hr hlk dX0_about_112)))))) (jswl_cons (js_aload_n hX dX0_about_113 rfl (js_getfR hX (ci := 0) (k := 0) (RX0, TX0, 20) rfl (by decide) rfl (Or.inl q255) (fun _ h => h) dX0_about_114 (js_getfR hX (ci := 1) (k := 0) (RX1, TX1, 7) rfl (by decide) rfl (Or.inr ⟨_, q212⟩) (fun _ h => h) dX0_about_117 (js_const hX (z := 2) (by unfold inI; omega) dX0_about_120 (Or.inl ⟨2, rfl, rfl, rfl⟩) (js_iald hX dX0_about_121 (js_ireturn hX hr hlk dX0_about_122)))))) (jswl_cons (js_aload_n hX dX0_about_123 rfl (js_getfR hX (ci := 0) (k := 0) (RX0, TX0, 20) rfl (by decide) rfl (Or.inl q255) (fun _ h => h) dX0_about_124 (js_getfR hX (ci := 1) (k := 0) (RX1, TX1, 7) rfl (by decide) rfl (Or.inr ⟨_, q212⟩) (fun _ h => h) dX0_about_127 (js_const hX (z := 3) (by unfold inI; omega) dX0_about_130 (Or.inl ⟨3, rfl, rfl, rfl⟩) (js_iald hX dX0_about_131 (js_ireturn hX hr hlk dX0_about_132)))))) (jswl_cons (js_aload_n hX dX0_about_133 rfl (js_getfR hX (ci := 0) (k := 0) (RX0, TX0, 20) rfl (by decide) rfl (Or.inl q255) (fun _ h => h) dX0_about_134 (js_getfR hX (ci := 1) (k := 0) (RX1, TX1, 7) rfl (by decide) rfl (Or.inr ⟨_, q212⟩) (fun _ h => h) dX0_about_137 (js_const hX (z := 4) (by unfold inI; omega) dX0_about_140 (Or.inl ⟨4, rfl, rfl, rfl⟩) (js_iald hX dX0_about_141 (js_ireturn hX hr hlk dX0_about_142)))))) (jswl_cons (js_aload_n hX dX0_about_143 rfl (js_getfR hX (ci := 0) (k := 0) (RX0, TX0, 20) rfl (by decide) rfl (Or.inl q255) (fun _ h => h) dX0_about_144 (js_getfR hX (ci := 1) (k := 0) (RX1, TX1, 7) rfl (by decide) rfl (Or.inr ⟨_, q212⟩) (fun _ h => h) dX0_about_147 (js_const hX (z := 5) (by unfold inI; omega) dX0_about_150 (Or.inl ⟨5, rfl, rfl, rfl⟩) (js_iald hX dX0_about_151 (js_ireturn hX hr hlk dX0_about_152)))))) (jswl_cons (js_aload_n hX dX0_about_153 rfl (js_callV hX MX0_onFloor (ci := 0) (n := 0) (RX0, TX0, 20) rfl rfl (lw_V q1333 q1335 qs65 q152 q1336) npX0_onFloor dX0_about_154 (js_ireturn hX hr hlk dX0_about_157))) (jswl_cons (js_aload_n hX dX0_about_158 rfl (js_getfI hX (ci := 0) (k := 3) (RX0, TX0, 20) rfl (by decide) rfl (Or.inl q258) (fun _ h => h) dX0_about_159 (js_ireturn hX hr hlk dX0_about_162))) jswl_nil)))))))))))))
  | k + 1 => intro ls st h nc ns hf; exact hf.elim
def bX0_onFloor : jjB := fun e K k => match k with
  | 0 => (ji_const 0 (ji_istore 1 (ji_const 0 (ji_istore 2 (K 1)))))
  | 1 => (ji_iload 2 (ji_aload 0 (ji_getfR 0 0 (ji_getfR 1 0 (ji_const 0 (ji_iald (ji_icmp_ge (ji_iload 1 (ji_ireturn e))
    (ji_iload 1 (ji_aload 0 (ji_iload 2 (ji_callV e MX0_whereIs 0 2 (ji_const 4 (ji_icmp_ne (ji_const 0 (K 2))
    (ji_const 1 (ji_iload 2 (ji_ishl (ji_goto (K 2))))))))))))))))))
  | 2 => (ji_ior (ji_istore 1 (ji_iinc 2 1 (ji_goto (K 1)))))
  | _ => fun _ _ _ _ _ => False
def pX0_onFloor : Nat → Nat := fun k => match k with
  | 0 => 0
  | 1 => 4
  | 2 => 34
  | _ => 0
theorem sX0_onFloor : jSound bX0_onFloor pX0_onFloor MX0_onFloor := by
  intro e p ev R s m args below meth c hX hr hn hlk K hK k
  match k with
  | 0 => exact (js_const hX (z := 0) (by unfold inI; omega) dX0_onFloor_0 (Or.inl ⟨0, rfl, rfl, rfl⟩) (js_istore_n hX dX0_onFloor_1 rfl (by decide) (js_const hX (z := 0) (by unfold inI; omega) dX0_onFloor_2 (Or.inl ⟨0, rfl, rfl, rfl⟩) (js_istore_n hX dX0_onFloor_3 rfl (by decide) (hK 1)))))
  | 1 => exact (js_iload_n hX dX0_onFloor_4 rfl (js_aload_n hX dX0_onFloor_5 rfl (js_getfR hX (ci := 0) (k := 0) (RX0, TX0, 20) rfl (by decide) rfl (Or.inl q255) (fun _ h => h) dX0_onFloor_6 (js_getfR hX (ci := 1) (k := 0) (RX1, TX1, 7) rfl (by decide) rfl (Or.inr ⟨_, q212⟩) (fun _ h => h) dX0_onFloor_9 (js_const hX (z := 0) (by unfold inI; omega) dX0_onFloor_12 (Or.inl ⟨0, rfl, rfl, rfl⟩) (js_iald hX dX0_onFloor_13 (js_icmp_ge hX (tgt := 42) dX0_onFloor_14 rfl (js_iload_n hX dX0_onFloor_42 rfl (js_ireturn hX hr hlk dX0_onFloor_43))
    (js_iload_n hX dX0_onFloor_17 rfl (js_aload_n hX dX0_onFloor_18 rfl (js_iload_n hX dX0_onFloor_19 rfl (js_callV hX MX0_whereIs (ci := 0) (n := 1) (RX0, TX0, 20) rfl rfl (lw_V q1059 q1061 qs38 q152 q1062) npX0_whereIs dX0_onFloor_20 (js_const hX (z := 4) (by unfold inI; omega) dX0_onFloor_23 (Or.inl ⟨4, rfl, rfl, rfl⟩) (js_icmp_ne hX (tgt := 33) dX0_onFloor_24 rfl (js_const hX (z := 0) (by unfold inI; omega) dX0_onFloor_33 (Or.inl ⟨0, rfl, rfl, rfl⟩) (hK 2))
    (js_const hX (z := 1) (by unfold inI; omega) dX0_onFloor_27 (Or.inl ⟨1, rfl, rfl, rfl⟩) (js_iload_n hX dX0_onFloor_28 rfl (js_ishl hX dX0_onFloor_29 (js_goto hX (tgt := 34) dX0_onFloor_30 rfl (hK 2))))))))))))))))))
  | 2 => exact (js_ior hX dX0_onFloor_34 (js_istore_n hX dX0_onFloor_35 rfl (by decide) (js_iinc hX dX0_onFloor_36 (by decide) (js_goto hX (tgt := 4) dX0_onFloor_39 rfl (hK 1)))))
  | k + 3 => intro ls st h nc ns hf; exact hf.elim
def bX1_init : jjB := fun e K k => match k with
  | 0 => (ji_aload 0 (ji_callI e MJ16_init 1 (ji_aload 0 (ji_const 6 (ji_newarr e (-1) (ji_putfR 1 0 (ji_aload 0 (ji_const 3 (ji_newarr e (-1) (ji_putfR 1 1 (ji_aload 0 (ji_const 287 (ji_newarr e (-1) (ji_putfR 1 2 (ji_aload 0 (ji_const 10 (ji_const 5 (ji_multi e (ji_putfR 1 3 (ji_aload 0 (ji_const 12 (ji_const 4 (ji_multi e (ji_putfR 1 4 (ji_aload 0 (ji_const 30 (ji_const 287 (ji_multi e (ji_putfR 1 5 (ji_aload 0 (ji_const 4 (ji_newarr e (-6) (ji_putfR 1 6 (ji_aload 0 (ji_getfR 1 0 (ji_const 3 (ji_const (-1) (ji_iast (ji_aload 0 (ji_getfR 1 0 (ji_const 1 (ji_const 1 (ji_iast (ji_aload 0 (ji_getfR 1 1 (ji_const 30 (ji_callS e MJ0_fill 2 (ji_aload 0 (ji_getfR 1 2 (ji_const 33 (ji_const 43 (ji_const 3 (ji_callS e MJ0_fill_2 4 (ji_aload 0 (ji_getfR 1 2 (ji_const 45 (ji_const 31 (ji_iast (ji_return e)))))))))))))))))))))))))))))))))))))))))))))))))))))))))))
  | _ => fun _ _ _ _ _ => False
def pX1_init : Nat → Nat := fun k => match k with
  | 0 => 0
  | _ => 0
theorem sX1_init : jSound bX1_init pX1_init MX1_init := by
  intro e p ev R s m args below meth c hX hr hn hlk K hK k
  match k with
  | 0 => exact (js_aload_n hX dX1_init_0 rfl (js_callI hX MJ16_init (n := 0) q197 q190 q2033 (lw_meth q191) rfl rfl npJ16_init dX1_init_1 (js_aload_n hX dX1_init_4 rfl (js_const hX (z := 6) (by unfold inI; omega) dX1_init_5 (Or.inr (Or.inl ⟨6, rfl, rfl, rfl⟩)) (js_newarr hX (cd := (-1)) (atype := .int) (by decide) (by decide) rfl rfl (fun _ _ h => h) (by decide) q240 dX1_init_7 (js_putfR hX (ci := 1) (k := 0) (RX1, TX1, 7) rfl (by decide) rfl rfl (Or.inl q211) (fun _ h => h) (Or.inr ⟨rfl, hn, rfl, q211⟩) dX1_init_9 (js_aload_n hX dX1_init_12 rfl (js_const hX (z := 3) (by unfold inI; omega) dX1_init_13 (Or.inl ⟨3, rfl, rfl, rfl⟩) (js_newarr hX (cd := (-1)) (atype := .int) (by decide) (by decide) rfl rfl (fun _ _ h => h) (by decide) q240 dX1_init_14 (js_putfR hX (ci := 1) (k := 1) (RX1, TX1, 7) rfl (by decide) rfl rfl (Or.inl q213) (fun _ h => h) (Or.inr ⟨rfl, hn, rfl, q213⟩) dX1_init_16 (js_aload_n hX dX1_init_19 rfl (js_const hX (z := 287) (by unfold inI; omega) dX1_init_20 (Or.inr (Or.inr (Or.inl ⟨287, rfl, rfl, rfl⟩))) (js_newarr hX (cd := (-1)) (atype := .int) (by decide) (by decide) rfl rfl (fun _ _ h => h) (by decide) q240 dX1_init_23 (js_putfR hX (ci := 1) (k := 2) (RX1, TX1, 7) rfl (by decide) rfl rfl (Or.inl q215) (fun _ h => h) (Or.inr ⟨rfl, hn, rfl, q215⟩) dX1_init_25 (js_aload_n hX dX1_init_28 rfl (js_const hX (z := 10) (by unfold inI; omega) dX1_init_29 (Or.inr (Or.inl ⟨10, rfl, rfl, rfl⟩)) (js_const hX (z := 5) (by unfold inI; omega) dX1_init_31 (Or.inl ⟨5, rfl, rfl, rfl⟩) (js_multi hX q198 q199 q240 dX1_init_32 (js_putfR hX (ci := 1) (k := 3) (RX1, TX1, 7) rfl (by decide) rfl rfl (Or.inl q217) (fun _ h => h) (Or.inr ⟨rfl, hn, rfl, q217⟩) dX1_init_36 (js_aload_n hX dX1_init_39 rfl (js_const hX (z := 12) (by unfold inI; omega) dX1_init_40 (Or.inr (Or.inl ⟨12, rfl, rfl, rfl⟩)) (js_const hX (z := 4) (by unfold inI; omega) dX1_init_42 (Or.inl ⟨4, rfl, rfl, rfl⟩) (js_multi hX q198 q199 q240 dX1_init_43 (js_putfR hX (ci := 1) (k := 4) (RX1, TX1, 7) rfl (by decide) rfl rfl (Or.inl q219) (fun _ h => h) (Or.inr ⟨rfl, hn, rfl, q219⟩) dX1_init_47 (js_aload_n hX dX1_init_50 rfl (js_const hX (z := 30) (by unfold inI; omega) dX1_init_51 (Or.inr (Or.inl ⟨30, rfl, rfl, rfl⟩)) (js_const hX (z := 287) (by unfold inI; omega) dX1_init_53 (Or.inr (Or.inr (Or.inl ⟨287, rfl, rfl, rfl⟩))) (js_multi hX q198 q199 q240 dX1_init_56 (js_putfR hX (ci := 1) (k := 5) (RX1, TX1, 7) rfl (by decide) rfl rfl (Or.inl q221) (fun _ h => h) (Or.inr ⟨rfl, hn, rfl, q221⟩) dX1_init_60 (js_aload_n hX dX1_init_63 rfl (js_const hX (z := 4) (by unfold inI; omega) dX1_init_64 (Or.inl ⟨4, rfl, rfl, rfl⟩) (js_anew hX (cd := (-6)) (by decide) (by decide) rfl q200 q201 dX1_init_65 (js_putfR hX (ci := 1) (k := 6) (RX1, TX1, 7) rfl (by decide) rfl rfl (Or.inl q223) (fun _ h => h) (Or.inr ⟨rfl, hn, rfl, q223⟩) dX1_init_68 (js_aload_n hX dX1_init_71 rfl (js_getfR hX (ci := 1) (k := 0) (RX1, TX1, 7) rfl (by decide) rfl (Or.inl q211) (fun _ h => h) dX1_init_72 (js_const hX (z := 3) (by unfold inI; omega) dX1_init_75 (Or.inl ⟨3, rfl, rfl, rfl⟩) (js_const hX (z := (-1)) (by unfold inI; omega) dX1_init_76 (Or.inl ⟨(-1), rfl, rfl, rfl⟩) (js_iast hX dX1_init_77 (js_aload_n hX dX1_init_78 rfl (js_getfR hX (ci := 1) (k := 0) (RX1, TX1, 7) rfl (by decide) rfl (Or.inl q211) (fun _ h => h) dX1_init_79 (js_const hX (z := 1) (by unfold inI; omega) dX1_init_82 (Or.inl ⟨1, rfl, rfl, rfl⟩) (js_const hX (z := 1) (by unfold inI; omega) dX1_init_83 (Or.inl ⟨1, rfl, rfl, rfl⟩) (js_iast hX dX1_init_84 (js_aload_n hX dX1_init_85 rfl (js_getfR hX (ci := 1) (k := 1) (RX1, TX1, 7) rfl (by decide) rfl (Or.inl q213) (fun _ h => h) dX1_init_86 (js_const hX (z := 30) (by unfold inI; omega) dX1_init_89 (Or.inr (Or.inl ⟨30, rfl, rfl, rfl⟩)) (js_callS hX MJ0_fill (n := 2) (lw_S q202 q203 q154 q204) npJ0_fill dX1_init_91 (js_aload_n hX dX1_init_94 rfl (js_getfR hX (ci := 1) (k := 2) (RX1, TX1, 7) rfl (by decide) rfl (Or.inl q215) (fun _ h => h) dX1_init_95 (js_const hX (z := 33) (by unfold inI; omega) dX1_init_98 (Or.inr (Or.inl ⟨33, rfl, rfl, rfl⟩)) (js_const hX (z := 43) (by unfold inI; omega) dX1_init_100 (Or.inr (Or.inl ⟨43, rfl, rfl, rfl⟩)) (js_const hX (z := 3) (by unfold inI; omega) dX1_init_102 (Or.inl ⟨3, rfl, rfl, rfl⟩) (js_callS hX MJ0_fill_2 (n := 4) (lw_S q205 q206 q154 q207) npJ0_fill_2 dX1_init_103 (js_aload_n hX dX1_init_106 rfl (js_getfR hX (ci := 1) (k := 2) (RX1, TX1, 7) rfl (by decide) rfl (Or.inl q215) (fun _ h => h) dX1_init_107 (js_const hX (z := 45) (by unfold inI; omega) dX1_init_110 (Or.inr (Or.inl ⟨45, rfl, rfl, rfl⟩)) (js_const hX (z := 31) (by unfold inI; omega) dX1_init_112 (Or.inr (Or.inl ⟨31, rfl, rfl, rfl⟩)) (js_iast hX dX1_init_114 (js_return hX hr hlk dX1_init_115)))))))))))))))))))))))))))))))))))))))))))))))))))))))))))
  | k + 1 => intro ls st h nc ns hf; exact hf.elim
def bX1_be : jjB := fun e K k => match k with
  | 0 => (ji_aload 1 (ji_getfR 1 0 (ji_aload 0 (ji_getfR 1 0 (ji_callS e MX1_copy 2 (ji_aload 1 (ji_getfR 1 1 (ji_aload 0 (ji_getfR 1 1 (ji_callS e MX1_copy 2 (ji_aload 1 (ji_getfR 1 2 (ji_aload 0 (ji_getfR 1 2 (ji_callS e MX1_copy 2 (ji_aload 1 (ji_getfR 1 3 (ji_aload 0 (ji_getfR 1 3 (ji_callS e MX1_copy_2 2 (ji_aload 1 (ji_getfR 1 4 (ji_aload 0 (ji_getfR 1 4 (ji_callS e MX1_copy_2 2 (ji_aload 1 (ji_getfR 1 5 (ji_aload 0 (ji_getfR 1 5 (ji_callS e MX1_copy_2 2 (ji_aload 1 (ji_getfR 1 6 (ji_const 0 (ji_aload 0 (ji_getfR 1 6 (ji_const 0 (ji_const 4 (ji_acopyT (ji_return e)))))))))))))))))))))))))))))))))))))))
  | _ => fun _ _ _ _ _ => False
def pX1_be : Nat → Nat := fun k => match k with
  | 0 => 0
  | _ => 0
theorem sX1_be : jSound bX1_be pX1_be MX1_be := by
  intro e p ev R s m args below meth c hX hr hn hlk K hK k
  match k with
  | 0 => exact (js_aload_n hX dX1_be_0 rfl (js_getfR hX (ci := 1) (k := 0) (RX1, TX1, 7) rfl (by decide) rfl (Or.inl q211) (fun _ h => h) dX1_be_1 (js_aload_n hX dX1_be_4 rfl (js_getfR hX (ci := 1) (k := 0) (RX1, TX1, 7) rfl (by decide) rfl (Or.inl q211) (fun _ h => h) dX1_be_5 (js_callS hX MX1_copy (n := 2) (lw_S q246 q247 q153 q248) npX1_copy dX1_be_8 (js_aload_n hX dX1_be_11 rfl (js_getfR hX (ci := 1) (k := 1) (RX1, TX1, 7) rfl (by decide) rfl (Or.inl q213) (fun _ h => h) dX1_be_12 (js_aload_n hX dX1_be_15 rfl (js_getfR hX (ci := 1) (k := 1) (RX1, TX1, 7) rfl (by decide) rfl (Or.inl q213) (fun _ h => h) dX1_be_16 (js_callS hX MX1_copy (n := 2) (lw_S q246 q247 q153 q248) npX1_copy dX1_be_19 (js_aload_n hX dX1_be_22 rfl (js_getfR hX (ci := 1) (k := 2) (RX1, TX1, 7) rfl (by decide) rfl (Or.inl q215) (fun _ h => h) dX1_be_23 (js_aload_n hX dX1_be_26 rfl (js_getfR hX (ci := 1) (k := 2) (RX1, TX1, 7) rfl (by decide) rfl (Or.inl q215) (fun _ h => h) dX1_be_27 (js_callS hX MX1_copy (n := 2) (lw_S q246 q247 q153 q248) npX1_copy dX1_be_30 (js_aload_n hX dX1_be_33 rfl (js_getfR hX (ci := 1) (k := 3) (RX1, TX1, 7) rfl (by decide) rfl (Or.inl q217) (fun _ h => h) dX1_be_34 (js_aload_n hX dX1_be_37 rfl (js_getfR hX (ci := 1) (k := 3) (RX1, TX1, 7) rfl (by decide) rfl (Or.inl q217) (fun _ h => h) dX1_be_38 (js_callS hX MX1_copy_2 (n := 2) (lw_S q252 q253 q153 q254) npX1_copy_2 dX1_be_41 (js_aload_n hX dX1_be_44 rfl (js_getfR hX (ci := 1) (k := 4) (RX1, TX1, 7) rfl (by decide) rfl (Or.inl q219) (fun _ h => h) dX1_be_45 (js_aload_n hX dX1_be_48 rfl (js_getfR hX (ci := 1) (k := 4) (RX1, TX1, 7) rfl (by decide) rfl (Or.inl q219) (fun _ h => h) dX1_be_49 (js_callS hX MX1_copy_2 (n := 2) (lw_S q252 q253 q153 q254) npX1_copy_2 dX1_be_52 (js_aload_n hX dX1_be_55 rfl (js_getfR hX (ci := 1) (k := 5) (RX1, TX1, 7) rfl (by decide) rfl (Or.inl q221) (fun _ h => h) dX1_be_56 (js_aload_n hX dX1_be_59 rfl (js_getfR hX (ci := 1) (k := 5) (RX1, TX1, 7) rfl (by decide) rfl (Or.inl q221) (fun _ h => h) dX1_be_60 (js_callS hX MX1_copy_2 (n := 2) (lw_S q252 q253 q153 q254) npX1_copy_2 dX1_be_63 (js_aload_n hX dX1_be_66 rfl (js_getfR hX (ci := 1) (k := 6) (RX1, TX1, 7) rfl (by decide) rfl (Or.inl q223) (fun _ h => h) dX1_be_67 (js_const hX (z := 0) (by unfold inI; omega) dX1_be_70 (Or.inl ⟨0, rfl, rfl, rfl⟩) (js_aload_n hX dX1_be_71 rfl (js_getfR hX (ci := 1) (k := 6) (RX1, TX1, 7) rfl (by decide) rfl (Or.inl q223) (fun _ h => h) dX1_be_72 (js_const hX (z := 0) (by unfold inI; omega) dX1_be_75 (Or.inl ⟨0, rfl, rfl, rfl⟩) (js_const hX (z := 4) (by unfold inI; omega) dX1_be_76 (Or.inl ⟨4, rfl, rfl, rfl⟩) (js_acopyT hX q249 dX1_be_77 (js_return hX hr hlk dX1_be_80)))))))))))))))))))))))))))))))))))))))
  | k + 1 => intro ls st h nc ns hf; exact hf.elim
def bX1_copy : jjB := fun e K k => match k with
  | 0 => (ji_aload 0 (ji_const 0 (ji_aload 1 (ji_const 0 (ji_aload 0 (ji_alen (-1) (ji_acopyI (ji_return e))))))))
  | _ => fun _ _ _ _ _ => False
def pX1_copy : Nat → Nat := fun k => match k with
  | 0 => 0
  | _ => 0
theorem sX1_copy : jSound bX1_copy pX1_copy MX1_copy := by
  intro e p ev R s m args below meth c hX hr hn hlk K hK k
  match k with
  | 0 => exact (js_aload_n hX dX1_copy_0 rfl (js_const hX (z := 0) (by unfold inI; omega) dX1_copy_1 (Or.inl ⟨0, rfl, rfl, rfl⟩) (js_aload_n hX dX1_copy_2 rfl (js_const hX (z := 0) (by unfold inI; omega) dX1_copy_3 (Or.inl ⟨0, rfl, rfl, rfl⟩) (js_aload_n hX dX1_copy_4 rfl (js_alen hX (cd := (-1)) (by decide) dX1_copy_5 (js_acopyI hX q249 dX1_copy_6 (js_return hX hr hlk dX1_copy_9))))))))
  | k + 1 => intro ls st h nc ns hf; exact hf.elim
def bX1_copy_2 : jjB := fun e K k => match k with
  | 0 => (ji_const 0 (ji_istore 2 (K 1)))
  | 1 => (ji_iload 2 (ji_aload 0 (ji_alen (-5) (ji_icmp_ge (ji_return e)
    (ji_aload 0 (ji_iload 2 (ji_aald (-5) (ji_aload 1 (ji_iload 2 (ji_aald (-5) (ji_callS e MX1_copy 2 (ji_iinc 2 1 (ji_goto (K 1))))))))))))))
  | _ => fun _ _ _ _ _ => False
def pX1_copy_2 : Nat → Nat := fun k => match k with
  | 0 => 0
  | 1 => 2
  | _ => 0
theorem sX1_copy_2 : jSound bX1_copy_2 pX1_copy_2 MX1_copy_2 := by
  intro e p ev R s m args below meth c hX hr hn hlk K hK k
  match k with
  | 0 => exact (js_const hX (z := 0) (by unfold inI; omega) dX1_copy_2_0 (Or.inl ⟨0, rfl, rfl, rfl⟩) (js_istore_n hX dX1_copy_2_1 rfl (by decide) (hK 1)))
  | 1 => exact (js_iload_n hX dX1_copy_2_2 rfl (js_aload_n hX dX1_copy_2_3 rfl (js_alen hX (cd := (-5)) (by decide) dX1_copy_2_4 (js_icmp_ge hX (tgt := 23) dX1_copy_2_5 rfl (js_return hX hr hlk dX1_copy_2_23)
    (js_aload_n hX dX1_copy_2_8 rfl (js_iload_n hX dX1_copy_2_9 rfl (js_aald hX (cd := (-5)) (by decide) rfl rfl dX1_copy_2_10 (js_aload_n hX dX1_copy_2_11 rfl (js_iload_n hX dX1_copy_2_12 rfl (js_aald hX (cd := (-5)) (by decide) rfl rfl dX1_copy_2_13 (js_callS hX MX1_copy (n := 2) (lw_S q246 q247 q153 q248) npX1_copy dX1_copy_2_14 (js_iinc hX dX1_copy_2_17 (by decide) (js_goto hX (tgt := 2) dX1_copy_2_20 rfl (hK 1))))))))))))))
  | k + 2 => intro ls st h nc ns hf; exact hf.elim
def bX1_many : jjB := fun e K k => match k with
  | 0 => (ji_aload 0 (ji_getfR 1 2 (ji_const 11 (ji_iload 1 (ji_imul (ji_iald (ji_ireturn e)))))))
  | _ => fun _ _ _ _ _ => False
def pX1_many : Nat → Nat := fun k => match k with
  | 0 => 0
  | _ => 0
theorem sX1_many : jSound bX1_many pX1_many MX1_many := by
  intro e p ev R s m args below meth c hX hr hn hlk K hK k
  match k with
  | 0 => exact (js_aload_n hX dX1_many_0 rfl (js_getfR hX (ci := 1) (k := 2) (RX1, TX1, 7) rfl (by decide) rfl (Or.inl q215) (fun _ h => h) dX1_many_1 (js_const hX (z := 11) (by unfold inI; omega) dX1_many_4 (Or.inr (Or.inl ⟨11, rfl, rfl, rfl⟩)) (js_iload_n hX dX1_many_6 rfl (js_imul hX dX1_many_7 (js_iald hX dX1_many_8 (js_ireturn hX hr hlk dX1_many_9)))))))
  | k + 1 => intro ls st h nc ns hf; exact hf.elim
def bX1_bookAt : jjB := fun e K k => match k with
  | 0 => (ji_aload 0 (ji_getfR 1 2 (ji_const 11 (ji_iload 1 (ji_imul (ji_const 1 (ji_iadd (ji_iload 2 (ji_iadd (ji_iald (ji_ireturn e)))))))))))
  | _ => fun _ _ _ _ _ => False
def pX1_bookAt : Nat → Nat := fun k => match k with
  | 0 => 0
  | _ => 0
theorem sX1_bookAt : jSound bX1_bookAt pX1_bookAt MX1_bookAt := by
  intro e p ev R s m args below meth c hX hr hn hlk K hK k
  match k with
  | 0 => exact (js_aload_n hX dX1_bookAt_0 rfl (js_getfR hX (ci := 1) (k := 2) (RX1, TX1, 7) rfl (by decide) rfl (Or.inl q215) (fun _ h => h) dX1_bookAt_1 (js_const hX (z := 11) (by unfold inI; omega) dX1_bookAt_4 (Or.inr (Or.inl ⟨11, rfl, rfl, rfl⟩)) (js_iload_n hX dX1_bookAt_6 rfl (js_imul hX dX1_bookAt_7 (js_const hX (z := 1) (by unfold inI; omega) dX1_bookAt_8 (Or.inl ⟨1, rfl, rfl, rfl⟩) (js_iadd hX dX1_bookAt_9 (js_iload_n hX dX1_bookAt_10 rfl (js_iadd hX dX1_bookAt_11 (js_iald hX dX1_bookAt_12 (js_ireturn hX hr hlk dX1_bookAt_13)))))))))))
  | k + 1 => intro ls st h nc ns hf; exact hf.elim
def bX1_keeps : jjB := fun e K k => match k with
  | 0 => (ji_aload 0 (ji_getfR 1 0 (ji_const 4 (ji_iald (ji_const 30 (ji_icmp_ne (K 2)
    (ji_const 1 (ji_istore 1 (K 1)))))))))
  | 1 => (ji_iload 1 (ji_const 30 (ji_icmp_ge (ji_aload 0 (ji_getfR 1 0 (ji_const 4 (ji_dup2 (ji_iald (ji_const 1 (ji_isub (ji_iast (K 2)))))))))
    (ji_aload 0 (ji_getfR 1 5 (ji_iload 1 (ji_aald (-5) (ji_aload 0 (ji_getfR 1 5 (ji_iload 1 (ji_const 1 (ji_isub (ji_aald (-5) (ji_callS e MX1_copy 2 (ji_iinc 1 1 (ji_goto (K 1)))))))))))))))))
  | 2 => (ji_aload 0 (ji_getfR 1 2 (ji_aload 0 (ji_getfR 1 5 (ji_aload 0 (ji_getfR 1 0 (ji_const 4 (ji_iald (ji_aald (-5) (ji_callS e MX1_copy 2 (ji_aload 0 (ji_getfR 1 0 (ji_const 4 (ji_dup2 (ji_iald (ji_const 1 (ji_iadd (ji_iast (ji_return e)))))))))))))))))))
  | _ => fun _ _ _ _ _ => False
def pX1_keeps : Nat → Nat := fun k => match k with
  | 0 => 0
  | 1 => 13
  | 2 => 52
  | _ => 0
theorem sX1_keeps : jSound bX1_keeps pX1_keeps MX1_keeps := by
  intro e p ev R s m args below meth c hX hr hn hlk K hK k
  match k with
  | 0 => exact (js_aload_n hX dX1_keeps_0 rfl (js_getfR hX (ci := 1) (k := 0) (RX1, TX1, 7) rfl (by decide) rfl (Or.inl q211) (fun _ h => h) dX1_keeps_1 (js_const hX (z := 4) (by unfold inI; omega) dX1_keeps_4 (Or.inl ⟨4, rfl, rfl, rfl⟩) (js_iald hX dX1_keeps_5 (js_const hX (z := 30) (by unfold inI; omega) dX1_keeps_6 (Or.inr (Or.inl ⟨30, rfl, rfl, rfl⟩)) (js_icmp_ne hX (tgt := 52) dX1_keeps_8 rfl (hK 2)
    (js_const hX (z := 1) (by unfold inI; omega) dX1_keeps_11 (Or.inl ⟨1, rfl, rfl, rfl⟩) (js_istore_n hX dX1_keeps_12 rfl (by decide) (hK 1)))))))))
  | 1 => exact (js_iload_n hX dX1_keeps_13 rfl (js_const hX (z := 30) (by unfold inI; omega) dX1_keeps_14 (Or.inr (Or.inl ⟨30, rfl, rfl, rfl⟩)) (js_icmp_ge hX (tgt := 42) dX1_keeps_16 rfl (js_aload_n hX dX1_keeps_42 rfl (js_getfR hX (ci := 1) (k := 0) (RX1, TX1, 7) rfl (by decide) rfl (Or.inl q211) (fun _ h => h) dX1_keeps_43 (js_const hX (z := 4) (by unfold inI; omega) dX1_keeps_46 (Or.inl ⟨4, rfl, rfl, rfl⟩) (js_dup2 hX dX1_keeps_47 (js_iald hX dX1_keeps_48 (js_const hX (z := 1) (by unfold inI; omega) dX1_keeps_49 (Or.inl ⟨1, rfl, rfl, rfl⟩) (js_isub hX dX1_keeps_50 (js_iast hX dX1_keeps_51 (hK 2)))))))))
    (js_aload_n hX dX1_keeps_19 rfl (js_getfR hX (ci := 1) (k := 5) (RX1, TX1, 7) rfl (by decide) rfl (Or.inl q221) (fun _ h => h) dX1_keeps_20 (js_iload_n hX dX1_keeps_23 rfl (js_aald hX (cd := (-5)) (by decide) rfl rfl dX1_keeps_24 (js_aload_n hX dX1_keeps_25 rfl (js_getfR hX (ci := 1) (k := 5) (RX1, TX1, 7) rfl (by decide) rfl (Or.inl q221) (fun _ h => h) dX1_keeps_26 (js_iload_n hX dX1_keeps_29 rfl (js_const hX (z := 1) (by unfold inI; omega) dX1_keeps_30 (Or.inl ⟨1, rfl, rfl, rfl⟩) (js_isub hX dX1_keeps_31 (js_aald hX (cd := (-5)) (by decide) rfl rfl dX1_keeps_32 (js_callS hX MX1_copy (n := 2) (lw_S q246 q247 q153 q248) npX1_copy dX1_keeps_33 (js_iinc hX dX1_keeps_36 (by decide) (js_goto hX (tgt := 13) dX1_keeps_39 rfl (hK 1)))))))))))))))))
  | 2 => exact (js_aload_n hX dX1_keeps_52 rfl (js_getfR hX (ci := 1) (k := 2) (RX1, TX1, 7) rfl (by decide) rfl (Or.inl q215) (fun _ h => h) dX1_keeps_53 (js_aload_n hX dX1_keeps_56 rfl (js_getfR hX (ci := 1) (k := 5) (RX1, TX1, 7) rfl (by decide) rfl (Or.inl q221) (fun _ h => h) dX1_keeps_57 (js_aload_n hX dX1_keeps_60 rfl (js_getfR hX (ci := 1) (k := 0) (RX1, TX1, 7) rfl (by decide) rfl (Or.inl q211) (fun _ h => h) dX1_keeps_61 (js_const hX (z := 4) (by unfold inI; omega) dX1_keeps_64 (Or.inl ⟨4, rfl, rfl, rfl⟩) (js_iald hX dX1_keeps_65 (js_aald hX (cd := (-5)) (by decide) rfl rfl dX1_keeps_66 (js_callS hX MX1_copy (n := 2) (lw_S q246 q247 q153 q248) npX1_copy dX1_keeps_67 (js_aload_n hX dX1_keeps_70 rfl (js_getfR hX (ci := 1) (k := 0) (RX1, TX1, 7) rfl (by decide) rfl (Or.inl q211) (fun _ h => h) dX1_keeps_71 (js_const hX (z := 4) (by unfold inI; omega) dX1_keeps_74 (Or.inl ⟨4, rfl, rfl, rfl⟩) (js_dup2 hX dX1_keeps_75 (js_iald hX dX1_keeps_76 (js_const hX (z := 1) (by unfold inI; omega) dX1_keeps_77 (Or.inl ⟨1, rfl, rfl, rfl⟩) (js_iadd hX dX1_keeps_78 (js_iast hX dX1_keeps_79 (js_return hX hr hlk dX1_keeps_80)))))))))))))))))))
  | k + 3 => intro ls st h nc ns hf; exact hf.elim
def bX1_writes : jjB := fun e K k => match k with
  | 0 => (ji_aload 0 (ji_getfR 1 2 (ji_const 46 (ji_iald (ji_const 60 (ji_icmp_ne (K 1)
    (ji_aload 0 (ji_getfR 1 2 (ji_const 51 (ji_aload 0 (ji_getfR 1 2 (ji_const 47 (ji_const 236 (ji_acopyI (ji_aload 0 (ji_getfR 1 2 (ji_const 46 (ji_dup2 (ji_iald (ji_const 1 (ji_isub (ji_iast (K 1)))))))))))))))))))))))
  | 1 => (ji_const 47 (ji_const 4 (ji_aload 0 (ji_getfR 1 2 (ji_const 46 (ji_iald (ji_imul (ji_iadd (ji_istore 4 (ji_aload 0 (ji_getfR 1 2 (ji_iload 4 (ji_iload 1 (ji_iast (ji_aload 0 (ji_getfR 1 2 (ji_iload 4 (ji_const 1 (ji_iadd (ji_iload 2 (ji_iast (ji_aload 0 (ji_getfR 1 2 (ji_iload 4 (ji_const 2 (ji_iadd (ji_iload 3 (ji_iast (ji_aload 0 (ji_getfR 1 2 (ji_iload 4 (ji_const 3 (ji_iadd (ji_aload 0 (ji_getfR 1 2 (ji_const 44 (ji_iald (ji_iast (ji_aload 0 (ji_getfR 1 2 (ji_const 46 (ji_dup2 (ji_iald (ji_const 1 (ji_iadd (ji_iast (ji_return e)))))))))))))))))))))))))))))))))))))))))))))))
  | _ => fun _ _ _ _ _ => False
def pX1_writes : Nat → Nat := fun k => match k with
  | 0 => 0
  | 1 => 41
  | _ => 0
theorem sX1_writes : jSound bX1_writes pX1_writes MX1_writes := by
  intro e p ev R s m args below meth c hX hr hn hlk K hK k
  match k with
  | 0 => exact (js_aload_n hX dX1_writes_0 rfl (js_getfR hX (ci := 1) (k := 2) (RX1, TX1, 7) rfl (by decide) rfl (Or.inl q215) (fun _ h => h) dX1_writes_1 (js_const hX (z := 46) (by unfold inI; omega) dX1_writes_4 (Or.inr (Or.inl ⟨46, rfl, rfl, rfl⟩)) (js_iald hX dX1_writes_6 (js_const hX (z := 60) (by unfold inI; omega) dX1_writes_7 (Or.inr (Or.inl ⟨60, rfl, rfl, rfl⟩)) (js_icmp_ne hX (tgt := 41) dX1_writes_9 rfl (hK 1)
    (js_aload_n hX dX1_writes_12 rfl (js_getfR hX (ci := 1) (k := 2) (RX1, TX1, 7) rfl (by decide) rfl (Or.inl q215) (fun _ h => h) dX1_writes_13 (js_const hX (z := 51) (by unfold inI; omega) dX1_writes_16 (Or.inr (Or.inl ⟨51, rfl, rfl, rfl⟩)) (js_aload_n hX dX1_writes_18 rfl (js_getfR hX (ci := 1) (k := 2) (RX1, TX1, 7) rfl (by decide) rfl (Or.inl q215) (fun _ h => h) dX1_writes_19 (js_const hX (z := 47) (by unfold inI; omega) dX1_writes_22 (Or.inr (Or.inl ⟨47, rfl, rfl, rfl⟩)) (js_const hX (z := 236) (by unfold inI; omega) dX1_writes_24 (Or.inr (Or.inr (Or.inl ⟨236, rfl, rfl, rfl⟩))) (js_acopyI hX q249 dX1_writes_27 (js_aload_n hX dX1_writes_30 rfl (js_getfR hX (ci := 1) (k := 2) (RX1, TX1, 7) rfl (by decide) rfl (Or.inl q215) (fun _ h => h) dX1_writes_31 (js_const hX (z := 46) (by unfold inI; omega) dX1_writes_34 (Or.inr (Or.inl ⟨46, rfl, rfl, rfl⟩)) (js_dup2 hX dX1_writes_36 (js_iald hX dX1_writes_37 (js_const hX (z := 1) (by unfold inI; omega) dX1_writes_38 (Or.inl ⟨1, rfl, rfl, rfl⟩) (js_isub hX dX1_writes_39 (js_iast hX dX1_writes_40 (hK 1)))))))))))))))))))))))
  | 1 => exact (js_const hX (z := 47) (by unfold inI; omega) dX1_writes_41 (Or.inr (Or.inl ⟨47, rfl, rfl, rfl⟩)) (js_const hX (z := 4) (by unfold inI; omega) dX1_writes_43 (Or.inl ⟨4, rfl, rfl, rfl⟩) (js_aload_n hX dX1_writes_44 rfl (js_getfR hX (ci := 1) (k := 2) (RX1, TX1, 7) rfl (by decide) rfl (Or.inl q215) (fun _ h => h) dX1_writes_45 (js_const hX (z := 46) (by unfold inI; omega) dX1_writes_48 (Or.inr (Or.inl ⟨46, rfl, rfl, rfl⟩)) (js_iald hX dX1_writes_50 (js_imul hX dX1_writes_51 (js_iadd hX dX1_writes_52 (js_istore hX dX1_writes_53 (by decide) (js_aload_n hX dX1_writes_55 rfl (js_getfR hX (ci := 1) (k := 2) (RX1, TX1, 7) rfl (by decide) rfl (Or.inl q215) (fun _ h => h) dX1_writes_56 (js_iload hX dX1_writes_59 (js_iload_n hX dX1_writes_61 rfl (js_iast hX dX1_writes_62 (js_aload_n hX dX1_writes_63 rfl (js_getfR hX (ci := 1) (k := 2) (RX1, TX1, 7) rfl (by decide) rfl (Or.inl q215) (fun _ h => h) dX1_writes_64 (js_iload hX dX1_writes_67 (js_const hX (z := 1) (by unfold inI; omega) dX1_writes_69 (Or.inl ⟨1, rfl, rfl, rfl⟩) (js_iadd hX dX1_writes_70 (js_iload_n hX dX1_writes_71 rfl (js_iast hX dX1_writes_72 (js_aload_n hX dX1_writes_73 rfl (js_getfR hX (ci := 1) (k := 2) (RX1, TX1, 7) rfl (by decide) rfl (Or.inl q215) (fun _ h => h) dX1_writes_74 (js_iload hX dX1_writes_77 (js_const hX (z := 2) (by unfold inI; omega) dX1_writes_79 (Or.inl ⟨2, rfl, rfl, rfl⟩) (js_iadd hX dX1_writes_80 (js_iload_n hX dX1_writes_81 rfl (js_iast hX dX1_writes_82 (js_aload_n hX dX1_writes_83 rfl (js_getfR hX (ci := 1) (k := 2) (RX1, TX1, 7) rfl (by decide) rfl (Or.inl q215) (fun _ h => h) dX1_writes_84 (js_iload hX dX1_writes_87 (js_const hX (z := 3) (by unfold inI; omega) dX1_writes_89 (Or.inl ⟨3, rfl, rfl, rfl⟩) (js_iadd hX dX1_writes_90 (js_aload_n hX dX1_writes_91 rfl (js_getfR hX (ci := 1) (k := 2) (RX1, TX1, 7) rfl (by decide) rfl (Or.inl q215) (fun _ h => h) dX1_writes_92 (js_const hX (z := 44) (by unfold inI; omega) dX1_writes_95 (Or.inr (Or.inl ⟨44, rfl, rfl, rfl⟩)) (js_iald hX dX1_writes_97 (js_iast hX dX1_writes_98 (js_aload_n hX dX1_writes_99 rfl (js_getfR hX (ci := 1) (k := 2) (RX1, TX1, 7) rfl (by decide) rfl (Or.inl q215) (fun _ h => h) dX1_writes_100 (js_const hX (z := 46) (by unfold inI; omega) dX1_writes_103 (Or.inr (Or.inl ⟨46, rfl, rfl, rfl⟩)) (js_dup2 hX dX1_writes_105 (js_iald hX dX1_writes_106 (js_const hX (z := 1) (by unfold inI; omega) dX1_writes_107 (Or.inl ⟨1, rfl, rfl, rfl⟩) (js_iadd hX dX1_writes_108 (js_iast hX dX1_writes_109 (js_return hX hr hlk dX1_writes_110)))))))))))))))))))))))))))))))))))))))))))))))
  | k + 2 => intro ls st h nc ns hf; exact hf.elim
def bX1_removes : jjB := fun e K k => match k with
  | 0 => (ji_const 11 (ji_iload 1 (ji_imul (ji_const 1 (ji_iadd (ji_iload 2 (ji_iadd (ji_istore 3 (ji_aload 0 (ji_getfR 1 2 (ji_iload 3 (ji_const 1 (ji_iadd (ji_aload 0 (ji_getfR 1 2 (ji_iload 3 (ji_aload 0 (ji_iload 1 (ji_callV e MX1_many 1 2 (ji_iload 2 (ji_isub (ji_const 1 (ji_isub (ji_acopyI (ji_aload 0 (ji_getfR 1 2 (ji_const 11 (ji_iload 1 (ji_imul (ji_dup2 (ji_iald (ji_const 1 (ji_isub (ji_iast (ji_return e)))))))))))))))))))))))))))))))))))
  | _ => fun _ _ _ _ _ => False
def pX1_removes : Nat → Nat := fun k => match k with
  | 0 => 0
  | _ => 0
theorem sX1_removes : jSound bX1_removes pX1_removes MX1_removes := by
  intro e p ev R s m args below meth c hX hr hn hlk K hK k
  match k with
  | 0 => exact (js_const hX (z := 11) (by unfold inI; omega) dX1_removes_0 (Or.inr (Or.inl ⟨11, rfl, rfl, rfl⟩)) (js_iload_n hX dX1_removes_2 rfl (js_imul hX dX1_removes_3 (js_const hX (z := 1) (by unfold inI; omega) dX1_removes_4 (Or.inl ⟨1, rfl, rfl, rfl⟩) (js_iadd hX dX1_removes_5 (js_iload_n hX dX1_removes_6 rfl (js_iadd hX dX1_removes_7 (js_istore_n hX dX1_removes_8 rfl (by decide) (js_aload_n hX dX1_removes_9 rfl (js_getfR hX (ci := 1) (k := 2) (RX1, TX1, 7) rfl (by decide) rfl (Or.inl q215) (fun _ h => h) dX1_removes_10 (js_iload_n hX dX1_removes_13 rfl (js_const hX (z := 1) (by unfold inI; omega) dX1_removes_14 (Or.inl ⟨1, rfl, rfl, rfl⟩) (js_iadd hX dX1_removes_15 (js_aload_n hX dX1_removes_16 rfl (js_getfR hX (ci := 1) (k := 2) (RX1, TX1, 7) rfl (by decide) rfl (Or.inl q215) (fun _ h => h) dX1_removes_17 (js_iload_n hX dX1_removes_20 rfl (js_aload_n hX dX1_removes_21 rfl (js_iload_n hX dX1_removes_22 rfl (js_callV hX MX1_many (ci := 1) (n := 1) (RX1, TX1, 7) rfl rfl (lw_V q1050 q333 q334 q153 q335) npX1_many dX1_removes_23 (js_iload_n hX dX1_removes_26 rfl (js_isub hX dX1_removes_27 (js_const hX (z := 1) (by unfold inI; omega) dX1_removes_28 (Or.inl ⟨1, rfl, rfl, rfl⟩) (js_isub hX dX1_removes_29 (js_acopyI hX q249 dX1_removes_30 (js_aload_n hX dX1_removes_33 rfl (js_getfR hX (ci := 1) (k := 2) (RX1, TX1, 7) rfl (by decide) rfl (Or.inl q215) (fun _ h => h) dX1_removes_34 (js_const hX (z := 11) (by unfold inI; omega) dX1_removes_37 (Or.inr (Or.inl ⟨11, rfl, rfl, rfl⟩)) (js_iload_n hX dX1_removes_39 rfl (js_imul hX dX1_removes_40 (js_dup2 hX dX1_removes_41 (js_iald hX dX1_removes_42 (js_const hX (z := 1) (by unfold inI; omega) dX1_removes_43 (Or.inl ⟨1, rfl, rfl, rfl⟩) (js_isub hX dX1_removes_44 (js_iast hX dX1_removes_45 (js_return hX hr hlk dX1_removes_46)))))))))))))))))))))))))))))))))))
  | k + 1 => intro ls st h nc ns hf; exact hf.elim
def bX1_placeOf : jjB := fun e K k => match k with
  | 0 => (ji_aload 0 (ji_getfR 1 2 (ji_const 33 (ji_iload 1 (ji_iadd (ji_iald (ji_istore 2 (ji_const 0 (ji_istore 3 (K 1))))))))))
  | 1 => (ji_aload 0 (ji_iload 2 (ji_iload 3 (ji_callV e MX1_bookAt 1 3 (ji_iload 1 (ji_icmp_eq (ji_iload 3 (ji_ireturn e))
    (ji_iinc 3 1 (ji_goto (K 1)))))))))
  | _ => fun _ _ _ _ _ => False
def pX1_placeOf : Nat → Nat := fun k => match k with
  | 0 => 0
  | 1 => 12
  | _ => 0
theorem sX1_placeOf : jSound bX1_placeOf pX1_placeOf MX1_placeOf := by
  intro e p ev R s m args below meth c hX hr hn hlk K hK k
  match k with
  | 0 => exact (js_aload_n hX dX1_placeOf_0 rfl (js_getfR hX (ci := 1) (k := 2) (RX1, TX1, 7) rfl (by decide) rfl (Or.inl q215) (fun _ h => h) dX1_placeOf_1 (js_const hX (z := 33) (by unfold inI; omega) dX1_placeOf_4 (Or.inr (Or.inl ⟨33, rfl, rfl, rfl⟩)) (js_iload_n hX dX1_placeOf_6 rfl (js_iadd hX dX1_placeOf_7 (js_iald hX dX1_placeOf_8 (js_istore_n hX dX1_placeOf_9 rfl (by decide) (js_const hX (z := 0) (by unfold inI; omega) dX1_placeOf_10 (Or.inl ⟨0, rfl, rfl, rfl⟩) (js_istore_n hX dX1_placeOf_11 rfl (by decide) (hK 1))))))))))
  | 1 => exact (js_aload_n hX dX1_placeOf_12 rfl (js_iload_n hX dX1_placeOf_13 rfl (js_iload_n hX dX1_placeOf_14 rfl (js_callV hX MX1_bookAt (ci := 1) (n := 2) (RX1, TX1, 7) rfl rfl (lw_V q1067 q337 q338 q153 q339) npX1_bookAt dX1_placeOf_15 (js_iload_n hX dX1_placeOf_18 rfl (js_icmp_eq hX (tgt := 28) dX1_placeOf_19 rfl (js_iload_n hX dX1_placeOf_28 rfl (js_ireturn hX hr hlk dX1_placeOf_29))
    (js_iinc hX dX1_placeOf_22 (by decide) (js_goto hX (tgt := 12) dX1_placeOf_25 rfl (hK 1)))))))))
  | k + 2 => intro ls st h nc ns hf; exact hf.elim
def bX1_inserts : jjB := fun e K k => match k with
  | 0 => (ji_const 11 (ji_iload 1 (ji_imul (ji_const 1 (ji_iadd (ji_iload 2 (ji_iadd (ji_istore 4 (ji_aload 0 (ji_getfR 1 2 (ji_iload 4 (ji_aload 0 (ji_getfR 1 2 (ji_iload 4 (ji_const 1 (ji_iadd (ji_aload 0 (ji_iload 1 (ji_callV e MX1_many 1 2 (ji_iload 2 (ji_isub (ji_acopyI (ji_aload 0 (ji_getfR 1 2 (ji_iload 4 (ji_iload 3 (ji_iast (ji_aload 0 (ji_getfR 1 2 (ji_const 11 (ji_iload 1 (ji_imul (ji_dup2 (ji_iald (ji_const 1 (ji_iadd (ji_iast (ji_aload 0 (ji_getfR 1 2 (ji_const 33 (ji_iload 3 (ji_iadd (ji_iload 1 (ji_iast (ji_return e)))))))))))))))))))))))))))))))))))))))))))))
  | _ => fun _ _ _ _ _ => False
def pX1_inserts : Nat → Nat := fun k => match k with
  | 0 => 0
  | _ => 0
theorem sX1_inserts : jSound bX1_inserts pX1_inserts MX1_inserts := by
  intro e p ev R s m args below meth c hX hr hn hlk K hK k
  match k with
  | 0 => exact (js_const hX (z := 11) (by unfold inI; omega) dX1_inserts_0 (Or.inr (Or.inl ⟨11, rfl, rfl, rfl⟩)) (js_iload_n hX dX1_inserts_2 rfl (js_imul hX dX1_inserts_3 (js_const hX (z := 1) (by unfold inI; omega) dX1_inserts_4 (Or.inl ⟨1, rfl, rfl, rfl⟩) (js_iadd hX dX1_inserts_5 (js_iload_n hX dX1_inserts_6 rfl (js_iadd hX dX1_inserts_7 (js_istore hX dX1_inserts_8 (by decide) (js_aload_n hX dX1_inserts_10 rfl (js_getfR hX (ci := 1) (k := 2) (RX1, TX1, 7) rfl (by decide) rfl (Or.inl q215) (fun _ h => h) dX1_inserts_11 (js_iload hX dX1_inserts_14 (js_aload_n hX dX1_inserts_16 rfl (js_getfR hX (ci := 1) (k := 2) (RX1, TX1, 7) rfl (by decide) rfl (Or.inl q215) (fun _ h => h) dX1_inserts_17 (js_iload hX dX1_inserts_20 (js_const hX (z := 1) (by unfold inI; omega) dX1_inserts_22 (Or.inl ⟨1, rfl, rfl, rfl⟩) (js_iadd hX dX1_inserts_23 (js_aload_n hX dX1_inserts_24 rfl (js_iload_n hX dX1_inserts_25 rfl (js_callV hX MX1_many (ci := 1) (n := 1) (RX1, TX1, 7) rfl rfl (lw_V q1050 q333 q334 q153 q335) npX1_many dX1_inserts_26 (js_iload_n hX dX1_inserts_29 rfl (js_isub hX dX1_inserts_30 (js_acopyI hX q249 dX1_inserts_31 (js_aload_n hX dX1_inserts_34 rfl (js_getfR hX (ci := 1) (k := 2) (RX1, TX1, 7) rfl (by decide) rfl (Or.inl q215) (fun _ h => h) dX1_inserts_35 (js_iload hX dX1_inserts_38 (js_iload_n hX dX1_inserts_40 rfl (js_iast hX dX1_inserts_41 (js_aload_n hX dX1_inserts_42 rfl (js_getfR hX (ci := 1) (k := 2) (RX1, TX1, 7) rfl (by decide) rfl (Or.inl q215) (fun _ h => h) dX1_inserts_43 (js_const hX (z := 11) (by unfold inI; omega) dX1_inserts_46 (Or.inr (Or.inl ⟨11, rfl, rfl, rfl⟩)) (js_iload_n hX dX1_inserts_48 rfl (js_imul hX dX1_inserts_49 (js_dup2 hX dX1_inserts_50 (js_iald hX dX1_inserts_51 (js_const hX (z := 1) (by unfold inI; omega) dX1_inserts_52 (Or.inl ⟨1, rfl, rfl, rfl⟩) (js_iadd hX dX1_inserts_53 (js_iast hX dX1_inserts_54 (js_aload_n hX dX1_inserts_55 rfl (js_getfR hX (ci := 1) (k := 2) (RX1, TX1, 7) rfl (by decide) rfl (Or.inl q215) (fun _ h => h) dX1_inserts_56 (js_const hX (z := 33) (by unfold inI; omega) dX1_inserts_59 (Or.inr (Or.inl ⟨33, rfl, rfl, rfl⟩)) (js_iload_n hX dX1_inserts_61 rfl (js_iadd hX dX1_inserts_62 (js_iload_n hX dX1_inserts_63 rfl (js_iast hX dX1_inserts_64 (js_return hX hr hlk dX1_inserts_65)))))))))))))))))))))))))))))))))))))))))))))
  | k + 1 => intro ls st h nc ns hf; exact hf.elim
def bX10_of : jjB := fun e K k => match k with
  | 0 => (ji_aload 0 (ji_getfR 10 0 (ji_aload 1 (ji_callF e [(8, MX8_of), (9, MX9_of), (10, MX10_of), (7, MX7_of)] 2 (ji_lneg (ji_lreturn e))))))
  | _ => fun _ _ _ _ _ => False
def pX10_of : Nat → Nat := fun k => match k with
  | 0 => 0
  | _ => 0
theorem sX10_of : jSound bX10_of pX10_of MX10_of := by
  intro e p ev R s m args below meth c hX hr hn hlk K hK k
  match k with
  | 0 => exact (js_aload_n hX dX10_of_0 rfl (js_getfR hX (ci := 10) (k := 0) (RX10, TX10, 1) rfl (by decide) rfl (Or.inl q773) (fun _ h => h) dX10_of_1 (js_aload_n hX dX10_of_4 rfl (js_callF hX ⟨"SelfSorting$Sum", "of", "([I)J"⟩ (l := [(8, MX8_of), (9, MX9_of), (10, MX10_of), (7, MX7_of)]) (n := 1) (List.forall_mem_cons.mpr ⟨⟨(RX8, TX8, 1), rfl, lw_app (jF_ws q375 q383 q385 q174) (lw_meth q387), by decide +kernel⟩, List.forall_mem_cons.mpr ⟨⟨(RX9, TX9, 1), rfl, lw_app (jF_ws q375 q377 q379 q175) (lw_meth q381), by decide +kernel⟩, List.forall_mem_cons.mpr ⟨⟨(RX10, TX10, 1), rfl, lw_app (jF_ws q375 q369 q371 q176) (lw_meth q373), by decide +kernel⟩, List.forall_mem_cons.mpr ⟨⟨(RX7, TX7, 3), rfl, lw_app (jF_ws q375 q361 q363 q173) (lw_meth q365), by decide +kernel⟩, fun _ h => (by cases h)⟩⟩⟩⟩) (by decide +kernel) dX10_of_5 (js_lneg hX dX10_of_10 (js_lreturn hX hr hlk dX10_of_11))))))
  | k + 1 => intro ls st h nc ns hf; exact hf.elim
def bX10_init : jjB := fun e K k => match k with
  | 0 => (ji_aload 0 (ji_callI e MJ12_init 1 (ji_aload 0 (ji_aload 1 (ji_putfR 10 0 (ji_return e))))))
  | _ => fun _ _ _ _ _ => False
def pX10_init : Nat → Nat := fun k => match k with
  | 0 => 0
  | _ => 0
theorem sX10_init : jSound bX10_init pX10_init MX10_init := by
  intro e p ev R s m args below meth c hX hr hn hlk K hK k
  match k with
  | 0 => exact (js_aload_n hX dX10_init_0 rfl (js_callI hX MJ12_init (n := 0) q772 q714 q171 (lw_meth q715) rfl rfl npJ12_init dX10_init_1 (js_aload_n hX dX10_init_4 rfl (js_aload_n hX dX10_init_5 rfl (js_putfR hX (ci := 10) (k := 0) (RX10, TX10, 1) rfl (by decide) rfl rfl (Or.inl q773) (fun _ h => h) (Or.inr ⟨rfl, hn, rfl, q773⟩) dX10_init_6 (js_return hX hr hlk dX10_init_9))))))
  | k + 1 => intro ls st h nc ns hf; exact hf.elim
def bX11_init : jjB := fun e K k => match k with
  | 0 => (ji_aload 0 (ji_callI e MJ12_init 1 (ji_aload 0 (ji_iload 1 (ji_putfI 11 0 (ji_aload 0 (ji_aload 2 (ji_putfR 11 1 (ji_aload 0 (ji_aload 3 (ji_putfR 11 2 (ji_return e))))))))))))
  | _ => fun _ _ _ _ _ => False
def pX11_init : Nat → Nat := fun k => match k with
  | 0 => 0
  | _ => 0
theorem sX11_init : jSound bX11_init pX11_init MX11_init := by
  intro e p ev R s m args below meth c hX hr hn hlk K hK k
  match k with
  | 0 => exact (js_aload_n hX dX11_init_0 rfl (js_callI hX MJ12_init (n := 0) q889 q714 q171 (lw_meth q715) rfl rfl npJ12_init dX11_init_1 (js_aload_n hX dX11_init_4 rfl (js_iload_n hX dX11_init_5 rfl (js_putfI hX (ci := 11) (k := 0) (RX11, TX11, 3) rfl (by decide) rfl (Or.inl q890) (fun _ h => h) (Or.inr ⟨rfl, hn, rfl, q890⟩) dX11_init_6 (js_aload_n hX dX11_init_9 rfl (js_aload_n hX dX11_init_10 rfl (js_putfR hX (ci := 11) (k := 1) (RX11, TX11, 3) rfl (by decide) rfl rfl (Or.inl q891) (fun _ h => h) (Or.inr ⟨rfl, hn, rfl, q891⟩) dX11_init_11 (js_aload_n hX dX11_init_14 rfl (js_aload_n hX dX11_init_15 rfl (js_putfR hX (ci := 11) (k := 2) (RX11, TX11, 3) rfl (by decide) rfl rfl (Or.inl q892) (fun _ h => h) (Or.inr ⟨rfl, hn, rfl, q892⟩) dX11_init_16 (js_return hX hr hlk dX11_init_19))))))))))))
  | k + 1 => intro ls st h nc ns hf; exact hf.elim
def bX11_is : jjB := fun e K k => match k with
  | 0 => (ji_aload 0 (ji_getfR 11 1 (ji_aload 1 (ji_callF e [(8, MX8_of), (9, MX9_of), (10, MX10_of), (7, MX7_of)] 2 (ji_aload 0 (ji_getfR 11 2 (ji_aload 1 (ji_callF e [(8, MX8_of), (9, MX9_of), (10, MX10_of), (7, MX7_of)] 2 (ji_lsub (ji_lstore 2 (ji_aload 0 (ji_getfI 11 0 (ji_lsw (ji_lload 2 (ji_lconst 0 (ji_lcmp (ji_if_lt (ji_const 0 (K 6))
    (ji_const 1 (ji_goto (K 6))))))) [(35, (ji_lload 2 (ji_lconst 0 (ji_lcmp (ji_if_eq (ji_const 0 (K 4))
    (ji_const 1 (ji_goto (K 4)))))))), (60, (ji_lload 2 (ji_lconst 0 (ji_lcmp (ji_if_ge (ji_const 0 (K 1))
    (ji_const 1 (ji_goto (K 1)))))))), (61, (ji_lload 2 (ji_lconst 0 (ji_lcmp (ji_if_ne (ji_const 0 (K 3))
    (ji_const 1 (ji_goto (K 3)))))))), (62, (ji_lload 2 (ji_lconst 0 (ji_lcmp (ji_if_le (ji_const 0 (K 2))
    (ji_const 1 (ji_goto (K 2)))))))), (303, (ji_lload 2 (ji_lconst 0 (ji_lcmp (ji_if_gt (ji_const 0 (K 5))
    (ji_const 1 (ji_goto (K 5))))))))])))))))))))))
  | 1 => (ji_zreturn e)
  | 2 => (ji_zreturn e)
  | 3 => (ji_zreturn e)
  | 4 => (ji_zreturn e)
  | 5 => (ji_zreturn e)
  | 6 => (ji_zreturn e)
  | _ => fun _ _ _ _ _ => False
def pX11_is : Nat → Nat := fun k => match k with
  | 0 => 0
  | 1 => 87
  | 2 => 99
  | 3 => 111
  | 4 => 123
  | 5 => 135
  | 6 => 147
  | _ => 0
theorem sX11_is : jSound bX11_is pX11_is MX11_is := by
  intro e p ev R s m args below meth c hX hr hn hlk K hK k
  match k with
  | 0 => exact (js_aload_n hX dX11_is_0 rfl (js_getfR hX (ci := 11) (k := 1) (RX11, TX11, 3) rfl (by decide) rfl (Or.inl q891) (fun _ h => h) dX11_is_1 (js_aload_n hX dX11_is_4 rfl (js_callF hX ⟨"SelfSorting$Sum", "of", "([I)J"⟩ (l := [(8, MX8_of), (9, MX9_of), (10, MX10_of), (7, MX7_of)]) (n := 1) (List.forall_mem_cons.mpr ⟨⟨(RX8, TX8, 1), rfl, lw_app (jF_ws q993 q383 q385 q174) (lw_meth q387), by decide +kernel⟩, List.forall_mem_cons.mpr ⟨⟨(RX9, TX9, 1), rfl, lw_app (jF_ws q993 q377 q379 q175) (lw_meth q381), by decide +kernel⟩, List.forall_mem_cons.mpr ⟨⟨(RX10, TX10, 1), rfl, lw_app (jF_ws q993 q369 q371 q176) (lw_meth q373), by decide +kernel⟩, List.forall_mem_cons.mpr ⟨⟨(RX7, TX7, 3), rfl, lw_app (jF_ws q993 q361 q363 q173) (lw_meth q365), by decide +kernel⟩, fun _ h => (by cases h)⟩⟩⟩⟩) (by decide +kernel) dX11_is_5 (js_aload_n hX dX11_is_10 rfl (js_getfR hX (ci := 11) (k := 2) (RX11, TX11, 3) rfl (by decide) rfl (Or.inl q892) (fun _ h => h) dX11_is_11 (js_aload_n hX dX11_is_14 rfl (js_callF hX ⟨"SelfSorting$Sum", "of", "([I)J"⟩ (l := [(8, MX8_of), (9, MX9_of), (10, MX10_of), (7, MX7_of)]) (n := 1) (List.forall_mem_cons.mpr ⟨⟨(RX8, TX8, 1), rfl, lw_app (jF_ws q993 q383 q385 q174) (lw_meth q387), by decide +kernel⟩, List.forall_mem_cons.mpr ⟨⟨(RX9, TX9, 1), rfl, lw_app (jF_ws q993 q377 q379 q175) (lw_meth q381), by decide +kernel⟩, List.forall_mem_cons.mpr ⟨⟨(RX10, TX10, 1), rfl, lw_app (jF_ws q993 q369 q371 q176) (lw_meth q373), by decide +kernel⟩, List.forall_mem_cons.mpr ⟨⟨(RX7, TX7, 3), rfl, lw_app (jF_ws q993 q361 q363 q173) (lw_meth q365), by decide +kernel⟩, fun _ h => (by cases h)⟩⟩⟩⟩) (by decide +kernel) dX11_is_15 (js_lsub hX dX11_is_20 (js_lstore_n hX dX11_is_21 rfl (by decide) (js_aload_n hX dX11_is_22 rfl (js_getfI hX (ci := 11) (k := 0) (RX11, TX11, 3) rfl (by decide) rfl (Or.inl q890) (fun _ h => h) dX11_is_23 (js_lsw hX (dflt := 110) (ps := [(35, 86), (60, 50), (61, 74), (62, 62), (303, 98)]) (tgt := 136) (tgts := [112, 76, 100, 88, 124]) dX11_is_26 rfl (by decide) rfl (by decide) (js_lload_n hX dX11_is_136 rfl (js_lconst hX (z := 0) (by unfold inL; omega) dX11_is_137 rfl (js_lcmp hX dX11_is_138 (js_if_lt hX (tgt := 146) dX11_is_139 rfl (js_const hX (z := 0) (by unfold inI; omega) dX11_is_146 (Or.inl ⟨0, rfl, rfl, rfl⟩) (hK 6))
    (js_const hX (z := 1) (by unfold inI; omega) dX11_is_142 (Or.inl ⟨1, rfl, rfl, rfl⟩) (js_goto hX (tgt := 147) dX11_is_143 rfl (hK 6))))))) (jswl_cons (js_lload_n hX dX11_is_112 rfl (js_lconst hX (z := 0) (by unfold inL; omega) dX11_is_113 rfl (js_lcmp hX dX11_is_114 (js_if_eq hX (tgt := 122) dX11_is_115 rfl (js_const hX (z := 0) (by unfold inI; omega) dX11_is_122 (Or.inl ⟨0, rfl, rfl, rfl⟩) (hK 4))
    (js_const hX (z := 1) (by unfold inI; omega) dX11_is_118 (Or.inl ⟨1, rfl, rfl, rfl⟩) (js_goto hX (tgt := 123) dX11_is_119 rfl (hK 4))))))) (jswl_cons (js_lload_n hX dX11_is_76 rfl (js_lconst hX (z := 0) (by unfold inL; omega) dX11_is_77 rfl (js_lcmp hX dX11_is_78 (js_if_ge hX (tgt := 86) dX11_is_79 rfl (js_const hX (z := 0) (by unfold inI; omega) dX11_is_86 (Or.inl ⟨0, rfl, rfl, rfl⟩) (hK 1))
    (js_const hX (z := 1) (by unfold inI; omega) dX11_is_82 (Or.inl ⟨1, rfl, rfl, rfl⟩) (js_goto hX (tgt := 87) dX11_is_83 rfl (hK 1))))))) (jswl_cons (js_lload_n hX dX11_is_100 rfl (js_lconst hX (z := 0) (by unfold inL; omega) dX11_is_101 rfl (js_lcmp hX dX11_is_102 (js_if_ne hX (tgt := 110) dX11_is_103 rfl (js_const hX (z := 0) (by unfold inI; omega) dX11_is_110 (Or.inl ⟨0, rfl, rfl, rfl⟩) (hK 3))
    (js_const hX (z := 1) (by unfold inI; omega) dX11_is_106 (Or.inl ⟨1, rfl, rfl, rfl⟩) (js_goto hX (tgt := 111) dX11_is_107 rfl (hK 3))))))) (jswl_cons (js_lload_n hX dX11_is_88 rfl (js_lconst hX (z := 0) (by unfold inL; omega) dX11_is_89 rfl (js_lcmp hX dX11_is_90 (js_if_le hX (tgt := 98) dX11_is_91 rfl (js_const hX (z := 0) (by unfold inI; omega) dX11_is_98 (Or.inl ⟨0, rfl, rfl, rfl⟩) (hK 2))
    (js_const hX (z := 1) (by unfold inI; omega) dX11_is_94 (Or.inl ⟨1, rfl, rfl, rfl⟩) (js_goto hX (tgt := 99) dX11_is_95 rfl (hK 2))))))) (jswl_cons (js_lload_n hX dX11_is_124 rfl (js_lconst hX (z := 0) (by unfold inL; omega) dX11_is_125 rfl (js_lcmp hX dX11_is_126 (js_if_gt hX (tgt := 134) dX11_is_127 rfl (js_const hX (z := 0) (by unfold inI; omega) dX11_is_134 (Or.inl ⟨0, rfl, rfl, rfl⟩) (hK 5))
    (js_const hX (z := 1) (by unfold inI; omega) dX11_is_130 (Or.inl ⟨1, rfl, rfl, rfl⟩) (js_goto hX (tgt := 135) dX11_is_131 rfl (hK 5))))))) jswl_nil))))))))))))))))))
  | 1 => exact (js_zreturn hX hr hlk dX11_is_87)
  | 2 => exact (js_zreturn hX hr hlk dX11_is_99)
  | 3 => exact (js_zreturn hX hr hlk dX11_is_111)
  | 4 => exact (js_zreturn hX hr hlk dX11_is_123)
  | 5 => exact (js_zreturn hX hr hlk dX11_is_135)
  | 6 => exact (js_zreturn hX hr hlk dX11_is_147)
  | k + 7 => intro ls st h nc ns hf; exact hf.elim
def bX12_init : jjB := fun e K k => match k with
  | 0 => (ji_aload 0 (ji_callI e MJ12_init 1 (ji_aload 0 (ji_iload 1 (ji_putfZ 12 0 (ji_aload 0 (ji_aload 2 (ji_putfR 12 1 (ji_return e)))))))))
  | _ => fun _ _ _ _ _ => False
def pX12_init : Nat → Nat := fun k => match k with
  | 0 => 0
  | _ => 0
theorem sX12_init : jSound bX12_init pX12_init MX12_init := by
  intro e p ev R s m args below meth c hX hr hn hlk K hK k
  match k with
  | 0 => exact (js_aload_n hX dX12_init_0 rfl (js_callI hX MJ12_init (n := 0) q909 q714 q171 (lw_meth q715) rfl rfl npJ12_init dX12_init_1 (js_aload_n hX dX12_init_4 rfl (js_iload_n hX dX12_init_5 rfl (js_putfZ hX (ci := 12) (k := 0) (RX12, TX12, 2) rfl (by decide) rfl (Or.inl q910) (fun _ h => h) (Or.inr ⟨rfl, hn, rfl, q910⟩) dX12_init_6 (js_aload_n hX dX12_init_9 rfl (js_aload_n hX dX12_init_10 rfl (js_putfR hX (ci := 12) (k := 1) (RX12, TX12, 2) rfl (by decide) rfl rfl (Or.inl q911) (fun _ h => h) (Or.inr ⟨rfl, hn, rfl, q911⟩) dX12_init_11 (js_return hX hr hlk dX12_init_14)))))))))
  | k + 1 => intro ls st h nc ns hf; exact hf.elim
def bX12_is : jjB := fun e K k => match k with
  | 0 => (ji_const 0 (ji_istore 2 (ji_const 0 (ji_istore 3 (K 1)))))
  | 1 => (ji_iload 3 (ji_aload 0 (ji_getfR 12 1 (ji_callV e MJ6_size 14 1 (ji_icmp_ge (ji_aload 0 (ji_getfI 12 0 (ji_if_eq (ji_iload 2 (ji_if_le (ji_const 0 (K 3))
    (ji_const 1 (ji_goto (K 3)))))
    (ji_iload 2 (ji_aload 0 (ji_getfR 12 1 (ji_callV e MJ6_size 14 1 (ji_icmp_ne (ji_const 0 (ji_goto (K 3)))
    (ji_const 1 (ji_goto (K 3)))))))))))
    (ji_iload 2 (ji_aload 0 (ji_getfR 12 1 (ji_iload 3 (ji_callV e MJ6_get 14 2 (ji_cast [6, 11, 12] (ji_aload 1 (ji_callF e [(11, MX11_is), (6, MX6_is), (12, MX12_is)] 2 (ji_if_eq (ji_const 0 (K 2))
    (ji_const 1 (ji_goto (K 2)))))))))))))))))
  | 2 => (ji_iadd (ji_istore 2 (ji_iinc 3 1 (ji_goto (K 1)))))
  | 3 => (ji_zreturn e)
  | _ => fun _ _ _ _ _ => False
def pX12_is : Nat → Nat := fun k => match k with
  | 0 => 0
  | 1 => 4
  | 2 => 41
  | 3 => 84
  | _ => 0
theorem sX12_is : jSound bX12_is pX12_is MX12_is := by
  intro e p ev R s m args below meth c hX hr hn hlk K hK k
  match k with
  | 0 => exact (js_const hX (z := 0) (by unfold inI; omega) dX12_is_0 (Or.inl ⟨0, rfl, rfl, rfl⟩) (js_istore_n hX dX12_is_1 rfl (by decide) (js_const hX (z := 0) (by unfold inI; omega) dX12_is_2 (Or.inl ⟨0, rfl, rfl, rfl⟩) (js_istore_n hX dX12_is_3 rfl (by decide) (hK 1)))))
  | 1 => exact (js_iload_n hX dX12_is_4 rfl (js_aload_n hX dX12_is_5 rfl (js_getfR hX (ci := 12) (k := 1) (RX12, TX12, 2) rfl (by decide) rfl (Or.inl q911) (fun _ h => h) dX12_is_6 (js_callV hX MJ6_size (ci := 14) (n := 0) (RJ6, TJ6, 3) rfl rfl (lw_V q981 q389 q390 q164 q391) npJ6_size dX12_is_9 (js_icmp_ge hX (tgt := 49) dX12_is_12 rfl (js_aload_n hX dX12_is_49 rfl (js_getfI hX (ci := 12) (k := 0) (RX12, TX12, 2) rfl (by decide) rfl (Or.inl q910) (fun _ h => h) dX12_is_50 (js_if_eq hX (tgt := 75) dX12_is_53 rfl (js_iload_n hX dX12_is_75 rfl (js_if_le hX (tgt := 83) dX12_is_76 rfl (js_const hX (z := 0) (by unfold inI; omega) dX12_is_83 (Or.inl ⟨0, rfl, rfl, rfl⟩) (hK 3))
    (js_const hX (z := 1) (by unfold inI; omega) dX12_is_79 (Or.inl ⟨1, rfl, rfl, rfl⟩) (js_goto hX (tgt := 84) dX12_is_80 rfl (hK 3)))))
    (js_iload_n hX dX12_is_56 rfl (js_aload_n hX dX12_is_57 rfl (js_getfR hX (ci := 12) (k := 1) (RX12, TX12, 2) rfl (by decide) rfl (Or.inl q911) (fun _ h => h) dX12_is_58 (js_callV hX MJ6_size (ci := 14) (n := 0) (RJ6, TJ6, 3) rfl rfl (lw_V q981 q389 q390 q164 q391) npJ6_size dX12_is_61 (js_icmp_ne hX (tgt := 71) dX12_is_64 rfl (js_const hX (z := 0) (by unfold inI; omega) dX12_is_71 (Or.inl ⟨0, rfl, rfl, rfl⟩) (js_goto hX (tgt := 84) dX12_is_72 rfl (hK 3)))
    (js_const hX (z := 1) (by unfold inI; omega) dX12_is_67 (Or.inl ⟨1, rfl, rfl, rfl⟩) (js_goto hX (tgt := 84) dX12_is_68 rfl (hK 3)))))))))))
    (js_iload_n hX dX12_is_15 rfl (js_aload_n hX dX12_is_16 rfl (js_getfR hX (ci := 12) (k := 1) (RX12, TX12, 2) rfl (by decide) rfl (Or.inl q911) (fun _ h => h) dX12_is_17 (js_iload_n hX dX12_is_20 rfl (js_callV hX MJ6_get (ci := 14) (n := 1) (RJ6, TJ6, 3) rfl rfl (lw_V q982 q393 q394 q164 q395) npJ6_get dX12_is_21 (js_cast hX (cs := [6, 11, 12]) q983 (jCA_Asked) dX12_is_24 (js_aload_n hX dX12_is_27 rfl (js_callF hX ⟨"SelfSorting$Asked", "is", "([I)Z"⟩ (l := [(11, MX11_is), (6, MX6_is), (12, MX12_is)]) (n := 1) (List.forall_mem_cons.mpr ⟨⟨(RX11, TX11, 3), rfl, lw_app (jF_ws q985 q987 q989 q181) (lw_meth q991), by decide +kernel⟩, List.forall_mem_cons.mpr ⟨⟨(RX6, TX6, 1), rfl, lw_app (jF_ws q985 q995 q997 q172) (lw_meth q999), by decide +kernel⟩, List.forall_mem_cons.mpr ⟨⟨(RX12, TX12, 2), rfl, lw_app (jF_ws q985 q976 q978 q182) (lw_meth q980), by decide +kernel⟩, fun _ h => (by cases h)⟩⟩⟩) (by decide +kernel) dX12_is_28 (js_if_eq hX (tgt := 40) dX12_is_33 rfl (js_const hX (z := 0) (by unfold inI; omega) dX12_is_40 (Or.inl ⟨0, rfl, rfl, rfl⟩) (hK 2))
    (js_const hX (z := 1) (by unfold inI; omega) dX12_is_36 (Or.inl ⟨1, rfl, rfl, rfl⟩) (js_goto hX (tgt := 41) dX12_is_37 rfl (hK 2)))))))))))))))))
  | 2 => exact (js_iadd hX dX12_is_41 (js_istore_n hX dX12_is_42 rfl (by decide) (js_iinc hX dX12_is_43 (by decide) (js_goto hX (tgt := 4) dX12_is_46 rfl (hK 1)))))
  | 3 => exact (js_zreturn hX hr hlk dX12_is_84)
  | k + 4 => intro ls st h nc ns hf; exact hf.elim
def bX13_init : jjB := fun e K k => match k with
  | 0 => (ji_aload 0 (ji_callI e MJ12_init 1 (ji_aload 0 (ji_iload 1 (ji_putfI 13 0 (ji_aload 0 (ji_iload 2 (ji_putfI 13 1 (ji_aload 0 (ji_iload 3 (ji_putfI 13 2 (ji_aload 0 (ji_iload 4 (ji_putfI 13 3 (ji_aload 0 (ji_iload 5 (ji_putfI 13 4 (ji_return e))))))))))))))))))
  | _ => fun _ _ _ _ _ => False
def pX13_init : Nat → Nat := fun k => match k with
  | 0 => 0
  | _ => 0
theorem sX13_init : jSound bX13_init pX13_init MX13_init := by
  intro e p ev R s m args below meth c hX hr hn hlk K hK k
  match k with
  | 0 => exact (js_aload_n hX dX13_init_0 rfl (js_callI hX MJ12_init (n := 0) q926 q714 q171 (lw_meth q715) rfl rfl npJ12_init dX13_init_1 (js_aload_n hX dX13_init_4 rfl (js_iload_n hX dX13_init_5 rfl (js_putfI hX (ci := 13) (k := 0) (RX13, TX13, 5) rfl (by decide) rfl (Or.inl q927) (fun _ h => h) (Or.inr ⟨rfl, hn, rfl, q927⟩) dX13_init_6 (js_aload_n hX dX13_init_9 rfl (js_iload_n hX dX13_init_10 rfl (js_putfI hX (ci := 13) (k := 1) (RX13, TX13, 5) rfl (by decide) rfl (Or.inl q928) (fun _ h => h) (Or.inr ⟨rfl, hn, rfl, q928⟩) dX13_init_11 (js_aload_n hX dX13_init_14 rfl (js_iload_n hX dX13_init_15 rfl (js_putfI hX (ci := 13) (k := 2) (RX13, TX13, 5) rfl (by decide) rfl (Or.inl q929) (fun _ h => h) (Or.inr ⟨rfl, hn, rfl, q929⟩) dX13_init_16 (js_aload_n hX dX13_init_19 rfl (js_iload hX dX13_init_20 (js_putfI hX (ci := 13) (k := 3) (RX13, TX13, 5) rfl (by decide) rfl (Or.inl q930) (fun _ h => h) (Or.inr ⟨rfl, hn, rfl, q930⟩) dX13_init_22 (js_aload_n hX dX13_init_25 rfl (js_iload hX dX13_init_26 (js_putfI hX (ci := 13) (k := 4) (RX13, TX13, 5) rfl (by decide) rfl (Or.inl q931) (fun _ h => h) (Or.inr ⟨rfl, hn, rfl, q931⟩) dX13_init_28 (js_return hX hr hlk dX13_init_31))))))))))))))))))
  | k + 1 => intro ls st h nc ns hf; exact hf.elim
def bX13_sort : jjB := fun e K k => match k with
  | 0 => (ji_aload 0 (ji_getfI 13 0 (ji_ireturn e)))
  | _ => fun _ _ _ _ _ => False
def pX13_sort : Nat → Nat := fun k => match k with
  | 0 => 0
  | _ => 0
theorem sX13_sort : jSound bX13_sort pX13_sort MX13_sort := by
  intro e p ev R s m args below meth c hX hr hn hlk K hK k
  match k with
  | 0 => exact (js_aload_n hX dX13_sort_0 rfl (js_getfI hX (ci := 13) (k := 0) (RX13, TX13, 5) rfl (by decide) rfl (Or.inl q927) (fun _ h => h) dX13_sort_1 (js_ireturn hX hr hlk dX13_sort_4)))
  | k + 1 => intro ls st h nc ns hf; exact hf.elim
def bX13_a : jjB := fun e K k => match k with
  | 0 => (ji_aload 0 (ji_getfI 13 1 (ji_ireturn e)))
  | _ => fun _ _ _ _ _ => False
def pX13_a : Nat → Nat := fun k => match k with
  | 0 => 0
  | _ => 0
theorem sX13_a : jSound bX13_a pX13_a MX13_a := by
  intro e p ev R s m args below meth c hX hr hn hlk K hK k
  match k with
  | 0 => exact (js_aload_n hX dX13_a_0 rfl (js_getfI hX (ci := 13) (k := 1) (RX13, TX13, 5) rfl (by decide) rfl (Or.inl q928) (fun _ h => h) dX13_a_1 (js_ireturn hX hr hlk dX13_a_4)))
  | k + 1 => intro ls st h nc ns hf; exact hf.elim
def bX13_b : jjB := fun e K k => match k with
  | 0 => (ji_aload 0 (ji_getfI 13 2 (ji_ireturn e)))
  | _ => fun _ _ _ _ _ => False
def pX13_b : Nat → Nat := fun k => match k with
  | 0 => 0
  | _ => 0
theorem sX13_b : jSound bX13_b pX13_b MX13_b := by
  intro e p ev R s m args below meth c hX hr hn hlk K hK k
  match k with
  | 0 => exact (js_aload_n hX dX13_b_0 rfl (js_getfI hX (ci := 13) (k := 2) (RX13, TX13, 5) rfl (by decide) rfl (Or.inl q929) (fun _ h => h) dX13_b_1 (js_ireturn hX hr hlk dX13_b_4)))
  | k + 1 => intro ls st h nc ns hf; exact hf.elim
def bX13_c : jjB := fun e K k => match k with
  | 0 => (ji_aload 0 (ji_getfI 13 3 (ji_ireturn e)))
  | _ => fun _ _ _ _ _ => False
def pX13_c : Nat → Nat := fun k => match k with
  | 0 => 0
  | _ => 0
theorem sX13_c : jSound bX13_c pX13_c MX13_c := by
  intro e p ev R s m args below meth c hX hr hn hlk K hK k
  match k with
  | 0 => exact (js_aload_n hX dX13_c_0 rfl (js_getfI hX (ci := 13) (k := 3) (RX13, TX13, 5) rfl (by decide) rfl (Or.inl q930) (fun _ h => h) dX13_c_1 (js_ireturn hX hr hlk dX13_c_4)))
  | k + 1 => intro ls st h nc ns hf; exact hf.elim
def bX13_number : jjB := fun e K k => match k with
  | 0 => (ji_aload 0 (ji_getfI 13 4 (ji_ireturn e)))
  | _ => fun _ _ _ _ _ => False
def pX13_number : Nat → Nat := fun k => match k with
  | 0 => 0
  | _ => 0
theorem sX13_number : jSound bX13_number pX13_number MX13_number := by
  intro e p ev R s m args below meth c hX hr hn hlk K hK k
  match k with
  | 0 => exact (js_aload_n hX dX13_number_0 rfl (js_getfI hX (ci := 13) (k := 4) (RX13, TX13, 5) rfl (by decide) rfl (Or.inl q931) (fun _ h => h) dX13_number_1 (js_ireturn hX hr hlk dX13_number_4)))
  | k + 1 => intro ls st h nc ns hf; exact hf.elim
def bX2_init : jjB := fun e K k => match k with
  | 0 => (ji_aload 0 (ji_callI e MJ16_init 1 (ji_aload 0 (ji_const 3642 (ji_newarr e (-1) (ji_putfR 2 0 (ji_aload 0 (ji_const 3642 (ji_newarr e (-1) (ji_putfR 2 1 (ji_aload 0 (ji_const 2820 (ji_newarr e (-1) (ji_putfR 2 2 (ji_aload 0 (ji_const 300 (ji_newarr e (-1) (ji_putfR 2 3 (ji_aload 0 (ji_const (-1) (ji_putfI 2 5 (ji_aload 0 (ji_const (-1) (ji_putfI 2 6 (ji_aload 0 (ji_const 160 (ji_newarr e (-1) (ji_putfR 2 16 (ji_aload 0 (ji_const 15 (ji_newarr e (-1) (ji_putfR 2 22 (ji_aload 0 (ji_const 330 (ji_newarr e (-3) (ji_putfR 2 23 (ji_aload 0 (ji_const 330 (ji_newarr e (-4) (ji_putfR 2 24 (ji_aload 0 (ji_const 100 (ji_newarr e (-4) (ji_putfR 2 26 (ji_aload 0 (ji_const 10 (ji_newarr e (-1) (ji_putfR 2 27 (ji_aload 0 (ji_const 501 (ji_newarr e (-3) (ji_putfR 2 29 (ji_aload 0 (ji_const 4320 (ji_newarr e (-1) (ji_putfR 2 30 (ji_aload 0 (ji_const 1440 (ji_newarr e (-1) (ji_putfR 2 31 (ji_aload 0 (ji_const 720 (ji_newarr e (-4) (ji_putfR 2 32 (ji_aload 0 (ji_const 10 (ji_newarr e (-1) (ji_putfR 2 33 (ji_aload 0 (ji_const 6 (ji_newarr e (-1) (ji_putfR 2 36 (ji_aload 0 (ji_const 720 (ji_newarr e (-1) (ji_putfR 2 37 (ji_aload 0 (ji_const 720 (ji_newarr e (-1) (ji_putfR 2 38 (ji_aload 0 (ji_const 720 (ji_newarr e (-1) (ji_putfR 2 39 (ji_aload 0 (ji_const 720 (ji_newarr e (-1) (ji_putfR 2 40 (ji_aload 0 (ji_const 10 (ji_newarr e (-1) (ji_putfR 2 41 (ji_aload 0 (ji_const 10 (ji_newarr e (-1) (ji_putfR 2 42 (ji_aload 0 (ji_getfR 2 0 (ji_const 3 (ji_const 1 (ji_iast (ji_aload 0 (ji_getfR 2 0 (ji_const 4 (ji_const 31 (ji_iast (ji_aload 0 (ji_getfR 2 0 (ji_const 6 (ji_const (-1) (ji_iast (ji_const 0 (ji_istore 1 (K 1))))))))))))))))))))))))))))))))))))))))))))))))))))))))))))))))))))))))))))))))))))))))))))))))))))))))))))))))))
  | 1 => (ji_iload 1 (ji_const 3 (ji_icmp_ge (ji_aload 0 (ji_getfR 2 0 (ji_aload 0 (ji_getfR 2 1 (ji_callS e MX2_copy 2 (ji_return e))))))
    (ji_aload 0 (ji_getfR 2 0 (ji_const 10 (ji_iload 1 (ji_iadd (ji_const 30 (ji_iast (ji_iinc 1 1 (ji_goto (K 1)))))))))))))
  | _ => fun _ _ _ _ _ => False
def pX2_init : Nat → Nat := fun k => match k with
  | 0 => 0
  | 1 => 230
  | _ => 0
theorem sX2_init : jSound bX2_init pX2_init MX2_init := by
  intro e p ev R s m args below meth c hX hr hn hlk K hK k
  match k with
  | 0 => exact (js_aload_n hX dX2_init_0 rfl (js_callI hX MJ16_init (n := 0) q1342 q190 q2033 (lw_meth q191) rfl rfl npJ16_init dX2_init_1 (js_aload_n hX dX2_init_4 rfl (js_const hX (z := 3642) (by unfold inI; omega) dX2_init_5 (Or.inr (Or.inr (Or.inl ⟨3642, rfl, rfl, rfl⟩))) (js_newarr hX (cd := (-1)) (atype := .int) (by decide) (by decide) rfl rfl (fun _ _ h => h) (by decide) q240 dX2_init_8 (js_putfR hX (ci := 2) (k := 0) (RX2, TX2, 43) rfl (by decide) rfl rfl (Or.inl q1346) (fun _ h => h) (Or.inr ⟨rfl, hn, rfl, q1346⟩) dX2_init_10 (js_aload_n hX dX2_init_13 rfl (js_const hX (z := 3642) (by unfold inI; omega) dX2_init_14 (Or.inr (Or.inr (Or.inl ⟨3642, rfl, rfl, rfl⟩))) (js_newarr hX (cd := (-1)) (atype := .int) (by decide) (by decide) rfl rfl (fun _ _ h => h) (by decide) q240 dX2_init_17 (js_putfR hX (ci := 2) (k := 1) (RX2, TX2, 43) rfl (by decide) rfl rfl (Or.inl q1347) (fun _ h => h) (Or.inr ⟨rfl, hn, rfl, q1347⟩) dX2_init_19 (js_aload_n hX dX2_init_22 rfl (js_const hX (z := 2820) (by unfold inI; omega) dX2_init_23 (Or.inr (Or.inr (Or.inl ⟨2820, rfl, rfl, rfl⟩))) (js_newarr hX (cd := (-1)) (atype := .int) (by decide) (by decide) rfl rfl (fun _ _ h => h) (by decide) q240 dX2_init_26 (js_putfR hX (ci := 2) (k := 2) (RX2, TX2, 43) rfl (by decide) rfl rfl (Or.inl q1348) (fun _ h => h) (Or.inr ⟨rfl, hn, rfl, q1348⟩) dX2_init_28 (js_aload_n hX dX2_init_31 rfl (js_const hX (z := 300) (by unfold inI; omega) dX2_init_32 (Or.inr (Or.inr (Or.inl ⟨300, rfl, rfl, rfl⟩))) (js_newarr hX (cd := (-1)) (atype := .int) (by decide) (by decide) rfl rfl (fun _ _ h => h) (by decide) q240 dX2_init_35 (js_putfR hX (ci := 2) (k := 3) (RX2, TX2, 43) rfl (by decide) rfl rfl (Or.inl q1349) (fun _ h => h) (Or.inr ⟨rfl, hn, rfl, q1349⟩) dX2_init_37 (js_aload_n hX dX2_init_40 rfl (js_const hX (z := (-1)) (by unfold inI; omega) dX2_init_41 (Or.inl ⟨(-1), rfl, rfl, rfl⟩) (js_putfI hX (ci := 2) (k := 5) (RX2, TX2, 43) rfl (by decide) rfl (Or.inl q1351) (fun _ h => h) (Or.inl rfl) dX2_init_42 (js_aload_n hX dX2_init_45 rfl (js_const hX (z := (-1)) (by unfold inI; omega) dX2_init_46 (Or.inl ⟨(-1), rfl, rfl, rfl⟩) (js_putfI hX (ci := 2) (k := 6) (RX2, TX2, 43) rfl (by decide) rfl (Or.inl q1352) (fun _ h => h) (Or.inl rfl) dX2_init_47 (js_aload_n hX dX2_init_50 rfl (js_const hX (z := 160) (by unfold inI; omega) dX2_init_51 (Or.inr (Or.inr (Or.inl ⟨160, rfl, rfl, rfl⟩))) (js_newarr hX (cd := (-1)) (atype := .int) (by decide) (by decide) rfl rfl (fun _ _ h => h) (by decide) q240 dX2_init_54 (js_putfR hX (ci := 2) (k := 16) (RX2, TX2, 43) rfl (by decide) rfl rfl (Or.inl q1360) (fun _ h => h) (Or.inr ⟨rfl, hn, rfl, q1360⟩) dX2_init_56 (js_aload_n hX dX2_init_59 rfl (js_const hX (z := 15) (by unfold inI; omega) dX2_init_60 (Or.inr (Or.inl ⟨15, rfl, rfl, rfl⟩)) (js_newarr hX (cd := (-1)) (atype := .int) (by decide) (by decide) rfl rfl (fun _ _ h => h) (by decide) q240 dX2_init_62 (js_putfR hX (ci := 2) (k := 22) (RX2, TX2, 43) rfl (by decide) rfl rfl (Or.inl q1366) (fun _ h => h) (Or.inr ⟨rfl, hn, rfl, q1366⟩) dX2_init_64 (js_aload_n hX dX2_init_67 rfl (js_const hX (z := 330) (by unfold inI; omega) dX2_init_68 (Or.inr (Or.inr (Or.inl ⟨330, rfl, rfl, rfl⟩))) (js_newarr hX (cd := (-3)) (atype := .long) (by decide) (by decide) rfl rfl (fun _ _ h => h) (by decide) q317 dX2_init_71 (js_putfR hX (ci := 2) (k := 23) (RX2, TX2, 43) rfl (by decide) rfl rfl (Or.inl q1367) (fun _ h => h) (Or.inr ⟨rfl, hn, rfl, q1367⟩) dX2_init_73 (js_aload_n hX dX2_init_76 rfl (js_const hX (z := 330) (by unfold inI; omega) dX2_init_77 (Or.inr (Or.inr (Or.inl ⟨330, rfl, rfl, rfl⟩))) (js_newarr hX (cd := (-4)) (atype := .boolean) (by decide) (by decide) rfl rfl (fun _ _ h => h) (by decide) q1474 dX2_init_80 (js_putfR hX (ci := 2) (k := 24) (RX2, TX2, 43) rfl (by decide) rfl rfl (Or.inl q1368) (fun _ h => h) (Or.inr ⟨rfl, hn, rfl, q1368⟩) dX2_init_82 (js_aload_n hX dX2_init_85 rfl (js_const hX (z := 100) (by unfold inI; omega) dX2_init_86 (Or.inr (Or.inl ⟨100, rfl, rfl, rfl⟩)) (js_newarr hX (cd := (-4)) (atype := .boolean) (by decide) (by decide) rfl rfl (fun _ _ h => h) (by decide) q1474 dX2_init_88 (js_putfR hX (ci := 2) (k := 26) (RX2, TX2, 43) rfl (by decide) rfl rfl (Or.inl q1370) (fun _ h => h) (Or.inr ⟨rfl, hn, rfl, q1370⟩) dX2_init_90 (js_aload_n hX dX2_init_93 rfl (js_const hX (z := 10) (by unfold inI; omega) dX2_init_94 (Or.inr (Or.inl ⟨10, rfl, rfl, rfl⟩)) (js_newarr hX (cd := (-1)) (atype := .int) (by decide) (by decide) rfl rfl (fun _ _ h => h) (by decide) q240 dX2_init_96 (js_putfR hX (ci := 2) (k := 27) (RX2, TX2, 43) rfl (by decide) rfl rfl (Or.inl q1371) (fun _ h => h) (Or.inr ⟨rfl, hn, rfl, q1371⟩) dX2_init_98 (js_aload_n hX dX2_init_101 rfl (js_const hX (z := 501) (by unfold inI; omega) dX2_init_102 (Or.inr (Or.inr (Or.inl ⟨501, rfl, rfl, rfl⟩))) (js_newarr hX (cd := (-3)) (atype := .long) (by decide) (by decide) rfl rfl (fun _ _ h => h) (by decide) q317 dX2_init_105 (js_putfR hX (ci := 2) (k := 29) (RX2, TX2, 43) rfl (by decide) rfl rfl (Or.inl q1373) (fun _ h => h) (Or.inr ⟨rfl, hn, rfl, q1373⟩) dX2_init_107 (js_aload_n hX dX2_init_110 rfl (js_const hX (z := 4320) (by unfold inI; omega) dX2_init_111 (Or.inr (Or.inr (Or.inl ⟨4320, rfl, rfl, rfl⟩))) (js_newarr hX (cd := (-1)) (atype := .int) (by decide) (by decide) rfl rfl (fun _ _ h => h) (by decide) q240 dX2_init_114 (js_putfR hX (ci := 2) (k := 30) (RX2, TX2, 43) rfl (by decide) rfl rfl (Or.inl q1374) (fun _ h => h) (Or.inr ⟨rfl, hn, rfl, q1374⟩) dX2_init_116 (js_aload_n hX dX2_init_119 rfl (js_const hX (z := 1440) (by unfold inI; omega) dX2_init_120 (Or.inr (Or.inr (Or.inl ⟨1440, rfl, rfl, rfl⟩))) (js_newarr hX (cd := (-1)) (atype := .int) (by decide) (by decide) rfl rfl (fun _ _ h => h) (by decide) q240 dX2_init_123 (js_putfR hX (ci := 2) (k := 31) (RX2, TX2, 43) rfl (by decide) rfl rfl (Or.inl q1375) (fun _ h => h) (Or.inr ⟨rfl, hn, rfl, q1375⟩) dX2_init_125 (js_aload_n hX dX2_init_128 rfl (js_const hX (z := 720) (by unfold inI; omega) dX2_init_129 (Or.inr (Or.inr (Or.inl ⟨720, rfl, rfl, rfl⟩))) (js_newarr hX (cd := (-4)) (atype := .boolean) (by decide) (by decide) rfl rfl (fun _ _ h => h) (by decide) q1474 dX2_init_132 (js_putfR hX (ci := 2) (k := 32) (RX2, TX2, 43) rfl (by decide) rfl rfl (Or.inl q1376) (fun _ h => h) (Or.inr ⟨rfl, hn, rfl, q1376⟩) dX2_init_134 (js_aload_n hX dX2_init_137 rfl (js_const hX (z := 10) (by unfold inI; omega) dX2_init_138 (Or.inr (Or.inl ⟨10, rfl, rfl, rfl⟩)) (js_newarr hX (cd := (-1)) (atype := .int) (by decide) (by decide) rfl rfl (fun _ _ h => h) (by decide) q240 dX2_init_140 (js_putfR hX (ci := 2) (k := 33) (RX2, TX2, 43) rfl (by decide) rfl rfl (Or.inl q1377) (fun _ h => h) (Or.inr ⟨rfl, hn, rfl, q1377⟩) dX2_init_142 (js_aload_n hX dX2_init_145 rfl (js_const hX (z := 6) (by unfold inI; omega) dX2_init_146 (Or.inr (Or.inl ⟨6, rfl, rfl, rfl⟩)) (js_newarr hX (cd := (-1)) (atype := .int) (by decide) (by decide) rfl rfl (fun _ _ h => h) (by decide) q240 dX2_init_148 (js_putfR hX (ci := 2) (k := 36) (RX2, TX2, 43) rfl (by decide) rfl rfl (Or.inl q1380) (fun _ h => h) (Or.inr ⟨rfl, hn, rfl, q1380⟩) dX2_init_150 (js_aload_n hX dX2_init_153 rfl (js_const hX (z := 720) (by unfold inI; omega) dX2_init_154 (Or.inr (Or.inr (Or.inl ⟨720, rfl, rfl, rfl⟩))) (js_newarr hX (cd := (-1)) (atype := .int) (by decide) (by decide) rfl rfl (fun _ _ h => h) (by decide) q240 dX2_init_157 (js_putfR hX (ci := 2) (k := 37) (RX2, TX2, 43) rfl (by decide) rfl rfl (Or.inl q1381) (fun _ h => h) (Or.inr ⟨rfl, hn, rfl, q1381⟩) dX2_init_159 (js_aload_n hX dX2_init_162 rfl (js_const hX (z := 720) (by unfold inI; omega) dX2_init_163 (Or.inr (Or.inr (Or.inl ⟨720, rfl, rfl, rfl⟩))) (js_newarr hX (cd := (-1)) (atype := .int) (by decide) (by decide) rfl rfl (fun _ _ h => h) (by decide) q240 dX2_init_166 (js_putfR hX (ci := 2) (k := 38) (RX2, TX2, 43) rfl (by decide) rfl rfl (Or.inl q1382) (fun _ h => h) (Or.inr ⟨rfl, hn, rfl, q1382⟩) dX2_init_168 (js_aload_n hX dX2_init_171 rfl (js_const hX (z := 720) (by unfold inI; omega) dX2_init_172 (Or.inr (Or.inr (Or.inl ⟨720, rfl, rfl, rfl⟩))) (js_newarr hX (cd := (-1)) (atype := .int) (by decide) (by decide) rfl rfl (fun _ _ h => h) (by decide) q240 dX2_init_175 (js_putfR hX (ci := 2) (k := 39) (RX2, TX2, 43) rfl (by decide) rfl rfl (Or.inl q1383) (fun _ h => h) (Or.inr ⟨rfl, hn, rfl, q1383⟩) dX2_init_177 (js_aload_n hX dX2_init_180 rfl (js_const hX (z := 720) (by unfold inI; omega) dX2_init_181 (Or.inr (Or.inr (Or.inl ⟨720, rfl, rfl, rfl⟩))) (js_newarr hX (cd := (-1)) (atype := .int) (by decide) (by decide) rfl rfl (fun _ _ h => h) (by decide) q240 dX2_init_184 (js_putfR hX (ci := 2) (k := 40) (RX2, TX2, 43) rfl (by decide) rfl rfl (Or.inl q1384) (fun _ h => h) (Or.inr ⟨rfl, hn, rfl, q1384⟩) dX2_init_186 (js_aload_n hX dX2_init_189 rfl (js_const hX (z := 10) (by unfold inI; omega) dX2_init_190 (Or.inr (Or.inl ⟨10, rfl, rfl, rfl⟩)) (js_newarr hX (cd := (-1)) (atype := .int) (by decide) (by decide) rfl rfl (fun _ _ h => h) (by decide) q240 dX2_init_192 (js_putfR hX (ci := 2) (k := 41) (RX2, TX2, 43) rfl (by decide) rfl rfl (Or.inl q1385) (fun _ h => h) (Or.inr ⟨rfl, hn, rfl, q1385⟩) dX2_init_194 (js_aload_n hX dX2_init_197 rfl (js_const hX (z := 10) (by unfold inI; omega) dX2_init_198 (Or.inr (Or.inl ⟨10, rfl, rfl, rfl⟩)) (js_newarr hX (cd := (-1)) (atype := .int) (by decide) (by decide) rfl rfl (fun _ _ h => h) (by decide) q240 dX2_init_200 (js_putfR hX (ci := 2) (k := 42) (RX2, TX2, 43) rfl (by decide) rfl rfl (Or.inl q1386) (fun _ h => h) (Or.inr ⟨rfl, hn, rfl, q1386⟩) dX2_init_202 (js_aload_n hX dX2_init_205 rfl (js_getfR hX (ci := 2) (k := 0) (RX2, TX2, 43) rfl (by decide) rfl (Or.inl q1346) (fun _ h => h) dX2_init_206 (js_const hX (z := 3) (by unfold inI; omega) dX2_init_209 (Or.inl ⟨3, rfl, rfl, rfl⟩) (js_const hX (z := 1) (by unfold inI; omega) dX2_init_210 (Or.inl ⟨1, rfl, rfl, rfl⟩) (js_iast hX dX2_init_211 (js_aload_n hX dX2_init_212 rfl (js_getfR hX (ci := 2) (k := 0) (RX2, TX2, 43) rfl (by decide) rfl (Or.inl q1346) (fun _ h => h) dX2_init_213 (js_const hX (z := 4) (by unfold inI; omega) dX2_init_216 (Or.inl ⟨4, rfl, rfl, rfl⟩) (js_const hX (z := 31) (by unfold inI; omega) dX2_init_217 (Or.inr (Or.inl ⟨31, rfl, rfl, rfl⟩)) (js_iast hX dX2_init_219 (js_aload_n hX dX2_init_220 rfl (js_getfR hX (ci := 2) (k := 0) (RX2, TX2, 43) rfl (by decide) rfl (Or.inl q1346) (fun _ h => h) dX2_init_221 (js_const hX (z := 6) (by unfold inI; omega) dX2_init_224 (Or.inr (Or.inl ⟨6, rfl, rfl, rfl⟩)) (js_const hX (z := (-1)) (by unfold inI; omega) dX2_init_226 (Or.inl ⟨(-1), rfl, rfl, rfl⟩) (js_iast hX dX2_init_227 (js_const hX (z := 0) (by unfold inI; omega) dX2_init_228 (Or.inl ⟨0, rfl, rfl, rfl⟩) (js_istore_n hX dX2_init_229 rfl (by decide) (hK 1))))))))))))))))))))))))))))))))))))))))))))))))))))))))))))))))))))))))))))))))))))))))))))))))))))))))))))))))))
  | 1 => exact (js_iload_n hX dX2_init_230 rfl (js_const hX (z := 3) (by unfold inI; omega) dX2_init_231 (Or.inl ⟨3, rfl, rfl, rfl⟩) (js_icmp_ge hX (tgt := 252) dX2_init_232 rfl (js_aload_n hX dX2_init_252 rfl (js_getfR hX (ci := 2) (k := 0) (RX2, TX2, 43) rfl (by decide) rfl (Or.inl q1346) (fun _ h => h) dX2_init_253 (js_aload_n hX dX2_init_256 rfl (js_getfR hX (ci := 2) (k := 1) (RX2, TX2, 43) rfl (by decide) rfl (Or.inl q1347) (fun _ h => h) dX2_init_257 (js_callS hX MX2_copy (n := 2) (lw_S q1343 q1344 q156 q1345) npX2_copy dX2_init_260 (js_return hX hr hlk dX2_init_263))))))
    (js_aload_n hX dX2_init_235 rfl (js_getfR hX (ci := 2) (k := 0) (RX2, TX2, 43) rfl (by decide) rfl (Or.inl q1346) (fun _ h => h) dX2_init_236 (js_const hX (z := 10) (by unfold inI; omega) dX2_init_239 (Or.inr (Or.inl ⟨10, rfl, rfl, rfl⟩)) (js_iload_n hX dX2_init_241 rfl (js_iadd hX dX2_init_242 (js_const hX (z := 30) (by unfold inI; omega) dX2_init_243 (Or.inr (Or.inl ⟨30, rfl, rfl, rfl⟩)) (js_iast hX dX2_init_245 (js_iinc hX dX2_init_246 (by decide) (js_goto hX (tgt := 230) dX2_init_249 rfl (hK 1)))))))))))))
  | k + 2 => intro ls st h nc ns hf; exact hf.elim
def bX2_copy : jjB := fun e K k => match k with
  | 0 => (ji_const 0 (ji_istore 2 (K 1)))
  | 1 => (ji_iload 2 (ji_const 3642 (ji_icmp_ge (ji_return e)
    (ji_aload 1 (ji_iload 2 (ji_aload 0 (ji_iload 2 (ji_iald (ji_iast (ji_iinc 2 1 (ji_goto (K 1))))))))))))
  | _ => fun _ _ _ _ _ => False
def pX2_copy : Nat → Nat := fun k => match k with
  | 0 => 0
  | 1 => 2
  | _ => 0
theorem sX2_copy : jSound bX2_copy pX2_copy MX2_copy := by
  intro e p ev R s m args below meth c hX hr hn hlk K hK k
  match k with
  | 0 => exact (js_const hX (z := 0) (by unfold inI; omega) dX2_copy_0 (Or.inl ⟨0, rfl, rfl, rfl⟩) (js_istore_n hX dX2_copy_1 rfl (by decide) (hK 1)))
  | 1 => exact (js_iload_n hX dX2_copy_2 rfl (js_const hX (z := 3642) (by unfold inI; omega) dX2_copy_3 (Or.inr (Or.inr (Or.inl ⟨3642, rfl, rfl, rfl⟩))) (js_icmp_ge hX (tgt := 21) dX2_copy_6 rfl (js_return hX hr hlk dX2_copy_21)
    (js_aload_n hX dX2_copy_9 rfl (js_iload_n hX dX2_copy_10 rfl (js_aload_n hX dX2_copy_11 rfl (js_iload_n hX dX2_copy_12 rfl (js_iald hX dX2_copy_13 (js_iast hX dX2_copy_14 (js_iinc hX dX2_copy_15 (by decide) (js_goto hX (tgt := 2) dX2_copy_18 rfl (hK 1))))))))))))
  | k + 2 => intro ls st h nc ns hf; exact hf.elim
def bX2_book : jjB := fun e K k => match k with
  | 0 => (ji_iload 1 (ji_const 0 (ji_const 9 (ji_callS e MX2_isIn 3 (ji_if_eq (K 1)
    (ji_iload 2 (ji_const 0 (ji_const 9 (ji_callS e MX2_isIn 3 (ji_if_eq (K 1)
    (ji_iload 3 (ji_const 1 (ji_const 9 (ji_callS e MX2_isIn 3 (ji_if_eq (K 1)
    (ji_iload 4 (ji_const 0 (ji_const 9 (ji_callS e MX2_isIn 3 (ji_if_eq (K 1)
    (ji_iload 5 (ji_const 0 (ji_const 5 (ji_callS e MX2_isIn 3 (ji_if_eq (K 1)
    (ji_aload 0 (ji_getfR 2 0 (ji_const 0 (ji_iald (ji_const 10 (ji_icmp_ne (ji_aload 0 (ji_getfR 2 0 (ji_const 0 (ji_iald (ji_istore 6 (ji_aload 0 (ji_iload 6 (ji_const 0 (ji_iload 1 (ji_callV e MX2_set 2 4 (ji_aload 0 (ji_iload 6 (ji_const 1 (ji_iload 2 (ji_callV e MX2_set 2 4 (ji_aload 0 (ji_iload 6 (ji_const 2 (ji_iload 3 (ji_callV e MX2_set 2 4 (ji_aload 0 (ji_iload 6 (ji_const 3 (ji_iload 4 (ji_callV e MX2_set 2 4 (ji_aload 0 (ji_iload 6 (ji_const 4 (ji_iload 5 (ji_callV e MX2_set 2 4 (ji_aload 0 (ji_iload 6 (ji_const 5 (ji_const 3 (ji_callV e MX2_set 2 4 (ji_aload 0 (ji_getfR 2 0 (ji_const 0 (ji_dup2 (ji_iald (ji_const 1 (ji_iadd (ji_iast (ji_iload 6 (ji_ireturn e)))))))))))))))))))))))))))))))))))))))))))))
    (K 1))))))))))))))))))))))))))))))))
  | 1 => (ji_const (-1) (ji_ireturn e))
  | _ => fun _ _ _ _ _ => False
def pX2_book : Nat → Nat := fun k => match k with
  | 0 => 0
  | 1 => 62
  | _ => 0
theorem sX2_book : jSound bX2_book pX2_book MX2_book := by
  intro e p ev R s m args below meth c hX hr hn hlk K hK k
  match k with
  | 0 => exact (js_iload_n hX dX2_book_0 rfl (js_const hX (z := 0) (by unfold inI; omega) dX2_book_1 (Or.inl ⟨0, rfl, rfl, rfl⟩) (js_const hX (z := 9) (by unfold inI; omega) dX2_book_2 (Or.inr (Or.inl ⟨9, rfl, rfl, rfl⟩)) (js_callS hX MX2_isIn (n := 3) (lw_S q1479 q1480 q156 q1481) npX2_isIn dX2_book_4 (js_if_eq hX (tgt := 62) dX2_book_7 rfl (hK 1)
    (js_iload_n hX dX2_book_10 rfl (js_const hX (z := 0) (by unfold inI; omega) dX2_book_11 (Or.inl ⟨0, rfl, rfl, rfl⟩) (js_const hX (z := 9) (by unfold inI; omega) dX2_book_12 (Or.inr (Or.inl ⟨9, rfl, rfl, rfl⟩)) (js_callS hX MX2_isIn (n := 3) (lw_S q1479 q1480 q156 q1481) npX2_isIn dX2_book_14 (js_if_eq hX (tgt := 62) dX2_book_17 rfl (hK 1)
    (js_iload_n hX dX2_book_20 rfl (js_const hX (z := 1) (by unfold inI; omega) dX2_book_21 (Or.inl ⟨1, rfl, rfl, rfl⟩) (js_const hX (z := 9) (by unfold inI; omega) dX2_book_22 (Or.inr (Or.inl ⟨9, rfl, rfl, rfl⟩)) (js_callS hX MX2_isIn (n := 3) (lw_S q1479 q1480 q156 q1481) npX2_isIn dX2_book_24 (js_if_eq hX (tgt := 62) dX2_book_27 rfl (hK 1)
    (js_iload hX dX2_book_30 (js_const hX (z := 0) (by unfold inI; omega) dX2_book_32 (Or.inl ⟨0, rfl, rfl, rfl⟩) (js_const hX (z := 9) (by unfold inI; omega) dX2_book_33 (Or.inr (Or.inl ⟨9, rfl, rfl, rfl⟩)) (js_callS hX MX2_isIn (n := 3) (lw_S q1479 q1480 q156 q1481) npX2_isIn dX2_book_35 (js_if_eq hX (tgt := 62) dX2_book_38 rfl (hK 1)
    (js_iload hX dX2_book_41 (js_const hX (z := 0) (by unfold inI; omega) dX2_book_43 (Or.inl ⟨0, rfl, rfl, rfl⟩) (js_const hX (z := 5) (by unfold inI; omega) dX2_book_44 (Or.inl ⟨5, rfl, rfl, rfl⟩) (js_callS hX MX2_isIn (n := 3) (lw_S q1479 q1480 q156 q1481) npX2_isIn dX2_book_45 (js_if_eq hX (tgt := 62) dX2_book_48 rfl (hK 1)
    (js_aload_n hX dX2_book_51 rfl (js_getfR hX (ci := 2) (k := 0) (RX2, TX2, 43) rfl (by decide) rfl (Or.inl q1346) (fun _ h => h) dX2_book_52 (js_const hX (z := 0) (by unfold inI; omega) dX2_book_55 (Or.inl ⟨0, rfl, rfl, rfl⟩) (js_iald hX dX2_book_56 (js_const hX (z := 10) (by unfold inI; omega) dX2_book_57 (Or.inr (Or.inl ⟨10, rfl, rfl, rfl⟩)) (js_icmp_ne hX (tgt := 64) dX2_book_59 rfl (js_aload_n hX dX2_book_64 rfl (js_getfR hX (ci := 2) (k := 0) (RX2, TX2, 43) rfl (by decide) rfl (Or.inl q1346) (fun _ h => h) dX2_book_65 (js_const hX (z := 0) (by unfold inI; omega) dX2_book_68 (Or.inl ⟨0, rfl, rfl, rfl⟩) (js_iald hX dX2_book_69 (js_istore hX dX2_book_70 (by decide) (js_aload_n hX dX2_book_72 rfl (js_iload hX dX2_book_73 (js_const hX (z := 0) (by unfold inI; omega) dX2_book_75 (Or.inl ⟨0, rfl, rfl, rfl⟩) (js_iload_n hX dX2_book_76 rfl (js_callV hX MX2_set (ci := 2) (n := 3) (RX2, TX2, 43) rfl rfl (lw_V q1482 q1484 qs66 q156 q1485) npX2_set dX2_book_77 (js_aload_n hX dX2_book_80 rfl (js_iload hX dX2_book_81 (js_const hX (z := 1) (by unfold inI; omega) dX2_book_83 (Or.inl ⟨1, rfl, rfl, rfl⟩) (js_iload_n hX dX2_book_84 rfl (js_callV hX MX2_set (ci := 2) (n := 3) (RX2, TX2, 43) rfl rfl (lw_V q1482 q1484 qs66 q156 q1485) npX2_set dX2_book_85 (js_aload_n hX dX2_book_88 rfl (js_iload hX dX2_book_89 (js_const hX (z := 2) (by unfold inI; omega) dX2_book_91 (Or.inl ⟨2, rfl, rfl, rfl⟩) (js_iload_n hX dX2_book_92 rfl (js_callV hX MX2_set (ci := 2) (n := 3) (RX2, TX2, 43) rfl rfl (lw_V q1482 q1484 qs66 q156 q1485) npX2_set dX2_book_93 (js_aload_n hX dX2_book_96 rfl (js_iload hX dX2_book_97 (js_const hX (z := 3) (by unfold inI; omega) dX2_book_99 (Or.inl ⟨3, rfl, rfl, rfl⟩) (js_iload hX dX2_book_100 (js_callV hX MX2_set (ci := 2) (n := 3) (RX2, TX2, 43) rfl rfl (lw_V q1482 q1484 qs66 q156 q1485) npX2_set dX2_book_102 (js_aload_n hX dX2_book_105 rfl (js_iload hX dX2_book_106 (js_const hX (z := 4) (by unfold inI; omega) dX2_book_108 (Or.inl ⟨4, rfl, rfl, rfl⟩) (js_iload hX dX2_book_109 (js_callV hX MX2_set (ci := 2) (n := 3) (RX2, TX2, 43) rfl rfl (lw_V q1482 q1484 qs66 q156 q1485) npX2_set dX2_book_111 (js_aload_n hX dX2_book_114 rfl (js_iload hX dX2_book_115 (js_const hX (z := 5) (by unfold inI; omega) dX2_book_117 (Or.inl ⟨5, rfl, rfl, rfl⟩) (js_const hX (z := 3) (by unfold inI; omega) dX2_book_118 (Or.inl ⟨3, rfl, rfl, rfl⟩) (js_callV hX MX2_set (ci := 2) (n := 3) (RX2, TX2, 43) rfl rfl (lw_V q1482 q1484 qs66 q156 q1485) npX2_set dX2_book_119 (js_aload_n hX dX2_book_122 rfl (js_getfR hX (ci := 2) (k := 0) (RX2, TX2, 43) rfl (by decide) rfl (Or.inl q1346) (fun _ h => h) dX2_book_123 (js_const hX (z := 0) (by unfold inI; omega) dX2_book_126 (Or.inl ⟨0, rfl, rfl, rfl⟩) (js_dup2 hX dX2_book_127 (js_iald hX dX2_book_128 (js_const hX (z := 1) (by unfold inI; omega) dX2_book_129 (Or.inl ⟨1, rfl, rfl, rfl⟩) (js_iadd hX dX2_book_130 (js_iast hX dX2_book_131 (js_iload hX dX2_book_132 (js_ireturn hX hr hlk dX2_book_134)))))))))))))))))))))))))))))))))))))))))))))
    (hK 1))))))))))))))))))))))))))))))))
  | 1 => exact (js_const hX (z := (-1)) (by unfold inI; omega) dX2_book_62 (Or.inl ⟨(-1), rfl, rfl, rfl⟩) (js_ireturn hX hr hlk dX2_book_63))
  | k + 2 => intro ls st h nc ns hf; exact hf.elim
def bX2_isIn : jjB := fun e K k => match k with
  | 0 => (ji_iload 0 (ji_iload 1 (ji_icmp_lt (K 1)
    (ji_iload 0 (ji_iload 2 (ji_icmp_gt (K 1)
    (ji_const 1 (ji_goto (K 2)))))))))
  | 1 => (ji_const 0 (K 2))
  | 2 => (ji_zreturn e)
  | _ => fun _ _ _ _ _ => False
def pX2_isIn : Nat → Nat := fun k => match k with
  | 0 => 0
  | 1 => 14
  | 2 => 15
  | _ => 0
theorem sX2_isIn : jSound bX2_isIn pX2_isIn MX2_isIn := by
  intro e p ev R s m args below meth c hX hr hn hlk K hK k
  match k with
  | 0 => exact (js_iload_n hX dX2_isIn_0 rfl (js_iload_n hX dX2_isIn_1 rfl (js_icmp_lt hX (tgt := 14) dX2_isIn_2 rfl (hK 1)
    (js_iload_n hX dX2_isIn_5 rfl (js_iload_n hX dX2_isIn_6 rfl (js_icmp_gt hX (tgt := 14) dX2_isIn_7 rfl (hK 1)
    (js_const hX (z := 1) (by unfold inI; omega) dX2_isIn_10 (Or.inl ⟨1, rfl, rfl, rfl⟩) (js_goto hX (tgt := 15) dX2_isIn_11 rfl (hK 2)))))))))
  | 1 => exact (js_const hX (z := 0) (by unfold inI; omega) dX2_isIn_14 (Or.inl ⟨0, rfl, rfl, rfl⟩) (hK 2))
  | 2 => exact (js_zreturn hX hr hlk dX2_isIn_15)
  | k + 3 => intro ls st h nc ns hf; exact hf.elim
def bX2_set : jjB := fun e K k => match k with
  | 0 => (ji_aload 0 (ji_getfR 2 0 (ji_const 46 (ji_const 6 (ji_iload 1 (ji_imul (ji_iadd (ji_iload 2 (ji_iadd (ji_iload 3 (ji_iast (ji_return e))))))))))))
  | _ => fun _ _ _ _ _ => False
def pX2_set : Nat → Nat := fun k => match k with
  | 0 => 0
  | _ => 0
theorem sX2_set : jSound bX2_set pX2_set MX2_set := by
  intro e p ev R s m args below meth c hX hr hn hlk K hK k
  match k with
  | 0 => exact (js_aload_n hX dX2_set_0 rfl (js_getfR hX (ci := 2) (k := 0) (RX2, TX2, 43) rfl (by decide) rfl (Or.inl q1346) (fun _ h => h) dX2_set_1 (js_const hX (z := 46) (by unfold inI; omega) dX2_set_4 (Or.inr (Or.inl ⟨46, rfl, rfl, rfl⟩)) (js_const hX (z := 6) (by unfold inI; omega) dX2_set_6 (Or.inr (Or.inl ⟨6, rfl, rfl, rfl⟩)) (js_iload_n hX dX2_set_8 rfl (js_imul hX dX2_set_9 (js_iadd hX dX2_set_10 (js_iload_n hX dX2_set_11 rfl (js_iadd hX dX2_set_12 (js_iload_n hX dX2_set_13 rfl (js_iast hX dX2_set_14 (js_return hX hr hlk dX2_set_15))))))))))))
  | k + 1 => intro ls st h nc ns hf; exact hf.elim
def bX2_need : jjB := fun e K k => match k with
  | 0 => (ji_iload 1 (ji_const 1 (ji_const 2 (ji_callS e MX2_isIn 3 (ji_if_ne (ji_aload 0 (ji_getfR 2 0 (ji_const 3 (ji_iload 1 (ji_iast (ji_const 1 (ji_zreturn e)))))))
    (ji_const 0 (ji_zreturn e)))))))
  | _ => fun _ _ _ _ _ => False
def pX2_need : Nat → Nat := fun k => match k with
  | 0 => 0
  | _ => 0
theorem sX2_need : jSound bX2_need pX2_need MX2_need := by
  intro e p ev R s m args below meth c hX hr hn hlk K hK k
  match k with
  | 0 => exact (js_iload_n hX dX2_need_0 rfl (js_const hX (z := 1) (by unfold inI; omega) dX2_need_1 (Or.inl ⟨1, rfl, rfl, rfl⟩) (js_const hX (z := 2) (by unfold inI; omega) dX2_need_2 (Or.inl ⟨2, rfl, rfl, rfl⟩) (js_callS hX MX2_isIn (n := 3) (lw_S q1479 q1480 q156 q1481) npX2_isIn dX2_need_3 (js_if_ne hX (tgt := 11) dX2_need_6 rfl (js_aload_n hX dX2_need_11 rfl (js_getfR hX (ci := 2) (k := 0) (RX2, TX2, 43) rfl (by decide) rfl (Or.inl q1346) (fun _ h => h) dX2_need_12 (js_const hX (z := 3) (by unfold inI; omega) dX2_need_15 (Or.inl ⟨3, rfl, rfl, rfl⟩) (js_iload_n hX dX2_need_16 rfl (js_iast hX dX2_need_17 (js_const hX (z := 1) (by unfold inI; omega) dX2_need_18 (Or.inl ⟨1, rfl, rfl, rfl⟩) (js_zreturn hX hr hlk dX2_need_19)))))))
    (js_const hX (z := 0) (by unfold inI; omega) dX2_need_9 (Or.inl ⟨0, rfl, rfl, rfl⟩) (js_zreturn hX hr hlk dX2_need_10)))))))
  | k + 1 => intro ls st h nc ns hf; exact hf.elim
