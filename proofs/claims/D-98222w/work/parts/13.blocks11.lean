/-! blocks of the methods and their soundness -/
set_option maxRecDepth 100000
def bX2_nudges : jjB := fun e K k => match k with
  | 0 => (ji_iload 1 (ji_callS e MX2_isShelf 1 (ji_if_eq (K 1)
    (ji_aload 0 (ji_getfR 2 0 (ji_const 13 (ji_iload 1 (ji_iadd (ji_iald (ji_const 6 (ji_icmp_gt (K 1)
    (ji_aload 0 (ji_iload 2 (ji_iload 1 (ji_iload 3 (ji_callV e MX2_isThere 2 4 (ji_if_ne (ji_iload 4 (ji_const (-1) (ji_icmp_eq (K 3)
    (ji_iload 4 (ji_iload 2 (ji_icmp_eq (K 2)
    (ji_aload 0 (ji_iload 4 (ji_iload 1 (ji_iload 5 (ji_callV e MX2_isThere 2 4 (ji_if_ne (K 3)
    (K 2)))))))))))))
    (K 1))))))))))))))))))
  | 1 => (ji_const (-1) (ji_ireturn e))
  | 2 => (ji_const (-1) (ji_ireturn e))
  | 3 => (ji_aload 0 (ji_iload 1 (ji_callV e MX2_layShelf 2 2 (ji_istore 6 (ji_const 0 (ji_istore 7 (K 4)))))))
  | 4 => (ji_iload 7 (ji_aload 0 (ji_getfI 2 35 (ji_icmp_ge (ji_aload 0 (ji_getfR 2 38 (ji_iload 6 (ji_const 0 (ji_iast (ji_aload 0 (ji_getfR 2 37 (ji_const 0 (ji_iload 6 (ji_iast (ji_const 1 (ji_istore 7 (ji_const 0 (ji_istore 8 (K 5)))))))))))))))
    (ji_aload 0 (ji_getfR 2 38 (ji_iload 7 (ji_const (-1) (ji_iast (ji_iinc 7 1 (ji_goto (K 4))))))))))))
  | 5 => (ji_iload 8 (ji_iload 7 (ji_icmp_ge (ji_const (-1) (ji_ireturn e))
    (ji_aload 0 (ji_getfR 2 37 (ji_iload 8 (ji_iald (ji_istore 9 (ji_aload 0 (ji_iload 9 (ji_iload 2 (ji_iload 3 (ji_callV e MX2_isAt 2 4 (ji_if_eq (K 6)
    (ji_aload 0 (ji_iload 9 (ji_iload 4 (ji_iload 5 (ji_callV e MX2_isAt 2 4 (ji_if_eq (K 6)
    (ji_aload 0 (ji_getfR 2 38 (ji_iload 9 (ji_iald (ji_ireturn e)))))))))))))))))))))))))
  | 6 => (ji_const 0 (ji_istore 10 (K 7)))
  | 7 => (ji_iload 10 (ji_const 1 (ji_iadd (ji_aload 0 (ji_getfI 2 34 (ji_icmp_ge (ji_iinc 8 1 (ji_goto (K 5)))
    (ji_aload 0 (ji_iload 9 (ji_iload 10 (ji_callV e MX2_nudged 2 3 (ji_istore 11 (ji_aload 0 (ji_getfR 2 38 (ji_iload 11 (ji_iald (ji_if_lt (ji_aload 0 (ji_getfR 2 38 (ji_iload 11 (ji_aload 0 (ji_getfR 2 38 (ji_iload 9 (ji_iald (ji_const 1 (ji_iadd (ji_iast (ji_aload 0 (ji_getfR 2 37 (ji_iload 7 (ji_iload 11 (ji_iast (ji_iinc 7 1 (K 8)))))))))))))))))
    (ji_goto (K 8))))))))))))))))))
  | 8 => (ji_iinc 10 1 (ji_goto (K 7)))
  | _ => fun _ _ _ _ _ => False
def pX2_nudges : Nat → Nat := fun k => match k with
  | 0 => 0
  | 1 => 31
  | 2 => 57
  | 3 => 59
  | 4 => 69
  | 5 => 114
  | 6 => 162
  | 7 => 165
  | 8 => 227
  | _ => 0
theorem sX2_nudges : jSound bX2_nudges pX2_nudges MX2_nudges := by
  intro e p ev R s m args below meth c hX hr hn hlk K hK k
  match k with
  | 0 => exact (js_iload_n hX dX2_nudges_0 rfl (js_callS hX MX2_isShelf (n := 1) (lw_S q1693 q1694 q156 q1695) npX2_isShelf dX2_nudges_1 (js_if_eq hX (tgt := 31) dX2_nudges_4 rfl (hK 1)
    (js_aload_n hX dX2_nudges_7 rfl (js_getfR hX (ci := 2) (k := 0) (RX2, TX2, 43) rfl (by decide) rfl (Or.inl q1346) (fun _ h => h) dX2_nudges_8 (js_const hX (z := 13) (by unfold inI; omega) dX2_nudges_11 (Or.inr (Or.inl ⟨13, rfl, rfl, rfl⟩)) (js_iload_n hX dX2_nudges_13 rfl (js_iadd hX dX2_nudges_14 (js_iald hX dX2_nudges_15 (js_const hX (z := 6) (by unfold inI; omega) dX2_nudges_16 (Or.inr (Or.inl ⟨6, rfl, rfl, rfl⟩)) (js_icmp_gt hX (tgt := 31) dX2_nudges_18 rfl (hK 1)
    (js_aload_n hX dX2_nudges_21 rfl (js_iload_n hX dX2_nudges_22 rfl (js_iload_n hX dX2_nudges_23 rfl (js_iload_n hX dX2_nudges_24 rfl (js_callV hX MX2_isThere (ci := 2) (n := 3) (RX2, TX2, 43) rfl rfl (lw_V q1951 q1953 qs142 q156 q1954) npX2_isThere dX2_nudges_25 (js_if_ne hX (tgt := 33) dX2_nudges_28 rfl (js_iload hX dX2_nudges_33 (js_const hX (z := (-1)) (by unfold inI; omega) dX2_nudges_35 (Or.inl ⟨(-1), rfl, rfl, rfl⟩) (js_icmp_eq hX (tgt := 59) dX2_nudges_36 rfl (hK 3)
    (js_iload hX dX2_nudges_39 (js_iload_n hX dX2_nudges_41 rfl (js_icmp_eq hX (tgt := 57) dX2_nudges_42 rfl (hK 2)
    (js_aload_n hX dX2_nudges_45 rfl (js_iload hX dX2_nudges_46 (js_iload_n hX dX2_nudges_48 rfl (js_iload hX dX2_nudges_49 (js_callV hX MX2_isThere (ci := 2) (n := 3) (RX2, TX2, 43) rfl rfl (lw_V q1951 q1953 qs142 q156 q1954) npX2_isThere dX2_nudges_51 (js_if_ne hX (tgt := 59) dX2_nudges_54 rfl (hK 3)
    (hK 2)))))))))))))
    (hK 1))))))))))))))))))
  | 1 => exact (js_const hX (z := (-1)) (by unfold inI; omega) dX2_nudges_31 (Or.inl ⟨(-1), rfl, rfl, rfl⟩) (js_ireturn hX hr hlk dX2_nudges_32))
  | 2 => exact (js_const hX (z := (-1)) (by unfold inI; omega) dX2_nudges_57 (Or.inl ⟨(-1), rfl, rfl, rfl⟩) (js_ireturn hX hr hlk dX2_nudges_58))
  | 3 => exact (js_aload_n hX dX2_nudges_59 rfl (js_iload_n hX dX2_nudges_60 rfl (js_callV hX MX2_layShelf (ci := 2) (n := 1) (RX2, TX2, 43) rfl rfl (lw_V q1955 q1957 qs143 q156 q1958) npX2_layShelf dX2_nudges_61 (js_istore hX dX2_nudges_64 (by decide) (js_const hX (z := 0) (by unfold inI; omega) dX2_nudges_66 (Or.inl ⟨0, rfl, rfl, rfl⟩) (js_istore hX dX2_nudges_67 (by decide) (hK 4)))))))
  | 4 => exact (js_iload hX dX2_nudges_69 (js_aload_n hX dX2_nudges_71 rfl (js_getfI hX (ci := 2) (k := 35) (RX2, TX2, 43) rfl (by decide) rfl (Or.inl q1379) (fun _ h => h) dX2_nudges_72 (js_icmp_ge hX (tgt := 92) dX2_nudges_75 rfl (js_aload_n hX dX2_nudges_92 rfl (js_getfR hX (ci := 2) (k := 38) (RX2, TX2, 43) rfl (by decide) rfl (Or.inl q1382) (fun _ h => h) dX2_nudges_93 (js_iload hX dX2_nudges_96 (js_const hX (z := 0) (by unfold inI; omega) dX2_nudges_98 (Or.inl ⟨0, rfl, rfl, rfl⟩) (js_iast hX dX2_nudges_99 (js_aload_n hX dX2_nudges_100 rfl (js_getfR hX (ci := 2) (k := 37) (RX2, TX2, 43) rfl (by decide) rfl (Or.inl q1381) (fun _ h => h) dX2_nudges_101 (js_const hX (z := 0) (by unfold inI; omega) dX2_nudges_104 (Or.inl ⟨0, rfl, rfl, rfl⟩) (js_iload hX dX2_nudges_105 (js_iast hX dX2_nudges_107 (js_const hX (z := 1) (by unfold inI; omega) dX2_nudges_108 (Or.inl ⟨1, rfl, rfl, rfl⟩) (js_istore hX dX2_nudges_109 (by decide) (js_const hX (z := 0) (by unfold inI; omega) dX2_nudges_111 (Or.inl ⟨0, rfl, rfl, rfl⟩) (js_istore hX dX2_nudges_112 (by decide) (hK 5)))))))))))))))
    (js_aload_n hX dX2_nudges_78 rfl (js_getfR hX (ci := 2) (k := 38) (RX2, TX2, 43) rfl (by decide) rfl (Or.inl q1382) (fun _ h => h) dX2_nudges_79 (js_iload hX dX2_nudges_82 (js_const hX (z := (-1)) (by unfold inI; omega) dX2_nudges_84 (Or.inl ⟨(-1), rfl, rfl, rfl⟩) (js_iast hX dX2_nudges_85 (js_iinc hX dX2_nudges_86 (by decide) (js_goto hX (tgt := 69) dX2_nudges_89 rfl (hK 4))))))))))))
  | 5 => exact (js_iload hX dX2_nudges_114 (js_iload hX dX2_nudges_116 (js_icmp_ge hX (tgt := 239) dX2_nudges_118 rfl (js_const hX (z := (-1)) (by unfold inI; omega) dX2_nudges_239 (Or.inl ⟨(-1), rfl, rfl, rfl⟩) (js_ireturn hX hr hlk dX2_nudges_240))
    (js_aload_n hX dX2_nudges_121 rfl (js_getfR hX (ci := 2) (k := 37) (RX2, TX2, 43) rfl (by decide) rfl (Or.inl q1381) (fun _ h => h) dX2_nudges_122 (js_iload hX dX2_nudges_125 (js_iald hX dX2_nudges_127 (js_istore hX dX2_nudges_128 (by decide) (js_aload_n hX dX2_nudges_130 rfl (js_iload hX dX2_nudges_131 (js_iload_n hX dX2_nudges_133 rfl (js_iload_n hX dX2_nudges_134 rfl (js_callV hX MX2_isAt (ci := 2) (n := 3) (RX2, TX2, 43) rfl rfl (lw_V q1959 q1961 qs144 q156 q1962) npX2_isAt dX2_nudges_135 (js_if_eq hX (tgt := 162) dX2_nudges_138 rfl (hK 6)
    (js_aload_n hX dX2_nudges_141 rfl (js_iload hX dX2_nudges_142 (js_iload hX dX2_nudges_144 (js_iload hX dX2_nudges_146 (js_callV hX MX2_isAt (ci := 2) (n := 3) (RX2, TX2, 43) rfl rfl (lw_V q1959 q1961 qs144 q156 q1962) npX2_isAt dX2_nudges_148 (js_if_eq hX (tgt := 162) dX2_nudges_151 rfl (hK 6)
    (js_aload_n hX dX2_nudges_154 rfl (js_getfR hX (ci := 2) (k := 38) (RX2, TX2, 43) rfl (by decide) rfl (Or.inl q1382) (fun _ h => h) dX2_nudges_155 (js_iload hX dX2_nudges_158 (js_iald hX dX2_nudges_160 (js_ireturn hX hr hlk dX2_nudges_161)))))))))))))))))))))))))
  | 6 => exact (js_const hX (z := 0) (by unfold inI; omega) dX2_nudges_162 (Or.inl ⟨0, rfl, rfl, rfl⟩) (js_istore hX dX2_nudges_163 (by decide) (hK 7)))
  | 7 => exact (js_iload hX dX2_nudges_165 (js_const hX (z := 1) (by unfold inI; omega) dX2_nudges_167 (Or.inl ⟨1, rfl, rfl, rfl⟩) (js_iadd hX dX2_nudges_168 (js_aload_n hX dX2_nudges_169 rfl (js_getfI hX (ci := 2) (k := 34) (RX2, TX2, 43) rfl (by decide) rfl (Or.inl q1378) (fun _ h => h) dX2_nudges_170 (js_icmp_ge hX (tgt := 233) dX2_nudges_173 rfl (js_iinc hX dX2_nudges_233 (by decide) (js_goto hX (tgt := 114) dX2_nudges_236 rfl (hK 5)))
    (js_aload_n hX dX2_nudges_176 rfl (js_iload hX dX2_nudges_177 (js_iload hX dX2_nudges_179 (js_callV hX MX2_nudged (ci := 2) (n := 2) (RX2, TX2, 43) rfl rfl (lw_V q1963 q1965 qs145 q156 q1966) npX2_nudged dX2_nudges_181 (js_istore hX dX2_nudges_184 (by decide) (js_aload_n hX dX2_nudges_186 rfl (js_getfR hX (ci := 2) (k := 38) (RX2, TX2, 43) rfl (by decide) rfl (Or.inl q1382) (fun _ h => h) dX2_nudges_187 (js_iload hX dX2_nudges_190 (js_iald hX dX2_nudges_192 (js_if_lt hX (tgt := 199) dX2_nudges_193 rfl (js_aload_n hX dX2_nudges_199 rfl (js_getfR hX (ci := 2) (k := 38) (RX2, TX2, 43) rfl (by decide) rfl (Or.inl q1382) (fun _ h => h) dX2_nudges_200 (js_iload hX dX2_nudges_203 (js_aload_n hX dX2_nudges_205 rfl (js_getfR hX (ci := 2) (k := 38) (RX2, TX2, 43) rfl (by decide) rfl (Or.inl q1382) (fun _ h => h) dX2_nudges_206 (js_iload hX dX2_nudges_209 (js_iald hX dX2_nudges_211 (js_const hX (z := 1) (by unfold inI; omega) dX2_nudges_212 (Or.inl ⟨1, rfl, rfl, rfl⟩) (js_iadd hX dX2_nudges_213 (js_iast hX dX2_nudges_214 (js_aload_n hX dX2_nudges_215 rfl (js_getfR hX (ci := 2) (k := 37) (RX2, TX2, 43) rfl (by decide) rfl (Or.inl q1381) (fun _ h => h) dX2_nudges_216 (js_iload hX dX2_nudges_219 (js_iload hX dX2_nudges_221 (js_iast hX dX2_nudges_223 (js_iinc hX dX2_nudges_224 (by decide) (hK 8)))))))))))))))))
    (js_goto hX (tgt := 227) dX2_nudges_196 rfl (hK 8))))))))))))))))))
  | 8 => exact (js_iinc hX dX2_nudges_227 (by decide) (js_goto hX (tgt := 165) dX2_nudges_230 rfl (hK 7)))
  | k + 9 => intro ls st h nc ns hf; exact hf.elim
def bX2_isThere : jjB := fun e K k => match k with
  | 0 => (ji_aload 0 (ji_iload 1 (ji_callV e MX2_isOnShelf 2 2 (ji_if_eq (K 1)
    (ji_aload 0 (ji_iload 1 (ji_const 5 (ji_callV e MX2_get 2 3 (ji_iload 2 (ji_icmp_ne (K 1)
    (ji_iload 3 (ji_const 0 (ji_aload 0 (ji_getfR 2 0 (ji_const 13 (ji_iload 2 (ji_iadd (ji_iald (ji_const 1 (ji_isub (ji_callS e MX2_isIn 3 (ji_if_eq (K 1)
    (ji_const 1 (ji_goto (K 2)))))))))))))))))))))))))
  | 1 => (ji_const 0 (K 2))
  | 2 => (ji_zreturn e)
  | _ => fun _ _ _ _ _ => False
def pX2_isThere : Nat → Nat := fun k => match k with
  | 0 => 0
  | 1 => 41
  | 2 => 42
  | _ => 0
theorem sX2_isThere : jSound bX2_isThere pX2_isThere MX2_isThere := by
  intro e p ev R s m args below meth c hX hr hn hlk K hK k
  match k with
  | 0 => exact (js_aload_n hX dX2_isThere_0 rfl (js_iload_n hX dX2_isThere_1 rfl (js_callV hX MX2_isOnShelf (ci := 2) (n := 1) (RX2, TX2, 43) rfl rfl (lw_V q1809 q1811 qs121 q156 q1812) npX2_isOnShelf dX2_isThere_2 (js_if_eq hX (tgt := 41) dX2_isThere_5 rfl (hK 1)
    (js_aload_n hX dX2_isThere_8 rfl (js_iload_n hX dX2_isThere_9 rfl (js_const hX (z := 5) (by unfold inI; omega) dX2_isThere_10 (Or.inl ⟨5, rfl, rfl, rfl⟩) (js_callV hX MX2_get (ci := 2) (n := 2) (RX2, TX2, 43) rfl rfl (lw_V q1658 q1660 qs98 q156 q1661) npX2_get dX2_isThere_11 (js_iload_n hX dX2_isThere_14 rfl (js_icmp_ne hX (tgt := 41) dX2_isThere_15 rfl (hK 1)
    (js_iload_n hX dX2_isThere_18 rfl (js_const hX (z := 0) (by unfold inI; omega) dX2_isThere_19 (Or.inl ⟨0, rfl, rfl, rfl⟩) (js_aload_n hX dX2_isThere_20 rfl (js_getfR hX (ci := 2) (k := 0) (RX2, TX2, 43) rfl (by decide) rfl (Or.inl q1346) (fun _ h => h) dX2_isThere_21 (js_const hX (z := 13) (by unfold inI; omega) dX2_isThere_24 (Or.inr (Or.inl ⟨13, rfl, rfl, rfl⟩)) (js_iload_n hX dX2_isThere_26 rfl (js_iadd hX dX2_isThere_27 (js_iald hX dX2_isThere_28 (js_const hX (z := 1) (by unfold inI; omega) dX2_isThere_29 (Or.inl ⟨1, rfl, rfl, rfl⟩) (js_isub hX dX2_isThere_30 (js_callS hX MX2_isIn (n := 3) (lw_S q1479 q1480 q156 q1481) npX2_isIn dX2_isThere_31 (js_if_eq hX (tgt := 41) dX2_isThere_34 rfl (hK 1)
    (js_const hX (z := 1) (by unfold inI; omega) dX2_isThere_37 (Or.inl ⟨1, rfl, rfl, rfl⟩) (js_goto hX (tgt := 42) dX2_isThere_38 rfl (hK 2)))))))))))))))))))))))))
  | 1 => exact (js_const hX (z := 0) (by unfold inI; omega) dX2_isThere_41 (Or.inl ⟨0, rfl, rfl, rfl⟩) (hK 2))
  | 2 => exact (js_zreturn hX hr hlk dX2_isThere_42)
  | k + 3 => intro ls st h nc ns hf; exact hf.elim
def bX2_layShelf : jjB := fun e K k => match k with
  | 0 => (ji_const 0 (ji_istore 2 (ji_const 0 (ji_istore 3 (K 1)))))
  | 1 => (ji_iload 3 (ji_aload 0 (ji_getfR 2 0 (ji_const 13 (ji_iload 1 (ji_iadd (ji_iald (ji_icmp_ge (ji_aload 0 (ji_iload 2 (ji_callV e MX2_laySet 2 2 (ji_const 0 (ji_istore 3 (K 2))))))
    (ji_iload 2 (ji_const 1 (ji_aload 0 (ji_iload 1 (ji_iload 3 (ji_callV e MX2_bookAt 2 3 (ji_ishl (ji_ior (ji_istore 2 (ji_iinc 3 1 (ji_goto (K 1))))))))))))))))))))
  | 2 => (ji_iload 3 (ji_aload 0 (ji_getfI 2 34 (ji_icmp_ge (ji_aload 0 (ji_callV e MX2_orderOf 2 1 (ji_ireturn e)))
    (ji_const 0 (ji_istore 4 (K 3)))))))
  | 3 => (ji_aload 0 (ji_getfR 2 33 (ji_iload 4 (ji_iald (ji_aload 0 (ji_iload 1 (ji_iload 3 (ji_callV e MX2_bookAt 2 3 (ji_icmp_eq (ji_aload 0 (ji_getfR 2 36 (ji_iload 3 (ji_iload 4 (ji_iast (ji_iinc 3 1 (ji_goto (K 2))))))))
    (ji_iinc 4 1 (ji_goto (K 3))))))))))))
  | _ => fun _ _ _ _ _ => False
def pX2_layShelf : Nat → Nat := fun k => match k with
  | 0 => 0
  | 1 => 4
  | 2 => 41
  | 3 => 52
  | _ => 0
theorem sX2_layShelf : jSound bX2_layShelf pX2_layShelf MX2_layShelf := by
  intro e p ev R s m args below meth c hX hr hn hlk K hK k
  match k with
  | 0 => exact (js_const hX (z := 0) (by unfold inI; omega) dX2_layShelf_0 (Or.inl ⟨0, rfl, rfl, rfl⟩) (js_istore_n hX dX2_layShelf_1 rfl (by decide) (js_const hX (z := 0) (by unfold inI; omega) dX2_layShelf_2 (Or.inl ⟨0, rfl, rfl, rfl⟩) (js_istore_n hX dX2_layShelf_3 rfl (by decide) (hK 1)))))
  | 1 => exact (js_iload_n hX dX2_layShelf_4 rfl (js_aload_n hX dX2_layShelf_5 rfl (js_getfR hX (ci := 2) (k := 0) (RX2, TX2, 43) rfl (by decide) rfl (Or.inl q1346) (fun _ h => h) dX2_layShelf_6 (js_const hX (z := 13) (by unfold inI; omega) dX2_layShelf_9 (Or.inr (Or.inl ⟨13, rfl, rfl, rfl⟩)) (js_iload_n hX dX2_layShelf_11 rfl (js_iadd hX dX2_layShelf_12 (js_iald hX dX2_layShelf_13 (js_icmp_ge hX (tgt := 34) dX2_layShelf_14 rfl (js_aload_n hX dX2_layShelf_34 rfl (js_iload_n hX dX2_layShelf_35 rfl (js_callV hX MX2_laySet (ci := 2) (n := 1) (RX2, TX2, 43) rfl rfl (lw_V q1877 q1879 qs130 q156 q1880) npX2_laySet dX2_layShelf_36 (js_const hX (z := 0) (by unfold inI; omega) dX2_layShelf_39 (Or.inl ⟨0, rfl, rfl, rfl⟩) (js_istore_n hX dX2_layShelf_40 rfl (by decide) (hK 2))))))
    (js_iload_n hX dX2_layShelf_17 rfl (js_const hX (z := 1) (by unfold inI; omega) dX2_layShelf_18 (Or.inl ⟨1, rfl, rfl, rfl⟩) (js_aload_n hX dX2_layShelf_19 rfl (js_iload_n hX dX2_layShelf_20 rfl (js_iload_n hX dX2_layShelf_21 rfl (js_callV hX MX2_bookAt (ci := 2) (n := 2) (RX2, TX2, 43) rfl rfl (lw_V q1700 q1702 qs104 q156 q1703) npX2_bookAt dX2_layShelf_22 (js_ishl hX dX2_layShelf_25 (js_ior hX dX2_layShelf_26 (js_istore_n hX dX2_layShelf_27 rfl (by decide) (js_iinc hX dX2_layShelf_28 (by decide) (js_goto hX (tgt := 4) dX2_layShelf_31 rfl (hK 1))))))))))))))))))))
  | 2 => exact (js_iload_n hX dX2_layShelf_41 rfl (js_aload_n hX dX2_layShelf_42 rfl (js_getfI hX (ci := 2) (k := 34) (RX2, TX2, 43) rfl (by decide) rfl (Or.inl q1378) (fun _ h => h) dX2_layShelf_43 (js_icmp_ge hX (tgt := 88) dX2_layShelf_46 rfl (js_aload_n hX dX2_layShelf_88 rfl (js_callV hX MX2_orderOf (ci := 2) (n := 0) (RX2, TX2, 43) rfl rfl (lw_V q1911 q1913 qs137 q156 q1914) npX2_orderOf dX2_layShelf_89 (js_ireturn hX hr hlk dX2_layShelf_92)))
    (js_const hX (z := 0) (by unfold inI; omega) dX2_layShelf_49 (Or.inl ⟨0, rfl, rfl, rfl⟩) (js_istore hX dX2_layShelf_50 (by decide) (hK 3)))))))
  | 3 => exact (js_aload_n hX dX2_layShelf_52 rfl (js_getfR hX (ci := 2) (k := 33) (RX2, TX2, 43) rfl (by decide) rfl (Or.inl q1377) (fun _ h => h) dX2_layShelf_53 (js_iload hX dX2_layShelf_56 (js_iald hX dX2_layShelf_58 (js_aload_n hX dX2_layShelf_59 rfl (js_iload_n hX dX2_layShelf_60 rfl (js_iload_n hX dX2_layShelf_61 rfl (js_callV hX MX2_bookAt (ci := 2) (n := 2) (RX2, TX2, 43) rfl rfl (lw_V q1700 q1702 qs104 q156 q1703) npX2_bookAt dX2_layShelf_62 (js_icmp_eq hX (tgt := 74) dX2_layShelf_65 rfl (js_aload_n hX dX2_layShelf_74 rfl (js_getfR hX (ci := 2) (k := 36) (RX2, TX2, 43) rfl (by decide) rfl (Or.inl q1380) (fun _ h => h) dX2_layShelf_75 (js_iload_n hX dX2_layShelf_78 rfl (js_iload hX dX2_layShelf_79 (js_iast hX dX2_layShelf_81 (js_iinc hX dX2_layShelf_82 (by decide) (js_goto hX (tgt := 41) dX2_layShelf_85 rfl (hK 2))))))))
    (js_iinc hX dX2_layShelf_68 (by decide) (js_goto hX (tgt := 52) dX2_layShelf_71 rfl (hK 3))))))))))))
  | k + 4 => intro ls st h nc ns hf; exact hf.elim
def bX2_isAt : jjB := fun e K k => match k with
  | 0 => (ji_iload 2 (ji_const (-1) (ji_icmp_eq (K 1)
    (ji_aload 0 (ji_getfR 2 33 (ji_aload 0 (ji_getfR 2 30 (ji_const 6 (ji_iload 1 (ji_imul (ji_iload 3 (ji_iadd (ji_iald (ji_iald (ji_iload 2 (ji_icmp_ne (ji_const 0 (K 2))
    (K 1)))))))))))))))))
  | 1 => (ji_const 1 (ji_goto (K 2)))
  | 2 => (ji_zreturn e)
  | _ => fun _ _ _ _ _ => False
def pX2_isAt : Nat → Nat := fun k => match k with
  | 0 => 0
  | 1 => 25
  | 2 => 30
  | _ => 0
theorem sX2_isAt : jSound bX2_isAt pX2_isAt MX2_isAt := by
  intro e p ev R s m args below meth c hX hr hn hlk K hK k
  match k with
  | 0 => exact (js_iload_n hX dX2_isAt_0 rfl (js_const hX (z := (-1)) (by unfold inI; omega) dX2_isAt_1 (Or.inl ⟨(-1), rfl, rfl, rfl⟩) (js_icmp_eq hX (tgt := 25) dX2_isAt_2 rfl (hK 1)
    (js_aload_n hX dX2_isAt_5 rfl (js_getfR hX (ci := 2) (k := 33) (RX2, TX2, 43) rfl (by decide) rfl (Or.inl q1377) (fun _ h => h) dX2_isAt_6 (js_aload_n hX dX2_isAt_9 rfl (js_getfR hX (ci := 2) (k := 30) (RX2, TX2, 43) rfl (by decide) rfl (Or.inl q1374) (fun _ h => h) dX2_isAt_10 (js_const hX (z := 6) (by unfold inI; omega) dX2_isAt_13 (Or.inr (Or.inl ⟨6, rfl, rfl, rfl⟩)) (js_iload_n hX dX2_isAt_15 rfl (js_imul hX dX2_isAt_16 (js_iload_n hX dX2_isAt_17 rfl (js_iadd hX dX2_isAt_18 (js_iald hX dX2_isAt_19 (js_iald hX dX2_isAt_20 (js_iload_n hX dX2_isAt_21 rfl (js_icmp_ne hX (tgt := 29) dX2_isAt_22 rfl (js_const hX (z := 0) (by unfold inI; omega) dX2_isAt_29 (Or.inl ⟨0, rfl, rfl, rfl⟩) (hK 2))
    (hK 1)))))))))))))))))
  | 1 => exact (js_const hX (z := 1) (by unfold inI; omega) dX2_isAt_25 (Or.inl ⟨1, rfl, rfl, rfl⟩) (js_goto hX (tgt := 30) dX2_isAt_26 rfl (hK 2)))
  | 2 => exact (js_zreturn hX hr hlk dX2_isAt_30)
  | k + 3 => intro ls st h nc ns hf; exact hf.elim
def bX2_nudged : jjB := fun e K k => match k with
  | 0 => (ji_aload 0 (ji_iload 1 (ji_callV e MX2_takeOrder 2 2 (ji_aload 0 (ji_iload 2 (ji_callV e MX2_changeOrder 2 2 (ji_aload 0 (ji_callV e MX2_orderOf 2 1 (ji_ireturn e)))))))))
  | _ => fun _ _ _ _ _ => False
def pX2_nudged : Nat → Nat := fun k => match k with
  | 0 => 0
  | _ => 0
theorem sX2_nudged : jSound bX2_nudged pX2_nudged MX2_nudged := by
  intro e p ev R s m args below meth c hX hr hn hlk K hK k
  match k with
  | 0 => exact (js_aload_n hX dX2_nudged_0 rfl (js_iload_n hX dX2_nudged_1 rfl (js_callV hX MX2_takeOrder (ci := 2) (n := 1) (RX2, TX2, 43) rfl rfl (lw_V q1899 q1901 qs134 q156 q1902) npX2_takeOrder dX2_nudged_2 (js_aload_n hX dX2_nudged_5 rfl (js_iload_n hX dX2_nudged_6 rfl (js_callV hX MX2_changeOrder (ci := 2) (n := 1) (RX2, TX2, 43) rfl rfl (lw_V q1907 q1909 qs136 q156 q1910) npX2_changeOrder dX2_nudged_7 (js_aload_n hX dX2_nudged_10 rfl (js_callV hX MX2_orderOf (ci := 2) (n := 0) (RX2, TX2, 43) rfl rfl (lw_V q1911 q1913 qs137 q156 q1914) npX2_orderOf dX2_nudged_11 (js_ireturn hX hr hlk dX2_nudged_14)))))))))
  | k + 1 => intro ls st h nc ns hf; exact hf.elim
def bX2_game : jjB := fun e K k => match k with
  | 0 => (ji_iload 1 (ji_callS e MX2_isShelf 1 (ji_if_eq (K 1)
    (ji_aload 0 (ji_getfR 2 0 (ji_const 13 (ji_iload 1 (ji_iadd (ji_iald (ji_const 2 (ji_const 5 (ji_callS e MX2_isIn 3 (ji_if_eq (K 1)
    (ji_aload 0 (ji_iload 2 (ji_iload 1 (ji_const 0 (ji_callV e MX2_isThere 2 4 (ji_if_eq (K 1)
    (ji_iload 3 (ji_const 1 (ji_const 5 (ji_callS e MX2_isIn 3 (ji_if_ne (ji_aload 0 (ji_iload 1 (ji_callV e MX2_layShelf 2 2 (ji_istore 5 (ji_const 0 (ji_istore 6 (K 2)))))))
    (K 1)))))))))))))))))))))))))
  | 1 => (ji_const (-2) (ji_ireturn e))
  | 2 => (ji_iload 6 (ji_aload 0 (ji_getfI 2 35 (ji_icmp_ge (ji_iload 3 (ji_const 1 (ji_isub (ji_istore 6 (K 5)))))
    (ji_const 0 (ji_istore 7 (K 3)))))))
  | 3 => (ji_iload 7 (ji_aload 0 (ji_getfI 2 34 (ji_icmp_ge (ji_iinc 6 1 (ji_goto (K 2)))
    (ji_aload 0 (ji_iload 6 (ji_iload 2 (ji_iload 7 (ji_callV e MX2_isAt 2 4 (ji_if_eq (K 4)
    (ji_aload 0 (ji_getfR 2 39 (ji_iload 6 (ji_iload 7 (ji_iast (K 4))))))))))))))))
  | 4 => (ji_iinc 7 1 (ji_goto (K 3)))
  | 5 => (ji_iload 6 (ji_if_le (ji_aload 0 (ji_getfR 2 0 (ji_const 1 (ji_iald (ji_const 2 (ji_irem (ji_istore 6 (ji_aload 0 (ji_iload 5 (ji_iload 6 (ji_const 1 (ji_callV e MX2_bestOf 2 4 (ji_istore 7 (ji_iload 4 (ji_if_ne (ji_const (-1) (ji_istore 8 (K 9)))
    (ji_iload 7 (ji_ireturn e)))))))))))))))))
    (ji_const 0 (ji_istore 7 (K 6)))))
  | 6 => (ji_iload 7 (ji_aload 0 (ji_getfI 2 35 (ji_icmp_ge (ji_const 0 (ji_istore 7 (K 8)))
    (ji_aload 0 (ji_getfR 2 40 (ji_iload 7 (ji_aload 0 (ji_iload 7 (ji_aload 0 (ji_getfR 2 0 (ji_const 1 (ji_iald (ji_iload 6 (ji_iadd (ji_const 2 (ji_irem (ji_iload 6 (ji_const 2 (ji_irem (ji_if_ne (ji_const 0 (K 7))
    (ji_const 1 (ji_goto (K 7))))))))))))))))))))))))
  | 7 => (ji_callV e MX2_bestOf 2 4 (ji_iast (ji_iinc 7 1 (ji_goto (K 6)))))
  | 8 => (ji_iload 7 (ji_aload 0 (ji_getfI 2 35 (ji_icmp_ge (ji_iinc 6 (-1) (ji_goto (K 5)))
    (ji_aload 0 (ji_getfR 2 39 (ji_iload 7 (ji_aload 0 (ji_getfR 2 40 (ji_iload 7 (ji_iald (ji_iast (ji_iinc 7 1 (ji_goto (K 8)))))))))))))))
  | 9 => (ji_aload 0 (ji_getfR 2 39 (ji_aload 0 (ji_iload 5 (ji_iload 8 (ji_iload 6 (ji_callV e MX2_moved 2 4 (ji_iald (ji_iload 7 (ji_icmp_eq (ji_iload 8 (ji_ireturn e))
    (ji_iinc 8 1 (ji_goto (K 9)))))))))))))
  | _ => fun _ _ _ _ _ => False
def pX2_game : Nat → Nat := fun k => match k with
  | 0 => 0
  | 1 => 43
  | 2 => 56
  | 3 => 68
  | 4 => 98
  | 5 => 115
  | 6 => 123
  | 7 => 164
  | 8 => 177
  | 9 => 244
  | _ => 0
theorem sX2_game : jSound bX2_game pX2_game MX2_game := by
  intro e p ev R s m args below meth c hX hr hn hlk K hK k
  match k with
  | 0 => exact (js_iload_n hX dX2_game_0 rfl (js_callS hX MX2_isShelf (n := 1) (lw_S q1693 q1694 q156 q1695) npX2_isShelf dX2_game_1 (js_if_eq hX (tgt := 43) dX2_game_4 rfl (hK 1)
    (js_aload_n hX dX2_game_7 rfl (js_getfR hX (ci := 2) (k := 0) (RX2, TX2, 43) rfl (by decide) rfl (Or.inl q1346) (fun _ h => h) dX2_game_8 (js_const hX (z := 13) (by unfold inI; omega) dX2_game_11 (Or.inr (Or.inl ⟨13, rfl, rfl, rfl⟩)) (js_iload_n hX dX2_game_13 rfl (js_iadd hX dX2_game_14 (js_iald hX dX2_game_15 (js_const hX (z := 2) (by unfold inI; omega) dX2_game_16 (Or.inl ⟨2, rfl, rfl, rfl⟩) (js_const hX (z := 5) (by unfold inI; omega) dX2_game_17 (Or.inl ⟨5, rfl, rfl, rfl⟩) (js_callS hX MX2_isIn (n := 3) (lw_S q1479 q1480 q156 q1481) npX2_isIn dX2_game_18 (js_if_eq hX (tgt := 43) dX2_game_21 rfl (hK 1)
    (js_aload_n hX dX2_game_24 rfl (js_iload_n hX dX2_game_25 rfl (js_iload_n hX dX2_game_26 rfl (js_const hX (z := 0) (by unfold inI; omega) dX2_game_27 (Or.inl ⟨0, rfl, rfl, rfl⟩) (js_callV hX MX2_isThere (ci := 2) (n := 3) (RX2, TX2, 43) rfl rfl (lw_V q1951 q1953 qs142 q156 q1954) npX2_isThere dX2_game_28 (js_if_eq hX (tgt := 43) dX2_game_31 rfl (hK 1)
    (js_iload_n hX dX2_game_34 rfl (js_const hX (z := 1) (by unfold inI; omega) dX2_game_35 (Or.inl ⟨1, rfl, rfl, rfl⟩) (js_const hX (z := 5) (by unfold inI; omega) dX2_game_36 (Or.inl ⟨5, rfl, rfl, rfl⟩) (js_callS hX MX2_isIn (n := 3) (lw_S q1479 q1480 q156 q1481) npX2_isIn dX2_game_37 (js_if_ne hX (tgt := 46) dX2_game_40 rfl (js_aload_n hX dX2_game_46 rfl (js_iload_n hX dX2_game_47 rfl (js_callV hX MX2_layShelf (ci := 2) (n := 1) (RX2, TX2, 43) rfl rfl (lw_V q1955 q1957 qs143 q156 q1958) npX2_layShelf dX2_game_48 (js_istore hX dX2_game_51 (by decide) (js_const hX (z := 0) (by unfold inI; omega) dX2_game_53 (Or.inl ⟨0, rfl, rfl, rfl⟩) (js_istore hX dX2_game_54 (by decide) (hK 2)))))))
    (hK 1)))))))))))))))))))))))))
  | 1 => exact (js_const hX (z := (-2)) (by unfold inI; omega) dX2_game_43 (Or.inr (Or.inl ⟨(-2), rfl, rfl, rfl⟩)) (js_ireturn hX hr hlk dX2_game_45))
  | 2 => exact (js_iload hX dX2_game_56 (js_aload_n hX dX2_game_58 rfl (js_getfI hX (ci := 2) (k := 35) (RX2, TX2, 43) rfl (by decide) rfl (Or.inl q1379) (fun _ h => h) dX2_game_59 (js_icmp_ge hX (tgt := 110) dX2_game_62 rfl (js_iload_n hX dX2_game_110 rfl (js_const hX (z := 1) (by unfold inI; omega) dX2_game_111 (Or.inl ⟨1, rfl, rfl, rfl⟩) (js_isub hX dX2_game_112 (js_istore hX dX2_game_113 (by decide) (hK 5)))))
    (js_const hX (z := 0) (by unfold inI; omega) dX2_game_65 (Or.inl ⟨0, rfl, rfl, rfl⟩) (js_istore hX dX2_game_66 (by decide) (hK 3)))))))
  | 3 => exact (js_iload hX dX2_game_68 (js_aload_n hX dX2_game_70 rfl (js_getfI hX (ci := 2) (k := 34) (RX2, TX2, 43) rfl (by decide) rfl (Or.inl q1378) (fun _ h => h) dX2_game_71 (js_icmp_ge hX (tgt := 104) dX2_game_74 rfl (js_iinc hX dX2_game_104 (by decide) (js_goto hX (tgt := 56) dX2_game_107 rfl (hK 2)))
    (js_aload_n hX dX2_game_77 rfl (js_iload hX dX2_game_78 (js_iload_n hX dX2_game_80 rfl (js_iload hX dX2_game_81 (js_callV hX MX2_isAt (ci := 2) (n := 3) (RX2, TX2, 43) rfl rfl (lw_V q1959 q1961 qs144 q156 q1962) npX2_isAt dX2_game_83 (js_if_eq hX (tgt := 98) dX2_game_86 rfl (hK 4)
    (js_aload_n hX dX2_game_89 rfl (js_getfR hX (ci := 2) (k := 39) (RX2, TX2, 43) rfl (by decide) rfl (Or.inl q1383) (fun _ h => h) dX2_game_90 (js_iload hX dX2_game_93 (js_iload hX dX2_game_95 (js_iast hX dX2_game_97 (hK 4))))))))))))))))
  | 4 => exact (js_iinc hX dX2_game_98 (by decide) (js_goto hX (tgt := 68) dX2_game_101 rfl (hK 3)))
  | 5 => exact (js_iload hX dX2_game_115 (js_if_le hX (tgt := 212) dX2_game_117 rfl (js_aload_n hX dX2_game_212 rfl (js_getfR hX (ci := 2) (k := 0) (RX2, TX2, 43) rfl (by decide) rfl (Or.inl q1346) (fun _ h => h) dX2_game_213 (js_const hX (z := 1) (by unfold inI; omega) dX2_game_216 (Or.inl ⟨1, rfl, rfl, rfl⟩) (js_iald hX dX2_game_217 (js_const hX (z := 2) (by unfold inI; omega) dX2_game_218 (Or.inl ⟨2, rfl, rfl, rfl⟩) (js_irem hX dX2_game_219 (js_istore hX dX2_game_220 (by decide) (js_aload_n hX dX2_game_222 rfl (js_iload hX dX2_game_223 (js_iload hX dX2_game_225 (js_const hX (z := 1) (by unfold inI; omega) dX2_game_227 (Or.inl ⟨1, rfl, rfl, rfl⟩) (js_callV hX MX2_bestOf (ci := 2) (n := 3) (RX2, TX2, 43) rfl rfl (lw_V q1971 q1973 qs146 q156 q1974) npX2_bestOf dX2_game_228 (js_istore hX dX2_game_231 (by decide) (js_iload hX dX2_game_233 (js_if_ne hX (tgt := 241) dX2_game_235 rfl (js_const hX (z := (-1)) (by unfold inI; omega) dX2_game_241 (Or.inl ⟨(-1), rfl, rfl, rfl⟩) (js_istore hX dX2_game_242 (by decide) (hK 9)))
    (js_iload hX dX2_game_238 (js_ireturn hX hr hlk dX2_game_240)))))))))))))))))
    (js_const hX (z := 0) (by unfold inI; omega) dX2_game_120 (Or.inl ⟨0, rfl, rfl, rfl⟩) (js_istore hX dX2_game_121 (by decide) (hK 6)))))
  | 6 => exact (js_iload hX dX2_game_123 (js_aload_n hX dX2_game_125 rfl (js_getfI hX (ci := 2) (k := 35) (RX2, TX2, 43) rfl (by decide) rfl (Or.inl q1379) (fun _ h => h) dX2_game_126 (js_icmp_ge hX (tgt := 174) dX2_game_129 rfl (js_const hX (z := 0) (by unfold inI; omega) dX2_game_174 (Or.inl ⟨0, rfl, rfl, rfl⟩) (js_istore hX dX2_game_175 (by decide) (hK 8)))
    (js_aload_n hX dX2_game_132 rfl (js_getfR hX (ci := 2) (k := 40) (RX2, TX2, 43) rfl (by decide) rfl (Or.inl q1384) (fun _ h => h) dX2_game_133 (js_iload hX dX2_game_136 (js_aload_n hX dX2_game_138 rfl (js_iload hX dX2_game_139 (js_aload_n hX dX2_game_141 rfl (js_getfR hX (ci := 2) (k := 0) (RX2, TX2, 43) rfl (by decide) rfl (Or.inl q1346) (fun _ h => h) dX2_game_142 (js_const hX (z := 1) (by unfold inI; omega) dX2_game_145 (Or.inl ⟨1, rfl, rfl, rfl⟩) (js_iald hX dX2_game_146 (js_iload hX dX2_game_147 (js_iadd hX dX2_game_149 (js_const hX (z := 2) (by unfold inI; omega) dX2_game_150 (Or.inl ⟨2, rfl, rfl, rfl⟩) (js_irem hX dX2_game_151 (js_iload hX dX2_game_152 (js_const hX (z := 2) (by unfold inI; omega) dX2_game_154 (Or.inl ⟨2, rfl, rfl, rfl⟩) (js_irem hX dX2_game_155 (js_if_ne hX (tgt := 163) dX2_game_156 rfl (js_const hX (z := 0) (by unfold inI; omega) dX2_game_163 (Or.inl ⟨0, rfl, rfl, rfl⟩) (hK 7))
    (js_const hX (z := 1) (by unfold inI; omega) dX2_game_159 (Or.inl ⟨1, rfl, rfl, rfl⟩) (js_goto hX (tgt := 164) dX2_game_160 rfl (hK 7))))))))))))))))))))))))
  | 7 => exact (js_callV hX MX2_bestOf (ci := 2) (n := 3) (RX2, TX2, 43) rfl rfl (lw_V q1971 q1973 qs146 q156 q1974) npX2_bestOf dX2_game_164 (js_iast hX dX2_game_167 (js_iinc hX dX2_game_168 (by decide) (js_goto hX (tgt := 123) dX2_game_171 rfl (hK 6)))))
  | 8 => exact (js_iload hX dX2_game_177 (js_aload_n hX dX2_game_179 rfl (js_getfI hX (ci := 2) (k := 35) (RX2, TX2, 43) rfl (by decide) rfl (Or.inl q1379) (fun _ h => h) dX2_game_180 (js_icmp_ge hX (tgt := 206) dX2_game_183 rfl (js_iinc hX dX2_game_206 (by decide) (js_goto hX (tgt := 115) dX2_game_209 rfl (hK 5)))
    (js_aload_n hX dX2_game_186 rfl (js_getfR hX (ci := 2) (k := 39) (RX2, TX2, 43) rfl (by decide) rfl (Or.inl q1383) (fun _ h => h) dX2_game_187 (js_iload hX dX2_game_190 (js_aload_n hX dX2_game_192 rfl (js_getfR hX (ci := 2) (k := 40) (RX2, TX2, 43) rfl (by decide) rfl (Or.inl q1384) (fun _ h => h) dX2_game_193 (js_iload hX dX2_game_196 (js_iald hX dX2_game_198 (js_iast hX dX2_game_199 (js_iinc hX dX2_game_200 (by decide) (js_goto hX (tgt := 177) dX2_game_203 rfl (hK 8)))))))))))))))
  | 9 => exact (js_aload_n hX dX2_game_244 rfl (js_getfR hX (ci := 2) (k := 39) (RX2, TX2, 43) rfl (by decide) rfl (Or.inl q1383) (fun _ h => h) dX2_game_245 (js_aload_n hX dX2_game_248 rfl (js_iload hX dX2_game_249 (js_iload hX dX2_game_251 (js_iload hX dX2_game_253 (js_callV hX MX2_moved (ci := 2) (n := 3) (RX2, TX2, 43) rfl rfl (lw_V q1975 q1977 qs147 q156 q1978) npX2_moved dX2_game_255 (js_iald hX dX2_game_258 (js_iload hX dX2_game_259 (js_icmp_eq hX (tgt := 270) dX2_game_261 rfl (js_iload hX dX2_game_270 (js_ireturn hX hr hlk dX2_game_272))
    (js_iinc hX dX2_game_264 (by decide) (js_goto hX (tgt := 244) dX2_game_267 rfl (hK 9)))))))))))))
  | k + 10 => intro ls st h nc ns hf; exact hf.elim
def bX2_bestOf : jjB := fun e K k => match k with
  | 0 => (ji_aload 0 (ji_getfR 2 39 (ji_aload 0 (ji_iload 1 (ji_const (-1) (ji_iload 2 (ji_callV e MX2_moved 2 4 (ji_iald (ji_istore 4 (ji_const 0 (ji_istore 5 (K 1))))))))))))
  | 1 => (ji_iload 5 (ji_const 1 (ji_iadd (ji_aload 0 (ji_getfI 2 34 (ji_icmp_ge (ji_iload 4 (ji_ireturn e))
    (ji_aload 0 (ji_getfR 2 39 (ji_aload 0 (ji_iload 1 (ji_iload 5 (ji_iload 2 (ji_callV e MX2_moved 2 4 (ji_iald (ji_istore 6 (ji_iload 3 (ji_if_eq (ji_iload 6 (ji_iload 4 (ji_icmp_le (K 3)
    (K 2))))
    (ji_iload 6 (ji_iload 4 (ji_icmp_ge (K 3)
    (ji_goto (K 2))))))))))))))))))))))
  | 2 => (ji_iload 6 (ji_istore 4 (K 3)))
  | 3 => (ji_iinc 5 1 (ji_goto (K 1)))
  | _ => fun _ _ _ _ _ => False
def pX2_bestOf : Nat → Nat := fun k => match k with
  | 0 => 0
  | 1 => 17
  | 2 => 64
  | 3 => 68
  | _ => 0
theorem sX2_bestOf : jSound bX2_bestOf pX2_bestOf MX2_bestOf := by
  intro e p ev R s m args below meth c hX hr hn hlk K hK k
  match k with
  | 0 => exact (js_aload_n hX dX2_bestOf_0 rfl (js_getfR hX (ci := 2) (k := 39) (RX2, TX2, 43) rfl (by decide) rfl (Or.inl q1383) (fun _ h => h) dX2_bestOf_1 (js_aload_n hX dX2_bestOf_4 rfl (js_iload_n hX dX2_bestOf_5 rfl (js_const hX (z := (-1)) (by unfold inI; omega) dX2_bestOf_6 (Or.inl ⟨(-1), rfl, rfl, rfl⟩) (js_iload_n hX dX2_bestOf_7 rfl (js_callV hX MX2_moved (ci := 2) (n := 3) (RX2, TX2, 43) rfl rfl (lw_V q1975 q1977 qs147 q156 q1978) npX2_moved dX2_bestOf_8 (js_iald hX dX2_bestOf_11 (js_istore hX dX2_bestOf_12 (by decide) (js_const hX (z := 0) (by unfold inI; omega) dX2_bestOf_14 (Or.inl ⟨0, rfl, rfl, rfl⟩) (js_istore hX dX2_bestOf_15 (by decide) (hK 1))))))))))))
  | 1 => exact (js_iload hX dX2_bestOf_17 (js_const hX (z := 1) (by unfold inI; omega) dX2_bestOf_19 (Or.inl ⟨1, rfl, rfl, rfl⟩) (js_iadd hX dX2_bestOf_20 (js_aload_n hX dX2_bestOf_21 rfl (js_getfI hX (ci := 2) (k := 34) (RX2, TX2, 43) rfl (by decide) rfl (Or.inl q1378) (fun _ h => h) dX2_bestOf_22 (js_icmp_ge hX (tgt := 74) dX2_bestOf_25 rfl (js_iload hX dX2_bestOf_74 (js_ireturn hX hr hlk dX2_bestOf_76))
    (js_aload_n hX dX2_bestOf_28 rfl (js_getfR hX (ci := 2) (k := 39) (RX2, TX2, 43) rfl (by decide) rfl (Or.inl q1383) (fun _ h => h) dX2_bestOf_29 (js_aload_n hX dX2_bestOf_32 rfl (js_iload_n hX dX2_bestOf_33 rfl (js_iload hX dX2_bestOf_34 (js_iload_n hX dX2_bestOf_36 rfl (js_callV hX MX2_moved (ci := 2) (n := 3) (RX2, TX2, 43) rfl rfl (lw_V q1975 q1977 qs147 q156 q1978) npX2_moved dX2_bestOf_37 (js_iald hX dX2_bestOf_40 (js_istore hX dX2_bestOf_41 (by decide) (js_iload_n hX dX2_bestOf_43 rfl (js_if_eq hX (tgt := 57) dX2_bestOf_44 rfl (js_iload hX dX2_bestOf_57 (js_iload hX dX2_bestOf_59 (js_icmp_le hX (tgt := 68) dX2_bestOf_61 rfl (hK 3)
    (hK 2))))
    (js_iload hX dX2_bestOf_47 (js_iload hX dX2_bestOf_49 (js_icmp_ge hX (tgt := 68) dX2_bestOf_51 rfl (hK 3)
    (js_goto hX (tgt := 64) dX2_bestOf_54 rfl (hK 2))))))))))))))))))))))
  | 2 => exact (js_iload hX dX2_bestOf_64 (js_istore hX dX2_bestOf_66 (by decide) (hK 3)))
  | 3 => exact (js_iinc hX dX2_bestOf_68 (by decide) (js_goto hX (tgt := 17) dX2_bestOf_71 rfl (hK 1)))
  | k + 4 => intro ls st h nc ns hf; exact hf.elim
def bX2_moved : jjB := fun e K k => match k with
  | 0 => (ji_aload 0 (ji_getfR 2 31 (ji_const 2 (ji_iload 2 (ji_const (-1) (ji_icmp_ne (ji_aload 0 (ji_iload 1 (ji_iload 2 (ji_callV e MX2_nudged 2 3 (K 1)))))
    (ji_iload 1 (ji_goto (K 1)))))))))
  | 1 => (ji_imul (ji_iload 3 (ji_iadd (ji_iald (ji_ireturn e)))))
  | _ => fun _ _ _ _ _ => False
def pX2_moved : Nat → Nat := fun k => match k with
  | 0 => 0
  | 1 => 20
  | _ => 0
theorem sX2_moved : jSound bX2_moved pX2_moved MX2_moved := by
  intro e p ev R s m args below meth c hX hr hn hlk K hK k
  match k with
  | 0 => exact (js_aload_n hX dX2_moved_0 rfl (js_getfR hX (ci := 2) (k := 31) (RX2, TX2, 43) rfl (by decide) rfl (Or.inl q1375) (fun _ h => h) dX2_moved_1 (js_const hX (z := 2) (by unfold inI; omega) dX2_moved_4 (Or.inl ⟨2, rfl, rfl, rfl⟩) (js_iload_n hX dX2_moved_5 rfl (js_const hX (z := (-1)) (by unfold inI; omega) dX2_moved_6 (Or.inl ⟨(-1), rfl, rfl, rfl⟩) (js_icmp_ne hX (tgt := 14) dX2_moved_7 rfl (js_aload_n hX dX2_moved_14 rfl (js_iload_n hX dX2_moved_15 rfl (js_iload_n hX dX2_moved_16 rfl (js_callV hX MX2_nudged (ci := 2) (n := 2) (RX2, TX2, 43) rfl rfl (lw_V q1963 q1965 qs145 q156 q1966) npX2_nudged dX2_moved_17 (hK 1)))))
    (js_iload_n hX dX2_moved_10 rfl (js_goto hX (tgt := 20) dX2_moved_11 rfl (hK 1)))))))))
  | 1 => exact (js_imul hX dX2_moved_20 (js_iload_n hX dX2_moved_21 rfl (js_iadd hX dX2_moved_22 (js_iald hX dX2_moved_23 (js_ireturn hX hr hlk dX2_moved_24)))))
  | k + 2 => intro ls st h nc ns hf; exact hf.elim
def bX2_catalogue : jjB := fun e K k => match k with
  | 0 => (ji_aload 0 (ji_iload 1 (ji_callV e MX2_isOnShelf 2 2 (ji_if_eq (K 1)
    (ji_iload 2 (ji_const 0 (ji_const 99 (ji_callS e MX2_isIn 3 (ji_if_ne (ji_aload 0 (ji_iload 1 (ji_const 5 (ji_callV e MX2_get 2 3 (ji_istore 5 (ji_iload 3 (ji_const 0 (ji_aload 0 (ji_getfR 2 0 (ji_const 13 (ji_iload 5 (ji_iadd (ji_iald (ji_const 1 (ji_isub (ji_callS e MX2_isIn 3 (ji_if_ne (ji_aload 0 (ji_iload 5 (ji_const (-1) (ji_callV e MX2_layRow 2 3 (ji_const 0 (ji_istore 6 (K 2)))))))
    (ji_const (-1) (ji_ireturn e)))))))))))))))))))
    (K 1))))))))))
  | 1 => (ji_const (-1) (ji_ireturn e))
  | 2 => (ji_iload 6 (ji_const 10 (ji_icmp_ge (ji_const 0 (ji_istore 6 (K 3)))
    (ji_aload 0 (ji_getfR 2 41 (ji_iload 6 (ji_const 0 (ji_iast (ji_iinc 6 1 (ji_goto (K 2)))))))))))
  | 3 => (ji_iload 6 (ji_iload 2 (ji_icmp_gt (ji_iload 4 (ji_if_ne (ji_const (-1) (ji_istore 6 (ji_const 0 (ji_istore 7 (K 6)))))
    (ji_aload 0 (ji_getfR 2 41 (ji_iload 3 (ji_iald (ji_ireturn e)))))))
    (ji_const 0 (ji_istore 7 (K 4))))))
  | 4 => (ji_iload 7 (ji_aload 0 (ji_getfI 2 28 (ji_icmp_ge (ji_aload 0 (ji_aload 0 (ji_getfR 2 0 (ji_const 1 (ji_iald (ji_iload 6 (ji_iadd (ji_const 2 (ji_irem (ji_callV e MX2_nightOn 2 2 (ji_iinc 6 1 (ji_goto (K 3)))))))))))))
    (ji_aload 0 (ji_getfR 2 41 (ji_iload 7 (ji_dup2 (ji_iald (ji_aload 0 (ji_getfR 2 27 (ji_iload 7 (ji_iald (ji_iload 1 (ji_icmp_ne (ji_const 0 (K 5))
    (ji_const 1 (ji_goto (K 5))))))))))))))))))
  | 5 => (ji_iadd (ji_iast (ji_iinc 7 1 (ji_goto (K 4)))))
  | 6 => (ji_iload 7 (ji_iload 3 (ji_icmp_gt (ji_aload 0 (ji_getfR 2 41 (ji_iload 6 (ji_iald (ji_if_le (ji_const (-1) (K 10))
    (ji_iload 6 (ji_goto (K 10))))))))
    (ji_iload 7 (ji_if_le (K 7)
    (ji_aload 0 (ji_getfR 2 41 (ji_iload 6 (ji_const 0 (ji_iast (K 7)))))))))))
  | 7 => (ji_const 0 (ji_istore 6 (ji_const 1 (ji_istore 8 (K 8)))))
  | 8 => (ji_iload 8 (ji_aload 0 (ji_getfI 2 28 (ji_icmp_ge (ji_iinc 7 1 (ji_goto (K 6)))
    (ji_aload 0 (ji_getfR 2 41 (ji_iload 8 (ji_iald (ji_aload 0 (ji_getfR 2 41 (ji_iload 6 (ji_iald (ji_icmp_le (K 9)
    (ji_iload 8 (ji_istore 6 (K 9))))))))))))))))
  | 9 => (ji_iinc 8 1 (ji_goto (K 8)))
  | 10 => (ji_ireturn e)
  | _ => fun _ _ _ _ _ => False
def pX2_catalogue : Nat → Nat := fun k => match k with
  | 0 => 0
  | 1 => 18
  | 2 => 60
  | 3 => 84
  | 4 => 93
  | 5 => 126
  | 6 => 173
  | 7 => 192
  | 8 => 198
  | 9 => 228
  | 10 => 256
  | _ => 0
theorem sX2_catalogue : jSound bX2_catalogue pX2_catalogue MX2_catalogue := by
  intro e p ev R s m args below meth c hX hr hn hlk K hK k
  match k with
  | 0 => exact (js_aload_n hX dX2_catalogue_0 rfl (js_iload_n hX dX2_catalogue_1 rfl (js_callV hX MX2_isOnShelf (ci := 2) (n := 1) (RX2, TX2, 43) rfl rfl (lw_V q1809 q1811 qs121 q156 q1812) npX2_isOnShelf dX2_catalogue_2 (js_if_eq hX (tgt := 18) dX2_catalogue_5 rfl (hK 1)
    (js_iload_n hX dX2_catalogue_8 rfl (js_const hX (z := 0) (by unfold inI; omega) dX2_catalogue_9 (Or.inl ⟨0, rfl, rfl, rfl⟩) (js_const hX (z := 99) (by unfold inI; omega) dX2_catalogue_10 (Or.inr (Or.inl ⟨99, rfl, rfl, rfl⟩)) (js_callS hX MX2_isIn (n := 3) (lw_S q1479 q1480 q156 q1481) npX2_isIn dX2_catalogue_12 (js_if_ne hX (tgt := 20) dX2_catalogue_15 rfl (js_aload_n hX dX2_catalogue_20 rfl (js_iload_n hX dX2_catalogue_21 rfl (js_const hX (z := 5) (by unfold inI; omega) dX2_catalogue_22 (Or.inl ⟨5, rfl, rfl, rfl⟩) (js_callV hX MX2_get (ci := 2) (n := 2) (RX2, TX2, 43) rfl rfl (lw_V q1658 q1660 qs98 q156 q1661) npX2_get dX2_catalogue_23 (js_istore hX dX2_catalogue_26 (by decide) (js_iload_n hX dX2_catalogue_28 rfl (js_const hX (z := 0) (by unfold inI; omega) dX2_catalogue_29 (Or.inl ⟨0, rfl, rfl, rfl⟩) (js_aload_n hX dX2_catalogue_30 rfl (js_getfR hX (ci := 2) (k := 0) (RX2, TX2, 43) rfl (by decide) rfl (Or.inl q1346) (fun _ h => h) dX2_catalogue_31 (js_const hX (z := 13) (by unfold inI; omega) dX2_catalogue_34 (Or.inr (Or.inl ⟨13, rfl, rfl, rfl⟩)) (js_iload hX dX2_catalogue_36 (js_iadd hX dX2_catalogue_38 (js_iald hX dX2_catalogue_39 (js_const hX (z := 1) (by unfold inI; omega) dX2_catalogue_40 (Or.inl ⟨1, rfl, rfl, rfl⟩) (js_isub hX dX2_catalogue_41 (js_callS hX MX2_isIn (n := 3) (lw_S q1479 q1480 q156 q1481) npX2_isIn dX2_catalogue_42 (js_if_ne hX (tgt := 50) dX2_catalogue_45 rfl (js_aload_n hX dX2_catalogue_50 rfl (js_iload hX dX2_catalogue_51 (js_const hX (z := (-1)) (by unfold inI; omega) dX2_catalogue_53 (Or.inl ⟨(-1), rfl, rfl, rfl⟩) (js_callV hX MX2_layRow (ci := 2) (n := 2) (RX2, TX2, 43) rfl rfl (lw_V q1833 q1835 qs122 q156 q1836) npX2_layRow dX2_catalogue_54 (js_const hX (z := 0) (by unfold inI; omega) dX2_catalogue_57 (Or.inl ⟨0, rfl, rfl, rfl⟩) (js_istore hX dX2_catalogue_58 (by decide) (hK 2)))))))
    (js_const hX (z := (-1)) (by unfold inI; omega) dX2_catalogue_48 (Or.inl ⟨(-1), rfl, rfl, rfl⟩) (js_ireturn hX hr hlk dX2_catalogue_49)))))))))))))))))))
    (hK 1))))))))))
  | 1 => exact (js_const hX (z := (-1)) (by unfold inI; omega) dX2_catalogue_18 (Or.inl ⟨(-1), rfl, rfl, rfl⟩) (js_ireturn hX hr hlk dX2_catalogue_19))
  | 2 => exact (js_iload hX dX2_catalogue_60 (js_const hX (z := 10) (by unfold inI; omega) dX2_catalogue_62 (Or.inr (Or.inl ⟨10, rfl, rfl, rfl⟩)) (js_icmp_ge hX (tgt := 81) dX2_catalogue_64 rfl (js_const hX (z := 0) (by unfold inI; omega) dX2_catalogue_81 (Or.inl ⟨0, rfl, rfl, rfl⟩) (js_istore hX dX2_catalogue_82 (by decide) (hK 3)))
    (js_aload_n hX dX2_catalogue_67 rfl (js_getfR hX (ci := 2) (k := 41) (RX2, TX2, 43) rfl (by decide) rfl (Or.inl q1385) (fun _ h => h) dX2_catalogue_68 (js_iload hX dX2_catalogue_71 (js_const hX (z := 0) (by unfold inI; omega) dX2_catalogue_73 (Or.inl ⟨0, rfl, rfl, rfl⟩) (js_iast hX dX2_catalogue_74 (js_iinc hX dX2_catalogue_75 (by decide) (js_goto hX (tgt := 60) dX2_catalogue_78 rfl (hK 2)))))))))))
  | 3 => exact (js_iload hX dX2_catalogue_84 (js_iload_n hX dX2_catalogue_86 rfl (js_icmp_gt hX (tgt := 155) dX2_catalogue_87 rfl (js_iload hX dX2_catalogue_155 (js_if_ne hX (tgt := 167) dX2_catalogue_157 rfl (js_const hX (z := (-1)) (by unfold inI; omega) dX2_catalogue_167 (Or.inl ⟨(-1), rfl, rfl, rfl⟩) (js_istore hX dX2_catalogue_168 (by decide) (js_const hX (z := 0) (by unfold inI; omega) dX2_catalogue_170 (Or.inl ⟨0, rfl, rfl, rfl⟩) (js_istore hX dX2_catalogue_171 (by decide) (hK 6)))))
    (js_aload_n hX dX2_catalogue_160 rfl (js_getfR hX (ci := 2) (k := 41) (RX2, TX2, 43) rfl (by decide) rfl (Or.inl q1385) (fun _ h => h) dX2_catalogue_161 (js_iload_n hX dX2_catalogue_164 rfl (js_iald hX dX2_catalogue_165 (js_ireturn hX hr hlk dX2_catalogue_166)))))))
    (js_const hX (z := 0) (by unfold inI; omega) dX2_catalogue_90 (Or.inl ⟨0, rfl, rfl, rfl⟩) (js_istore hX dX2_catalogue_91 (by decide) (hK 4))))))
  | 4 => exact (js_iload hX dX2_catalogue_93 (js_aload_n hX dX2_catalogue_95 rfl (js_getfI hX (ci := 2) (k := 28) (RX2, TX2, 43) rfl (by decide) rfl (Or.inl q1372) (fun _ h => h) dX2_catalogue_96 (js_icmp_ge hX (tgt := 134) dX2_catalogue_99 rfl (js_aload_n hX dX2_catalogue_134 rfl (js_aload_n hX dX2_catalogue_135 rfl (js_getfR hX (ci := 2) (k := 0) (RX2, TX2, 43) rfl (by decide) rfl (Or.inl q1346) (fun _ h => h) dX2_catalogue_136 (js_const hX (z := 1) (by unfold inI; omega) dX2_catalogue_139 (Or.inl ⟨1, rfl, rfl, rfl⟩) (js_iald hX dX2_catalogue_140 (js_iload hX dX2_catalogue_141 (js_iadd hX dX2_catalogue_143 (js_const hX (z := 2) (by unfold inI; omega) dX2_catalogue_144 (Or.inl ⟨2, rfl, rfl, rfl⟩) (js_irem hX dX2_catalogue_145 (js_callV hX MX2_nightOn (ci := 2) (n := 1) (RX2, TX2, 43) rfl rfl (lw_V q1849 q1851 qs126 q156 q1852) npX2_nightOn dX2_catalogue_146 (js_iinc hX dX2_catalogue_149 (by decide) (js_goto hX (tgt := 84) dX2_catalogue_152 rfl (hK 3)))))))))))))
    (js_aload_n hX dX2_catalogue_102 rfl (js_getfR hX (ci := 2) (k := 41) (RX2, TX2, 43) rfl (by decide) rfl (Or.inl q1385) (fun _ h => h) dX2_catalogue_103 (js_iload hX dX2_catalogue_106 (js_dup2 hX dX2_catalogue_108 (js_iald hX dX2_catalogue_109 (js_aload_n hX dX2_catalogue_110 rfl (js_getfR hX (ci := 2) (k := 27) (RX2, TX2, 43) rfl (by decide) rfl (Or.inl q1371) (fun _ h => h) dX2_catalogue_111 (js_iload hX dX2_catalogue_114 (js_iald hX dX2_catalogue_116 (js_iload_n hX dX2_catalogue_117 rfl (js_icmp_ne hX (tgt := 125) dX2_catalogue_118 rfl (js_const hX (z := 0) (by unfold inI; omega) dX2_catalogue_125 (Or.inl ⟨0, rfl, rfl, rfl⟩) (hK 5))
    (js_const hX (z := 1) (by unfold inI; omega) dX2_catalogue_121 (Or.inl ⟨1, rfl, rfl, rfl⟩) (js_goto hX (tgt := 126) dX2_catalogue_122 rfl (hK 5))))))))))))))))))
  | 5 => exact (js_iadd hX dX2_catalogue_126 (js_iast hX dX2_catalogue_127 (js_iinc hX dX2_catalogue_128 (by decide) (js_goto hX (tgt := 93) dX2_catalogue_131 rfl (hK 4)))))
  | 6 => exact (js_iload hX dX2_catalogue_173 (js_iload_n hX dX2_catalogue_175 rfl (js_icmp_gt hX (tgt := 240) dX2_catalogue_176 rfl (js_aload_n hX dX2_catalogue_240 rfl (js_getfR hX (ci := 2) (k := 41) (RX2, TX2, 43) rfl (by decide) rfl (Or.inl q1385) (fun _ h => h) dX2_catalogue_241 (js_iload hX dX2_catalogue_244 (js_iald hX dX2_catalogue_246 (js_if_le hX (tgt := 255) dX2_catalogue_247 rfl (js_const hX (z := (-1)) (by unfold inI; omega) dX2_catalogue_255 (Or.inl ⟨(-1), rfl, rfl, rfl⟩) (hK 10))
    (js_iload hX dX2_catalogue_250 (js_goto hX (tgt := 256) dX2_catalogue_252 rfl (hK 10))))))))
    (js_iload hX dX2_catalogue_179 (js_if_le hX (tgt := 192) dX2_catalogue_181 rfl (hK 7)
    (js_aload_n hX dX2_catalogue_184 rfl (js_getfR hX (ci := 2) (k := 41) (RX2, TX2, 43) rfl (by decide) rfl (Or.inl q1385) (fun _ h => h) dX2_catalogue_185 (js_iload hX dX2_catalogue_188 (js_const hX (z := 0) (by unfold inI; omega) dX2_catalogue_190 (Or.inl ⟨0, rfl, rfl, rfl⟩) (js_iast hX dX2_catalogue_191 (hK 7)))))))))))
  | 7 => exact (js_const hX (z := 0) (by unfold inI; omega) dX2_catalogue_192 (Or.inl ⟨0, rfl, rfl, rfl⟩) (js_istore hX dX2_catalogue_193 (by decide) (js_const hX (z := 1) (by unfold inI; omega) dX2_catalogue_195 (Or.inl ⟨1, rfl, rfl, rfl⟩) (js_istore hX dX2_catalogue_196 (by decide) (hK 8)))))
  | 8 => exact (js_iload hX dX2_catalogue_198 (js_aload_n hX dX2_catalogue_200 rfl (js_getfI hX (ci := 2) (k := 28) (RX2, TX2, 43) rfl (by decide) rfl (Or.inl q1372) (fun _ h => h) dX2_catalogue_201 (js_icmp_ge hX (tgt := 234) dX2_catalogue_204 rfl (js_iinc hX dX2_catalogue_234 (by decide) (js_goto hX (tgt := 173) dX2_catalogue_237 rfl (hK 6)))
    (js_aload_n hX dX2_catalogue_207 rfl (js_getfR hX (ci := 2) (k := 41) (RX2, TX2, 43) rfl (by decide) rfl (Or.inl q1385) (fun _ h => h) dX2_catalogue_208 (js_iload hX dX2_catalogue_211 (js_iald hX dX2_catalogue_213 (js_aload_n hX dX2_catalogue_214 rfl (js_getfR hX (ci := 2) (k := 41) (RX2, TX2, 43) rfl (by decide) rfl (Or.inl q1385) (fun _ h => h) dX2_catalogue_215 (js_iload hX dX2_catalogue_218 (js_iald hX dX2_catalogue_220 (js_icmp_le hX (tgt := 228) dX2_catalogue_221 rfl (hK 9)
    (js_iload hX dX2_catalogue_224 (js_istore hX dX2_catalogue_226 (by decide) (hK 9))))))))))))))))
  | 9 => exact (js_iinc hX dX2_catalogue_228 (by decide) (js_goto hX (tgt := 198) dX2_catalogue_231 rfl (hK 8)))
  | 10 => exact (js_ireturn hX hr hlk dX2_catalogue_256)
  | k + 11 => intro ls st h nc ns hf; exact hf.elim
def bX2_theft : jjB := fun e K k => match k with
  | 0 => (ji_aload 0 (ji_iload 1 (ji_callV e MX2_isOnShelf 2 2 (ji_if_eq (ji_const (-1) (K 1))
    (ji_aload 0 (ji_iload 1 (ji_callV e MX2_costOf 2 2 (ji_goto (K 1)))))))))
  | 1 => (ji_ireturn e)
  | _ => fun _ _ _ _ _ => False
def pX2_theft : Nat → Nat := fun k => match k with
  | 0 => 0
  | 1 => 17
  | _ => 0
theorem sX2_theft : jSound bX2_theft pX2_theft MX2_theft := by
  intro e p ev R s m args below meth c hX hr hn hlk K hK k
  match k with
  | 0 => exact (js_aload_n hX dX2_theft_0 rfl (js_iload_n hX dX2_theft_1 rfl (js_callV hX MX2_isOnShelf (ci := 2) (n := 1) (RX2, TX2, 43) rfl rfl (lw_V q1809 q1811 qs121 q156 q1812) npX2_isOnShelf dX2_theft_2 (js_if_eq hX (tgt := 16) dX2_theft_5 rfl (js_const hX (z := (-1)) (by unfold inI; omega) dX2_theft_16 (Or.inl ⟨(-1), rfl, rfl, rfl⟩) (hK 1))
    (js_aload_n hX dX2_theft_8 rfl (js_iload_n hX dX2_theft_9 rfl (js_callV hX MX2_costOf (ci := 2) (n := 1) (RX2, TX2, 43) rfl rfl (lw_V q1987 q1989 qs148 q156 q1990) npX2_costOf dX2_theft_10 (js_goto hX (tgt := 17) dX2_theft_13 rfl (hK 1)))))))))
  | 1 => exact (js_ireturn hX hr hlk dX2_theft_17)
  | k + 2 => intro ls st h nc ns hf; exact hf.elim
def bX2_costOf : jjB := fun e K k => match k with
  | 0 => (ji_aload 0 (ji_iload 1 (ji_const 5 (ji_callV e MX2_get 2 3 (ji_istore 2 (ji_aload 0 (ji_iload 2 (ji_iload 1 (ji_callV e MX2_layRow 2 3 (ji_aload 0 (ji_callV e MX2_goToRest 2 1 (ji_if_ge (ji_const 0 (ji_istore 3 (K 1)))
    (ji_const (-1) (ji_ireturn e))))))))))))))
  | 1 => (ji_iload 3 (ji_aload 0 (ji_getfI 2 28 (ji_icmp_ge (ji_aload 0 (ji_iload 2 (ji_const (-1) (ji_callV e MX2_layRow 2 3 (ji_aload 0 (ji_callV e MX2_goToRest 2 1 (ji_if_ge (ji_const 0 (ji_istore 3 (ji_const 0 (ji_istore 4 (ji_const 0 (ji_istore 5 (K 2)))))))
    (ji_const (-1) (ji_ireturn e)))))))))
    (ji_aload 0 (ji_getfR 2 42 (ji_iload 3 (ji_aload 0 (ji_getfR 2 27 (ji_iload 3 (ji_iald (ji_iast (ji_iinc 3 1 (ji_goto (K 1)))))))))))))))
  | 2 => (ji_iload 5 (ji_aload 0 (ji_getfI 2 28 (ji_icmp_ge (ji_iload 3 (ji_ireturn e))
    (ji_aload 0 (ji_getfR 2 27 (ji_iload 5 (ji_iald (ji_iload 1 (ji_icmp_ne (ji_iload 3 (ji_aload 0 (ji_getfR 2 27 (ji_iload 5 (ji_iald (ji_aload 0 (ji_getfR 2 42 (ji_iload 4 (ji_iald (ji_icmp_eq (ji_const 0 (K 3))
    (ji_const 1 (ji_goto (K 3)))))))))))))
    (ji_goto (K 4))))))))))))
  | 3 => (ji_iadd (ji_istore 3 (ji_iinc 4 1 (K 4))))
  | 4 => (ji_iinc 5 1 (ji_goto (K 2)))
  | _ => fun _ _ _ _ _ => False
def pX2_costOf : Nat → Nat := fun k => match k with
  | 0 => 0
  | 1 => 24
  | 2 => 73
  | 3 => 119
  | 4 => 124
  | _ => 0
theorem sX2_costOf : jSound bX2_costOf pX2_costOf MX2_costOf := by
  intro e p ev R s m args below meth c hX hr hn hlk K hK k
  match k with
  | 0 => exact (js_aload_n hX dX2_costOf_0 rfl (js_iload_n hX dX2_costOf_1 rfl (js_const hX (z := 5) (by unfold inI; omega) dX2_costOf_2 (Or.inl ⟨5, rfl, rfl, rfl⟩) (js_callV hX MX2_get (ci := 2) (n := 2) (RX2, TX2, 43) rfl rfl (lw_V q1658 q1660 qs98 q156 q1661) npX2_get dX2_costOf_3 (js_istore_n hX dX2_costOf_6 rfl (by decide) (js_aload_n hX dX2_costOf_7 rfl (js_iload_n hX dX2_costOf_8 rfl (js_iload_n hX dX2_costOf_9 rfl (js_callV hX MX2_layRow (ci := 2) (n := 2) (RX2, TX2, 43) rfl rfl (lw_V q1833 q1835 qs122 q156 q1836) npX2_layRow dX2_costOf_10 (js_aload_n hX dX2_costOf_13 rfl (js_callV hX MX2_goToRest (ci := 2) (n := 0) (RX2, TX2, 43) rfl rfl (lw_V q1841 q1843 qs124 q156 q1844) npX2_goToRest dX2_costOf_14 (js_if_ge hX (tgt := 22) dX2_costOf_17 rfl (js_const hX (z := 0) (by unfold inI; omega) dX2_costOf_22 (Or.inl ⟨0, rfl, rfl, rfl⟩) (js_istore_n hX dX2_costOf_23 rfl (by decide) (hK 1)))
    (js_const hX (z := (-1)) (by unfold inI; omega) dX2_costOf_20 (Or.inl ⟨(-1), rfl, rfl, rfl⟩) (js_ireturn hX hr hlk dX2_costOf_21))))))))))))))
  | 1 => exact (js_iload_n hX dX2_costOf_24 rfl (js_aload_n hX dX2_costOf_25 rfl (js_getfI hX (ci := 2) (k := 28) (RX2, TX2, 43) rfl (by decide) rfl (Or.inl q1372) (fun _ h => h) dX2_costOf_26 (js_icmp_ge hX (tgt := 50) dX2_costOf_29 rfl (js_aload_n hX dX2_costOf_50 rfl (js_iload_n hX dX2_costOf_51 rfl (js_const hX (z := (-1)) (by unfold inI; omega) dX2_costOf_52 (Or.inl ⟨(-1), rfl, rfl, rfl⟩) (js_callV hX MX2_layRow (ci := 2) (n := 2) (RX2, TX2, 43) rfl rfl (lw_V q1833 q1835 qs122 q156 q1836) npX2_layRow dX2_costOf_53 (js_aload_n hX dX2_costOf_56 rfl (js_callV hX MX2_goToRest (ci := 2) (n := 0) (RX2, TX2, 43) rfl rfl (lw_V q1841 q1843 qs124 q156 q1844) npX2_goToRest dX2_costOf_57 (js_if_ge hX (tgt := 65) dX2_costOf_60 rfl (js_const hX (z := 0) (by unfold inI; omega) dX2_costOf_65 (Or.inl ⟨0, rfl, rfl, rfl⟩) (js_istore_n hX dX2_costOf_66 rfl (by decide) (js_const hX (z := 0) (by unfold inI; omega) dX2_costOf_67 (Or.inl ⟨0, rfl, rfl, rfl⟩) (js_istore hX dX2_costOf_68 (by decide) (js_const hX (z := 0) (by unfold inI; omega) dX2_costOf_70 (Or.inl ⟨0, rfl, rfl, rfl⟩) (js_istore hX dX2_costOf_71 (by decide) (hK 2)))))))
    (js_const hX (z := (-1)) (by unfold inI; omega) dX2_costOf_63 (Or.inl ⟨(-1), rfl, rfl, rfl⟩) (js_ireturn hX hr hlk dX2_costOf_64)))))))))
    (js_aload_n hX dX2_costOf_32 rfl (js_getfR hX (ci := 2) (k := 42) (RX2, TX2, 43) rfl (by decide) rfl (Or.inl q1386) (fun _ h => h) dX2_costOf_33 (js_iload_n hX dX2_costOf_36 rfl (js_aload_n hX dX2_costOf_37 rfl (js_getfR hX (ci := 2) (k := 27) (RX2, TX2, 43) rfl (by decide) rfl (Or.inl q1371) (fun _ h => h) dX2_costOf_38 (js_iload_n hX dX2_costOf_41 rfl (js_iald hX dX2_costOf_42 (js_iast hX dX2_costOf_43 (js_iinc hX dX2_costOf_44 (by decide) (js_goto hX (tgt := 24) dX2_costOf_47 rfl (hK 1)))))))))))))))
  | 2 => exact (js_iload hX dX2_costOf_73 (js_aload_n hX dX2_costOf_75 rfl (js_getfI hX (ci := 2) (k := 28) (RX2, TX2, 43) rfl (by decide) rfl (Or.inl q1372) (fun _ h => h) dX2_costOf_76 (js_icmp_ge hX (tgt := 130) dX2_costOf_79 rfl (js_iload_n hX dX2_costOf_130 rfl (js_ireturn hX hr hlk dX2_costOf_131))
    (js_aload_n hX dX2_costOf_82 rfl (js_getfR hX (ci := 2) (k := 27) (RX2, TX2, 43) rfl (by decide) rfl (Or.inl q1371) (fun _ h => h) dX2_costOf_83 (js_iload hX dX2_costOf_86 (js_iald hX dX2_costOf_88 (js_iload_n hX dX2_costOf_89 rfl (js_icmp_ne hX (tgt := 96) dX2_costOf_90 rfl (js_iload_n hX dX2_costOf_96 rfl (js_aload_n hX dX2_costOf_97 rfl (js_getfR hX (ci := 2) (k := 27) (RX2, TX2, 43) rfl (by decide) rfl (Or.inl q1371) (fun _ h => h) dX2_costOf_98 (js_iload hX dX2_costOf_101 (js_iald hX dX2_costOf_103 (js_aload_n hX dX2_costOf_104 rfl (js_getfR hX (ci := 2) (k := 42) (RX2, TX2, 43) rfl (by decide) rfl (Or.inl q1386) (fun _ h => h) dX2_costOf_105 (js_iload hX dX2_costOf_108 (js_iald hX dX2_costOf_110 (js_icmp_eq hX (tgt := 118) dX2_costOf_111 rfl (js_const hX (z := 0) (by unfold inI; omega) dX2_costOf_118 (Or.inl ⟨0, rfl, rfl, rfl⟩) (hK 3))
    (js_const hX (z := 1) (by unfold inI; omega) dX2_costOf_114 (Or.inl ⟨1, rfl, rfl, rfl⟩) (js_goto hX (tgt := 119) dX2_costOf_115 rfl (hK 3)))))))))))))
    (js_goto hX (tgt := 124) dX2_costOf_93 rfl (hK 4))))))))))))
  | 3 => exact (js_iadd hX dX2_costOf_119 (js_istore_n hX dX2_costOf_120 rfl (by decide) (js_iinc hX dX2_costOf_121 (by decide) (hK 4))))
  | 4 => exact (js_iinc hX dX2_costOf_124 (by decide) (js_goto hX (tgt := 73) dX2_costOf_127 rfl (hK 2)))
  | k + 5 => intro ls st h nc ns hf; exact hf.elim
def bX2_cheapest : jjB := fun e K k => match k with
  | 0 => (ji_iload 1 (ji_callS e MX2_isShelf 1 (ji_if_ne (ji_const (-1) (ji_istore 2 (ji_const 1000000 (ji_istore 3 (ji_const 0 (ji_istore 4 (K 1)))))))
    (ji_const (-1) (ji_ireturn e)))))
  | 1 => (ji_iload 4 (ji_aload 0 (ji_getfR 2 0 (ji_const 0 (ji_iald (ji_icmp_ge (ji_iload 2 (ji_ireturn e))
    (ji_aload 0 (ji_iload 4 (ji_const 5 (ji_callV e MX2_get 2 3 (ji_iload 1 (ji_icmp_eq (ji_aload 0 (ji_iload 4 (ji_callV e MX2_costOf 2 2 (ji_istore 5 (ji_iload 5 (ji_if_lt (K 2)
    (ji_iload 5 (ji_iload 3 (ji_icmp_lt (ji_iload 4 (ji_istore 2 (ji_iload 5 (ji_istore 3 (K 2)))))
    (ji_goto (K 2)))))))))))
    (ji_goto (K 2))))))))))))))
  | 2 => (ji_iinc 4 1 (ji_goto (K 1)))
  | _ => fun _ _ _ _ _ => False
def pX2_cheapest : Nat → Nat := fun k => match k with
  | 0 => 0
  | 1 => 18
  | 2 => 71
  | _ => 0
theorem sX2_cheapest : jSound bX2_cheapest pX2_cheapest MX2_cheapest := by
  intro e p ev R s m args below meth c hX hr hn hlk K hK k
  match k with
  | 0 => exact (js_iload_n hX dX2_cheapest_0 rfl (js_callS hX MX2_isShelf (n := 1) (lw_S q1693 q1694 q156 q1695) npX2_isShelf dX2_cheapest_1 (js_if_ne hX (tgt := 9) dX2_cheapest_4 rfl (js_const hX (z := (-1)) (by unfold inI; omega) dX2_cheapest_9 (Or.inl ⟨(-1), rfl, rfl, rfl⟩) (js_istore_n hX dX2_cheapest_10 rfl (by decide) (js_const hX (z := 1000000) (by unfold inI; omega) dX2_cheapest_11 (Or.inr (Or.inr (Or.inr (Or.inr ⟨488, rfl, rfl, q1995⟩)))) (js_istore_n hX dX2_cheapest_14 rfl (by decide) (js_const hX (z := 0) (by unfold inI; omega) dX2_cheapest_15 (Or.inl ⟨0, rfl, rfl, rfl⟩) (js_istore hX dX2_cheapest_16 (by decide) (hK 1)))))))
    (js_const hX (z := (-1)) (by unfold inI; omega) dX2_cheapest_7 (Or.inl ⟨(-1), rfl, rfl, rfl⟩) (js_ireturn hX hr hlk dX2_cheapest_8)))))
  | 1 => exact (js_iload hX dX2_cheapest_18 (js_aload_n hX dX2_cheapest_20 rfl (js_getfR hX (ci := 2) (k := 0) (RX2, TX2, 43) rfl (by decide) rfl (Or.inl q1346) (fun _ h => h) dX2_cheapest_21 (js_const hX (z := 0) (by unfold inI; omega) dX2_cheapest_24 (Or.inl ⟨0, rfl, rfl, rfl⟩) (js_iald hX dX2_cheapest_25 (js_icmp_ge hX (tgt := 77) dX2_cheapest_26 rfl (js_iload_n hX dX2_cheapest_77 rfl (js_ireturn hX hr hlk dX2_cheapest_78))
    (js_aload_n hX dX2_cheapest_29 rfl (js_iload hX dX2_cheapest_30 (js_const hX (z := 5) (by unfold inI; omega) dX2_cheapest_32 (Or.inl ⟨5, rfl, rfl, rfl⟩) (js_callV hX MX2_get (ci := 2) (n := 2) (RX2, TX2, 43) rfl rfl (lw_V q1658 q1660 qs98 q156 q1661) npX2_get dX2_cheapest_33 (js_iload_n hX dX2_cheapest_36 rfl (js_icmp_eq hX (tgt := 43) dX2_cheapest_37 rfl (js_aload_n hX dX2_cheapest_43 rfl (js_iload hX dX2_cheapest_44 (js_callV hX MX2_costOf (ci := 2) (n := 1) (RX2, TX2, 43) rfl rfl (lw_V q1987 q1989 qs148 q156 q1990) npX2_costOf dX2_cheapest_46 (js_istore hX dX2_cheapest_49 (by decide) (js_iload hX dX2_cheapest_51 (js_if_lt hX (tgt := 71) dX2_cheapest_53 rfl (hK 2)
    (js_iload hX dX2_cheapest_56 (js_iload_n hX dX2_cheapest_58 rfl (js_icmp_lt hX (tgt := 65) dX2_cheapest_59 rfl (js_iload hX dX2_cheapest_65 (js_istore_n hX dX2_cheapest_67 rfl (by decide) (js_iload hX dX2_cheapest_68 (js_istore_n hX dX2_cheapest_70 rfl (by decide) (hK 2)))))
    (js_goto hX (tgt := 71) dX2_cheapest_62 rfl (hK 2)))))))))))
    (js_goto hX (tgt := 71) dX2_cheapest_40 rfl (hK 2))))))))))))))
  | 2 => exact (js_iinc hX dX2_cheapest_71 (by decide) (js_goto hX (tgt := 18) dX2_cheapest_74 rfl (hK 1)))
  | k + 3 => intro ls st h nc ns hf; exact hf.elim
def bX2_dust : jjB := fun e K k => match k with
  | 0 => (ji_iload 1 (ji_const (-1) (ji_icmp_ne (ji_aload 0 (ji_iload 1 (ji_callV e MX2_isBook 2 2 (ji_if_eq (K 1)
    (ji_aload 0 (ji_iload 2 (ji_callV e MX2_isBook 2 2 (ji_if_eq (K 1)
    (ji_iload 1 (ji_iload 2 (ji_icmp_eq (K 1)
    (ji_aload 0 (ji_getfR 2 0 (ji_const 8 (ji_iald (ji_const 12 (ji_icmp_ne (ji_const 106 (ji_const 4 (ji_aload 0 (ji_getfR 2 0 (ji_const 8 (ji_iald (ji_imul (ji_iadd (ji_istore 5 (ji_aload 0 (ji_getfR 2 0 (ji_iload 5 (ji_iload 1 (ji_iast (ji_aload 0 (ji_getfR 2 0 (ji_iload 5 (ji_const 1 (ji_iadd (ji_iload 2 (ji_iast (ji_aload 0 (ji_getfR 2 0 (ji_iload 5 (ji_const 2 (ji_iadd (ji_iload 3 (ji_if_eq (ji_const 0 (K 2))
    (ji_const 1 (ji_goto (K 2)))))))))))))))))))))))))))))))
    (K 1))))))))))))))))))
    (ji_aload 0 (ji_getfR 2 0 (ji_const 8 (ji_const 0 (ji_iast (ji_const 0 (ji_ireturn e))))))))))
  | 1 => (ji_const (-2) (ji_ireturn e))
  | 2 => (ji_iast (ji_aload 0 (ji_getfR 2 0 (ji_iload 5 (ji_const 3 (ji_iadd (ji_iload 4 (ji_if_eq (ji_const 0 (K 3))
    (ji_const 1 (ji_goto (K 3)))))))))))
  | 3 => (ji_iast (ji_aload 0 (ji_getfR 2 0 (ji_const 8 (ji_dup2 (ji_iald (ji_const 1 (ji_iadd (ji_iast (ji_aload 0 (ji_getfR 2 0 (ji_const 8 (ji_iald (ji_ireturn e))))))))))))))
  | _ => fun _ _ _ _ _ => False
def pX2_dust : Nat → Nat := fun k => match k with
  | 0 => 0
  | 1 => 48
  | 2 => 100
  | 3 => 119
  | _ => 0
theorem sX2_dust : jSound bX2_dust pX2_dust MX2_dust := by
  intro e p ev R s m args below meth c hX hr hn hlk K hK k
  match k with
  | 0 => exact (js_iload_n hX dX2_dust_0 rfl (js_const hX (z := (-1)) (by unfold inI; omega) dX2_dust_1 (Or.inl ⟨(-1), rfl, rfl, rfl⟩) (js_icmp_ne hX (tgt := 15) dX2_dust_2 rfl (js_aload_n hX dX2_dust_15 rfl (js_iload_n hX dX2_dust_16 rfl (js_callV hX MX2_isBook (ci := 2) (n := 1) (RX2, TX2, 43) rfl rfl (lw_V q1650 q1652 qs96 q156 q1653) npX2_isBook dX2_dust_17 (js_if_eq hX (tgt := 48) dX2_dust_20 rfl (hK 1)
    (js_aload_n hX dX2_dust_23 rfl (js_iload_n hX dX2_dust_24 rfl (js_callV hX MX2_isBook (ci := 2) (n := 1) (RX2, TX2, 43) rfl rfl (lw_V q1650 q1652 qs96 q156 q1653) npX2_isBook dX2_dust_25 (js_if_eq hX (tgt := 48) dX2_dust_28 rfl (hK 1)
    (js_iload_n hX dX2_dust_31 rfl (js_iload_n hX dX2_dust_32 rfl (js_icmp_eq hX (tgt := 48) dX2_dust_33 rfl (hK 1)
    (js_aload_n hX dX2_dust_36 rfl (js_getfR hX (ci := 2) (k := 0) (RX2, TX2, 43) rfl (by decide) rfl (Or.inl q1346) (fun _ h => h) dX2_dust_37 (js_const hX (z := 8) (by unfold inI; omega) dX2_dust_40 (Or.inr (Or.inl ⟨8, rfl, rfl, rfl⟩)) (js_iald hX dX2_dust_42 (js_const hX (z := 12) (by unfold inI; omega) dX2_dust_43 (Or.inr (Or.inl ⟨12, rfl, rfl, rfl⟩)) (js_icmp_ne hX (tgt := 51) dX2_dust_45 rfl (js_const hX (z := 106) (by unfold inI; omega) dX2_dust_51 (Or.inr (Or.inl ⟨106, rfl, rfl, rfl⟩)) (js_const hX (z := 4) (by unfold inI; omega) dX2_dust_53 (Or.inl ⟨4, rfl, rfl, rfl⟩) (js_aload_n hX dX2_dust_54 rfl (js_getfR hX (ci := 2) (k := 0) (RX2, TX2, 43) rfl (by decide) rfl (Or.inl q1346) (fun _ h => h) dX2_dust_55 (js_const hX (z := 8) (by unfold inI; omega) dX2_dust_58 (Or.inr (Or.inl ⟨8, rfl, rfl, rfl⟩)) (js_iald hX dX2_dust_60 (js_imul hX dX2_dust_61 (js_iadd hX dX2_dust_62 (js_istore hX dX2_dust_63 (by decide) (js_aload_n hX dX2_dust_65 rfl (js_getfR hX (ci := 2) (k := 0) (RX2, TX2, 43) rfl (by decide) rfl (Or.inl q1346) (fun _ h => h) dX2_dust_66 (js_iload hX dX2_dust_69 (js_iload_n hX dX2_dust_71 rfl (js_iast hX dX2_dust_72 (js_aload_n hX dX2_dust_73 rfl (js_getfR hX (ci := 2) (k := 0) (RX2, TX2, 43) rfl (by decide) rfl (Or.inl q1346) (fun _ h => h) dX2_dust_74 (js_iload hX dX2_dust_77 (js_const hX (z := 1) (by unfold inI; omega) dX2_dust_79 (Or.inl ⟨1, rfl, rfl, rfl⟩) (js_iadd hX dX2_dust_80 (js_iload_n hX dX2_dust_81 rfl (js_iast hX dX2_dust_82 (js_aload_n hX dX2_dust_83 rfl (js_getfR hX (ci := 2) (k := 0) (RX2, TX2, 43) rfl (by decide) rfl (Or.inl q1346) (fun _ h => h) dX2_dust_84 (js_iload hX dX2_dust_87 (js_const hX (z := 2) (by unfold inI; omega) dX2_dust_89 (Or.inl ⟨2, rfl, rfl, rfl⟩) (js_iadd hX dX2_dust_90 (js_iload_n hX dX2_dust_91 rfl (js_if_eq hX (tgt := 99) dX2_dust_92 rfl (js_const hX (z := 0) (by unfold inI; omega) dX2_dust_99 (Or.inl ⟨0, rfl, rfl, rfl⟩) (hK 2))
    (js_const hX (z := 1) (by unfold inI; omega) dX2_dust_95 (Or.inl ⟨1, rfl, rfl, rfl⟩) (js_goto hX (tgt := 100) dX2_dust_96 rfl (hK 2)))))))))))))))))))))))))))))))
    (hK 1))))))))))))))))))
    (js_aload_n hX dX2_dust_5 rfl (js_getfR hX (ci := 2) (k := 0) (RX2, TX2, 43) rfl (by decide) rfl (Or.inl q1346) (fun _ h => h) dX2_dust_6 (js_const hX (z := 8) (by unfold inI; omega) dX2_dust_9 (Or.inr (Or.inl ⟨8, rfl, rfl, rfl⟩)) (js_const hX (z := 0) (by unfold inI; omega) dX2_dust_11 (Or.inl ⟨0, rfl, rfl, rfl⟩) (js_iast hX dX2_dust_12 (js_const hX (z := 0) (by unfold inI; omega) dX2_dust_13 (Or.inl ⟨0, rfl, rfl, rfl⟩) (js_ireturn hX hr hlk dX2_dust_14))))))))))
  | 1 => exact (js_const hX (z := (-2)) (by unfold inI; omega) dX2_dust_48 (Or.inr (Or.inl ⟨(-2), rfl, rfl, rfl⟩)) (js_ireturn hX hr hlk dX2_dust_50))
  | 2 => exact (js_iast hX dX2_dust_100 (js_aload_n hX dX2_dust_101 rfl (js_getfR hX (ci := 2) (k := 0) (RX2, TX2, 43) rfl (by decide) rfl (Or.inl q1346) (fun _ h => h) dX2_dust_102 (js_iload hX dX2_dust_105 (js_const hX (z := 3) (by unfold inI; omega) dX2_dust_107 (Or.inl ⟨3, rfl, rfl, rfl⟩) (js_iadd hX dX2_dust_108 (js_iload hX dX2_dust_109 (js_if_eq hX (tgt := 118) dX2_dust_111 rfl (js_const hX (z := 0) (by unfold inI; omega) dX2_dust_118 (Or.inl ⟨0, rfl, rfl, rfl⟩) (hK 3))
    (js_const hX (z := 1) (by unfold inI; omega) dX2_dust_114 (Or.inl ⟨1, rfl, rfl, rfl⟩) (js_goto hX (tgt := 119) dX2_dust_115 rfl (hK 3)))))))))))
  | 3 => exact (js_iast hX dX2_dust_119 (js_aload_n hX dX2_dust_120 rfl (js_getfR hX (ci := 2) (k := 0) (RX2, TX2, 43) rfl (by decide) rfl (Or.inl q1346) (fun _ h => h) dX2_dust_121 (js_const hX (z := 8) (by unfold inI; omega) dX2_dust_124 (Or.inr (Or.inl ⟨8, rfl, rfl, rfl⟩)) (js_dup2 hX dX2_dust_126 (js_iald hX dX2_dust_127 (js_const hX (z := 1) (by unfold inI; omega) dX2_dust_128 (Or.inl ⟨1, rfl, rfl, rfl⟩) (js_iadd hX dX2_dust_129 (js_iast hX dX2_dust_130 (js_aload_n hX dX2_dust_131 rfl (js_getfR hX (ci := 2) (k := 0) (RX2, TX2, 43) rfl (by decide) rfl (Or.inl q1346) (fun _ h => h) dX2_dust_132 (js_const hX (z := 8) (by unfold inI; omega) dX2_dust_135 (Or.inr (Or.inl ⟨8, rfl, rfl, rfl⟩)) (js_iald hX dX2_dust_137 (js_ireturn hX hr hlk dX2_dust_138))))))))))))))
  | k + 4 => intro ls st h nc ns hf; exact hf.elim
def bX2_laws : jjB := fun e K k => match k with
  | 0 => (ji_aload 0 (ji_iload 1 (ji_callV e MX2_isBook 2 2 (ji_if_eq (ji_const (-1) (K 1))
    (ji_aload 0 (ji_iload 1 (ji_callV e MX2_lawsOf 2 2 (ji_goto (K 1)))))))))
  | 1 => (ji_ireturn e)
  | _ => fun _ _ _ _ _ => False
def pX2_laws : Nat → Nat := fun k => match k with
  | 0 => 0
  | 1 => 17
  | _ => 0
theorem sX2_laws : jSound bX2_laws pX2_laws MX2_laws := by
  intro e p ev R s m args below meth c hX hr hn hlk K hK k
  match k with
  | 0 => exact (js_aload_n hX dX2_laws_0 rfl (js_iload_n hX dX2_laws_1 rfl (js_callV hX MX2_isBook (ci := 2) (n := 1) (RX2, TX2, 43) rfl rfl (lw_V q1650 q1652 qs96 q156 q1653) npX2_isBook dX2_laws_2 (js_if_eq hX (tgt := 16) dX2_laws_5 rfl (js_const hX (z := (-1)) (by unfold inI; omega) dX2_laws_16 (Or.inl ⟨(-1), rfl, rfl, rfl⟩) (hK 1))
    (js_aload_n hX dX2_laws_8 rfl (js_iload_n hX dX2_laws_9 rfl (js_callV hX MX2_lawsOf (ci := 2) (n := 1) (RX2, TX2, 43) rfl rfl (lw_V q2004 q2006 qs149 q156 q2007) npX2_lawsOf dX2_laws_10 (js_goto hX (tgt := 17) dX2_laws_13 rfl (hK 1)))))))))
  | 1 => exact (js_ireturn hX hr hlk dX2_laws_17)
  | k + 2 => intro ls st h nc ns hf; exact hf.elim
def bX2_lawsOf : jjB := fun e K k => match k with
  | 0 => (ji_const 0 (ji_istore 2 (ji_const 0 (ji_istore 3 (K 1)))))
  | 1 => (ji_iload 3 (ji_const 6 (ji_icmp_ge (ji_iload 2 (ji_ireturn e))
    (ji_iload 2 (ji_aload 0 (ji_iload 3 (ji_iload 1 (ji_callV e MX2_isFit 2 3 (ji_if_eq (ji_const 0 (K 2))
    (ji_const 1 (ji_iload 3 (ji_ishl (ji_goto (K 2))))))))))))))
  | 2 => (ji_ior (ji_istore 2 (ji_iinc 3 1 (ji_goto (K 1)))))
  | _ => fun _ _ _ _ _ => False
def pX2_lawsOf : Nat → Nat := fun k => match k with
  | 0 => 0
  | 1 => 4
  | 2 => 27
  | _ => 0
theorem sX2_lawsOf : jSound bX2_lawsOf pX2_lawsOf MX2_lawsOf := by
  intro e p ev R s m args below meth c hX hr hn hlk K hK k
  match k with
  | 0 => exact (js_const hX (z := 0) (by unfold inI; omega) dX2_lawsOf_0 (Or.inl ⟨0, rfl, rfl, rfl⟩) (js_istore_n hX dX2_lawsOf_1 rfl (by decide) (js_const hX (z := 0) (by unfold inI; omega) dX2_lawsOf_2 (Or.inl ⟨0, rfl, rfl, rfl⟩) (js_istore_n hX dX2_lawsOf_3 rfl (by decide) (hK 1)))))
  | 1 => exact (js_iload_n hX dX2_lawsOf_4 rfl (js_const hX (z := 6) (by unfold inI; omega) dX2_lawsOf_5 (Or.inr (Or.inl ⟨6, rfl, rfl, rfl⟩)) (js_icmp_ge hX (tgt := 35) dX2_lawsOf_7 rfl (js_iload_n hX dX2_lawsOf_35 rfl (js_ireturn hX hr hlk dX2_lawsOf_36))
    (js_iload_n hX dX2_lawsOf_10 rfl (js_aload_n hX dX2_lawsOf_11 rfl (js_iload_n hX dX2_lawsOf_12 rfl (js_iload_n hX dX2_lawsOf_13 rfl (js_callV hX MX2_isFit (ci := 2) (n := 2) (RX2, TX2, 43) rfl rfl (lw_V q2008 q2010 qs150 q156 q2011) npX2_isFit dX2_lawsOf_14 (js_if_eq hX (tgt := 26) dX2_lawsOf_17 rfl (js_const hX (z := 0) (by unfold inI; omega) dX2_lawsOf_26 (Or.inl ⟨0, rfl, rfl, rfl⟩) (hK 2))
    (js_const hX (z := 1) (by unfold inI; omega) dX2_lawsOf_20 (Or.inl ⟨1, rfl, rfl, rfl⟩) (js_iload_n hX dX2_lawsOf_21 rfl (js_ishl hX dX2_lawsOf_22 (js_goto hX (tgt := 27) dX2_lawsOf_23 rfl (hK 2))))))))))))))
  | 2 => exact (js_ior hX dX2_lawsOf_27 (js_istore_n hX dX2_lawsOf_28 rfl (by decide) (js_iinc hX dX2_lawsOf_29 (by decide) (js_goto hX (tgt := 4) dX2_lawsOf_32 rfl (hK 1)))))
  | k + 3 => intro ls st h nc ns hf; exact hf.elim
def bX2_isFit : jjB := fun e K k => match k with
  | 0 => (ji_const 0 (ji_istore 3 (K 1)))
  | 1 => (ji_iload 3 (ji_aload 0 (ji_getfR 2 0 (ji_const 8 (ji_iald (ji_icmp_ge (ji_const 1 (ji_zreturn e))
    (ji_const 106 (ji_const 4 (ji_iload 3 (ji_imul (ji_iadd (ji_istore 4 (ji_aload 0 (ji_getfR 2 0 (ji_iload 4 (ji_iald (ji_iload 2 (ji_icmp_ne (K 4)
    (ji_aload 0 (ji_iload 1 (ji_iload 2 (ji_aload 0 (ji_getfR 2 0 (ji_iload 4 (ji_const 1 (ji_iadd (ji_iald (ji_aload 0 (ji_getfR 2 0 (ji_iload 4 (ji_const 2 (ji_iadd (ji_iald (ji_const 1 (ji_icmp_ne (ji_const 0 (K 2))
    (ji_const 1 (ji_goto (K 2))))))))))))))))))))))))))))))))))))))
  | 2 => (ji_callV e MX2_pushesBy 2 5 (ji_aload 0 (ji_getfR 2 0 (ji_iload 4 (ji_const 3 (ji_iadd (ji_iald (ji_const 1 (ji_icmp_ne (ji_const 0 (K 3))
    (ji_const 1 (ji_goto (K 3))))))))))))
  | 3 => (ji_icmp_eq (K 4)
    (ji_const 0 (ji_zreturn e)))
  | 4 => (ji_iinc 3 1 (ji_goto (K 1)))
  | _ => fun _ _ _ _ _ => False
def pX2_isFit : Nat → Nat := fun k => match k with
  | 0 => 0
  | 1 => 2
  | 2 => 62
  | 3 => 83
  | 4 => 88
  | _ => 0
theorem sX2_isFit : jSound bX2_isFit pX2_isFit MX2_isFit := by
  intro e p ev R s m args below meth c hX hr hn hlk K hK k
  match k with
  | 0 => exact (js_const hX (z := 0) (by unfold inI; omega) dX2_isFit_0 (Or.inl ⟨0, rfl, rfl, rfl⟩) (js_istore_n hX dX2_isFit_1 rfl (by decide) (hK 1)))
  | 1 => exact (js_iload_n hX dX2_isFit_2 rfl (js_aload_n hX dX2_isFit_3 rfl (js_getfR hX (ci := 2) (k := 0) (RX2, TX2, 43) rfl (by decide) rfl (Or.inl q1346) (fun _ h => h) dX2_isFit_4 (js_const hX (z := 8) (by unfold inI; omega) dX2_isFit_7 (Or.inr (Or.inl ⟨8, rfl, rfl, rfl⟩)) (js_iald hX dX2_isFit_9 (js_icmp_ge hX (tgt := 94) dX2_isFit_10 rfl (js_const hX (z := 1) (by unfold inI; omega) dX2_isFit_94 (Or.inl ⟨1, rfl, rfl, rfl⟩) (js_zreturn hX hr hlk dX2_isFit_95))
    (js_const hX (z := 106) (by unfold inI; omega) dX2_isFit_13 (Or.inr (Or.inl ⟨106, rfl, rfl, rfl⟩)) (js_const hX (z := 4) (by unfold inI; omega) dX2_isFit_15 (Or.inl ⟨4, rfl, rfl, rfl⟩) (js_iload_n hX dX2_isFit_16 rfl (js_imul hX dX2_isFit_17 (js_iadd hX dX2_isFit_18 (js_istore hX dX2_isFit_19 (by decide) (js_aload_n hX dX2_isFit_21 rfl (js_getfR hX (ci := 2) (k := 0) (RX2, TX2, 43) rfl (by decide) rfl (Or.inl q1346) (fun _ h => h) dX2_isFit_22 (js_iload hX dX2_isFit_25 (js_iald hX dX2_isFit_27 (js_iload_n hX dX2_isFit_28 rfl (js_icmp_ne hX (tgt := 88) dX2_isFit_29 rfl (hK 4)
    (js_aload_n hX dX2_isFit_32 rfl (js_iload_n hX dX2_isFit_33 rfl (js_iload_n hX dX2_isFit_34 rfl (js_aload_n hX dX2_isFit_35 rfl (js_getfR hX (ci := 2) (k := 0) (RX2, TX2, 43) rfl (by decide) rfl (Or.inl q1346) (fun _ h => h) dX2_isFit_36 (js_iload hX dX2_isFit_39 (js_const hX (z := 1) (by unfold inI; omega) dX2_isFit_41 (Or.inl ⟨1, rfl, rfl, rfl⟩) (js_iadd hX dX2_isFit_42 (js_iald hX dX2_isFit_43 (js_aload_n hX dX2_isFit_44 rfl (js_getfR hX (ci := 2) (k := 0) (RX2, TX2, 43) rfl (by decide) rfl (Or.inl q1346) (fun _ h => h) dX2_isFit_45 (js_iload hX dX2_isFit_48 (js_const hX (z := 2) (by unfold inI; omega) dX2_isFit_50 (Or.inl ⟨2, rfl, rfl, rfl⟩) (js_iadd hX dX2_isFit_51 (js_iald hX dX2_isFit_52 (js_const hX (z := 1) (by unfold inI; omega) dX2_isFit_53 (Or.inl ⟨1, rfl, rfl, rfl⟩) (js_icmp_ne hX (tgt := 61) dX2_isFit_54 rfl (js_const hX (z := 0) (by unfold inI; omega) dX2_isFit_61 (Or.inl ⟨0, rfl, rfl, rfl⟩) (hK 2))
    (js_const hX (z := 1) (by unfold inI; omega) dX2_isFit_57 (Or.inl ⟨1, rfl, rfl, rfl⟩) (js_goto hX (tgt := 62) dX2_isFit_58 rfl (hK 2))))))))))))))))))))))))))))))))))))))
  | 2 => exact (js_callV hX MX2_pushesBy (ci := 2) (n := 4) (RX2, TX2, 43) rfl rfl (lw_V q1662 q1664 qs99 q156 q1665) npX2_pushesBy dX2_isFit_62 (js_aload_n hX dX2_isFit_65 rfl (js_getfR hX (ci := 2) (k := 0) (RX2, TX2, 43) rfl (by decide) rfl (Or.inl q1346) (fun _ h => h) dX2_isFit_66 (js_iload hX dX2_isFit_69 (js_const hX (z := 3) (by unfold inI; omega) dX2_isFit_71 (Or.inl ⟨3, rfl, rfl, rfl⟩) (js_iadd hX dX2_isFit_72 (js_iald hX dX2_isFit_73 (js_const hX (z := 1) (by unfold inI; omega) dX2_isFit_74 (Or.inl ⟨1, rfl, rfl, rfl⟩) (js_icmp_ne hX (tgt := 82) dX2_isFit_75 rfl (js_const hX (z := 0) (by unfold inI; omega) dX2_isFit_82 (Or.inl ⟨0, rfl, rfl, rfl⟩) (hK 3))
    (js_const hX (z := 1) (by unfold inI; omega) dX2_isFit_78 (Or.inl ⟨1, rfl, rfl, rfl⟩) (js_goto hX (tgt := 83) dX2_isFit_79 rfl (hK 3))))))))))))
  | 3 => exact (js_icmp_eq hX (tgt := 88) dX2_isFit_83 rfl (hK 4)
    (js_const hX (z := 0) (by unfold inI; omega) dX2_isFit_86 (Or.inl ⟨0, rfl, rfl, rfl⟩) (js_zreturn hX hr hlk dX2_isFit_87)))
  | 4 => exact (js_iinc hX dX2_isFit_88 (by decide) (js_goto hX (tgt := 2) dX2_isFit_91 rfl (hK 1)))
  | k + 5 => intro ls st h nc ns hf; exact hf.elim
def bX2_tells : jjB := fun e K k => match k with
  | 0 => (ji_aload 0 (ji_iload 1 (ji_callV e MX2_isBook 2 2 (ji_if_ne (ji_aload 0 (ji_iload 1 (ji_callV e MX2_lawsOf 2 2 (ji_istore 2 (ji_const (-1) (ji_istore 3 (ji_const 1000000 (ji_istore 4 (ji_const 0 (ji_istore 5 (K 1)))))))))))
    (ji_const (-1) (ji_ireturn e))))))
  | 1 => (ji_iload 5 (ji_const 2 (ji_aload 0 (ji_getfR 2 0 (ji_const 0 (ji_iald (ji_imul (ji_icmp_ge (K 8)
    (ji_iload 2 (ji_if_eq (K 8)
    (ji_iload 5 (ji_const 2 (ji_idiv (ji_iload 1 (ji_icmp_ne (ji_const 0 (ji_istore 6 (ji_const 0 (ji_istore 7 (K 2)))))
    (ji_goto (K 7)))))))))))))))))
  | 2 => (ji_iload 7 (ji_const 6 (ji_icmp_ge (ji_iload 2 (ji_callS e MX2_bits 1 (ji_iload 6 (ji_isub (ji_iload 6 (ji_icmp_le (ji_iload 6 (K 6))
    (ji_iload 2 (ji_callS e MX2_bits 1 (ji_iload 6 (ji_isub (ji_goto (K 6))))))))))))
    (ji_iload 6 (ji_iload 2 (ji_iload 7 (ji_callS e MX2_has 2 (ji_if_eq (K 4)
    (ji_aload 0 (ji_iload 7 (ji_iload 1 (ji_iload 5 (ji_const 2 (ji_idiv (ji_iload 5 (ji_const 2 (ji_irem (ji_const 1 (ji_icmp_ne (ji_const 0 (K 3))
    (ji_const 1 (ji_goto (K 3))))))))))))))))))))))
  | 3 => (ji_callV e MX2_pushesBy 2 5 (ji_if_eq (K 4)
    (ji_const 1 (ji_goto (K 5)))))
  | 4 => (ji_const 0 (K 5))
  | 5 => (ji_iadd (ji_istore 6 (ji_iinc 7 1 (ji_goto (K 2)))))
  | 6 => (ji_istore 7 (ji_iload 7 (ji_iload 4 (ji_icmp_lt (ji_iload 7 (ji_istore 4 (ji_iload 5 (ji_istore 3 (K 7)))))
    (ji_goto (K 7))))))
  | 7 => (ji_iinc 5 1 (ji_goto (K 1)))
  | 8 => (ji_iload 3 (ji_ireturn e))
  | _ => fun _ _ _ _ _ => False
def pX2_tells : Nat → Nat := fun k => match k with
  | 0 => 0
  | 1 => 26
  | 2 => 60
  | 3 => 99
  | 4 => 109
  | 5 => 110
  | 6 => 143
  | 7 => 162
  | 8 => 168
  | _ => 0
theorem sX2_tells : jSound bX2_tells pX2_tells MX2_tells := by
  intro e p ev R s m args below meth c hX hr hn hlk K hK k
  match k with
  | 0 => exact (js_aload_n hX dX2_tells_0 rfl (js_iload_n hX dX2_tells_1 rfl (js_callV hX MX2_isBook (ci := 2) (n := 1) (RX2, TX2, 43) rfl rfl (lw_V q1650 q1652 qs96 q156 q1653) npX2_isBook dX2_tells_2 (js_if_ne hX (tgt := 10) dX2_tells_5 rfl (js_aload_n hX dX2_tells_10 rfl (js_iload_n hX dX2_tells_11 rfl (js_callV hX MX2_lawsOf (ci := 2) (n := 1) (RX2, TX2, 43) rfl rfl (lw_V q2004 q2006 qs149 q156 q2007) npX2_lawsOf dX2_tells_12 (js_istore_n hX dX2_tells_15 rfl (by decide) (js_const hX (z := (-1)) (by unfold inI; omega) dX2_tells_16 (Or.inl ⟨(-1), rfl, rfl, rfl⟩) (js_istore_n hX dX2_tells_17 rfl (by decide) (js_const hX (z := 1000000) (by unfold inI; omega) dX2_tells_18 (Or.inr (Or.inr (Or.inr (Or.inr ⟨488, rfl, rfl, q1995⟩)))) (js_istore hX dX2_tells_21 (by decide) (js_const hX (z := 0) (by unfold inI; omega) dX2_tells_23 (Or.inl ⟨0, rfl, rfl, rfl⟩) (js_istore hX dX2_tells_24 (by decide) (hK 1)))))))))))
    (js_const hX (z := (-1)) (by unfold inI; omega) dX2_tells_8 (Or.inl ⟨(-1), rfl, rfl, rfl⟩) (js_ireturn hX hr hlk dX2_tells_9))))))
  | 1 => exact (js_iload hX dX2_tells_26 (js_const hX (z := 2) (by unfold inI; omega) dX2_tells_28 (Or.inl ⟨2, rfl, rfl, rfl⟩) (js_aload_n hX dX2_tells_29 rfl (js_getfR hX (ci := 2) (k := 0) (RX2, TX2, 43) rfl (by decide) rfl (Or.inl q1346) (fun _ h => h) dX2_tells_30 (js_const hX (z := 0) (by unfold inI; omega) dX2_tells_33 (Or.inl ⟨0, rfl, rfl, rfl⟩) (js_iald hX dX2_tells_34 (js_imul hX dX2_tells_35 (js_icmp_ge hX (tgt := 168) dX2_tells_36 rfl (hK 8)
    (js_iload_n hX dX2_tells_39 rfl (js_if_eq hX (tgt := 168) dX2_tells_40 rfl (hK 8)
    (js_iload hX dX2_tells_43 (js_const hX (z := 2) (by unfold inI; omega) dX2_tells_45 (Or.inl ⟨2, rfl, rfl, rfl⟩) (js_idiv hX dX2_tells_46 (js_iload_n hX dX2_tells_47 rfl (js_icmp_ne hX (tgt := 54) dX2_tells_48 rfl (js_const hX (z := 0) (by unfold inI; omega) dX2_tells_54 (Or.inl ⟨0, rfl, rfl, rfl⟩) (js_istore hX dX2_tells_55 (by decide) (js_const hX (z := 0) (by unfold inI; omega) dX2_tells_57 (Or.inl ⟨0, rfl, rfl, rfl⟩) (js_istore hX dX2_tells_58 (by decide) (hK 2)))))
    (js_goto hX (tgt := 162) dX2_tells_51 rfl (hK 7)))))))))))))))))
  | 2 => exact (js_iload hX dX2_tells_60 (js_const hX (z := 6) (by unfold inI; omega) dX2_tells_62 (Or.inr (Or.inl ⟨6, rfl, rfl, rfl⟩)) (js_icmp_ge hX (tgt := 119) dX2_tells_64 rfl (js_iload_n hX dX2_tells_119 rfl (js_callS hX MX2_bits (n := 1) (lw_S q1874 q1875 q156 q1876) npX2_bits dX2_tells_120 (js_iload hX dX2_tells_123 (js_isub hX dX2_tells_125 (js_iload hX dX2_tells_126 (js_icmp_le hX (tgt := 141) dX2_tells_128 rfl (js_iload hX dX2_tells_141 (hK 6))
    (js_iload_n hX dX2_tells_131 rfl (js_callS hX MX2_bits (n := 1) (lw_S q1874 q1875 q156 q1876) npX2_bits dX2_tells_132 (js_iload hX dX2_tells_135 (js_isub hX dX2_tells_137 (js_goto hX (tgt := 143) dX2_tells_138 rfl (hK 6))))))))))))
    (js_iload hX dX2_tells_67 (js_iload_n hX dX2_tells_69 rfl (js_iload hX dX2_tells_70 (js_callS hX MX2_has (n := 2) (lw_S q1885 q1886 q156 q1887) npX2_has dX2_tells_72 (js_if_eq hX (tgt := 109) dX2_tells_75 rfl (hK 4)
    (js_aload_n hX dX2_tells_78 rfl (js_iload hX dX2_tells_79 (js_iload_n hX dX2_tells_81 rfl (js_iload hX dX2_tells_82 (js_const hX (z := 2) (by unfold inI; omega) dX2_tells_84 (Or.inl ⟨2, rfl, rfl, rfl⟩) (js_idiv hX dX2_tells_85 (js_iload hX dX2_tells_86 (js_const hX (z := 2) (by unfold inI; omega) dX2_tells_88 (Or.inl ⟨2, rfl, rfl, rfl⟩) (js_irem hX dX2_tells_89 (js_const hX (z := 1) (by unfold inI; omega) dX2_tells_90 (Or.inl ⟨1, rfl, rfl, rfl⟩) (js_icmp_ne hX (tgt := 98) dX2_tells_91 rfl (js_const hX (z := 0) (by unfold inI; omega) dX2_tells_98 (Or.inl ⟨0, rfl, rfl, rfl⟩) (hK 3))
    (js_const hX (z := 1) (by unfold inI; omega) dX2_tells_94 (Or.inl ⟨1, rfl, rfl, rfl⟩) (js_goto hX (tgt := 99) dX2_tells_95 rfl (hK 3))))))))))))))))))))))
  | 3 => exact (js_callV hX MX2_pushesBy (ci := 2) (n := 4) (RX2, TX2, 43) rfl rfl (lw_V q1662 q1664 qs99 q156 q1665) npX2_pushesBy dX2_tells_99 (js_if_eq hX (tgt := 109) dX2_tells_102 rfl (hK 4)
    (js_const hX (z := 1) (by unfold inI; omega) dX2_tells_105 (Or.inl ⟨1, rfl, rfl, rfl⟩) (js_goto hX (tgt := 110) dX2_tells_106 rfl (hK 5)))))
  | 4 => exact (js_const hX (z := 0) (by unfold inI; omega) dX2_tells_109 (Or.inl ⟨0, rfl, rfl, rfl⟩) (hK 5))
  | 5 => exact (js_iadd hX dX2_tells_110 (js_istore hX dX2_tells_111 (by decide) (js_iinc hX dX2_tells_113 (by decide) (js_goto hX (tgt := 60) dX2_tells_116 rfl (hK 2)))))
  | 6 => exact (js_istore hX dX2_tells_143 (by decide) (js_iload hX dX2_tells_145 (js_iload hX dX2_tells_147 (js_icmp_lt hX (tgt := 155) dX2_tells_149 rfl (js_iload hX dX2_tells_155 (js_istore hX dX2_tells_157 (by decide) (js_iload hX dX2_tells_159 (js_istore_n hX dX2_tells_161 rfl (by decide) (hK 7)))))
    (js_goto hX (tgt := 162) dX2_tells_152 rfl (hK 7))))))
  | 7 => exact (js_iinc hX dX2_tells_162 (by decide) (js_goto hX (tgt := 26) dX2_tells_165 rfl (hK 1)))
  | 8 => exact (js_iload_n hX dX2_tells_168 rfl (js_ireturn hX hr hlk dX2_tells_169))
  | k + 9 => intro ls st h nc ns hf; exact hf.elim
