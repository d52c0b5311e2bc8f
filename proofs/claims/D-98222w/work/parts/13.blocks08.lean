/-! blocks of the methods and their soundness -/
set_option maxRecDepth 100000
def bX2_work : jjB := fun e K k => match k with
  | 0 => (ji_const 705 (ji_aload 0 (ji_getfR 2 0 (ji_const 6 (ji_iald (ji_imul (ji_const 1 (ji_iadd (ji_const 4 (ji_iload 1 (ji_imul (ji_iadd (ji_istore 2 (ji_const 705 (ji_aload 0 (ji_getfR 2 0 (ji_const 6 (ji_iald (ji_imul (ji_const 97 (ji_iadd (ji_istore 3 (ji_const 0 (ji_istore 4 (ji_const 0 (ji_istore 5 (ji_aload 0 (ji_getfR 2 2 (ji_iload 2 (ji_const 2 (ji_iadd (ji_iald (ji_istore 6 (K 1))))))))))))))))))))))))))))))))))
  | 1 => (ji_iload 6 (ji_aload 0 (ji_getfR 2 2 (ji_iload 2 (ji_const 3 (ji_iadd (ji_iald (ji_icmp_ge (ji_return e)
    (ji_aload 0 (ji_getfR 2 2 (ji_iload 3 (ji_const 2 (ji_iload 6 (ji_imul (ji_iadd (ji_iald (ji_istore 7 (ji_aload 0 (ji_getfR 2 2 (ji_iload 3 (ji_const 2 (ji_iload 6 (ji_imul (ji_iadd (ji_const 1 (ji_iadd (ji_iald (ji_istore 8 (ji_iload 7 (ji_const 1 (ji_icmp_gt (ji_iload 7 (ji_const 2 (ji_icmp_ne (ji_iload 7 (ji_const 10 (ji_icmp_ge (ji_iload 7 (ji_const 20 (ji_icmp_ge (ji_iload 7 (ji_const 20 (ji_icmp_ne (ji_iinc 5 (-1) (ji_aload 0 (ji_getfR 2 24 (ji_iload 5 (ji_const 1 (ji_isub (ji_iload 7 (ji_const 21 (ji_icmp_ne (ji_aload 0 (ji_getfR 2 24 (ji_iload 5 (ji_const 1 (ji_isub (ji_zald (ji_if_ne (K 5)
    (ji_aload 0 (ji_getfR 2 24 (ji_iload 5 (ji_zald (ji_if_eq (ji_const 0 (K 6))
    (K 5)))))))))))))
    (ji_aload 0 (ji_getfR 2 24 (ji_iload 5 (ji_const 1 (ji_isub (ji_zald (ji_if_eq (K 4)
    (ji_aload 0 (ji_getfR 2 24 (ji_iload 5 (ji_zald (ji_if_eq (K 4)
    (ji_const 1 (ji_goto (K 6))))))))))))))))))))))))
    (ji_aload 0 (ji_getfR 2 24 (ji_iload 5 (ji_const 1 (ji_isub (ji_aload 0 (ji_getfR 2 24 (ji_iload 5 (ji_const 1 (ji_isub (ji_zald (ji_if_ne (ji_const 0 (K 3))
    (ji_const 1 (ji_goto (K 3))))))))))))))))))
    (ji_iinc 4 (-2) (ji_aload 0 (ji_getfR 2 24 (ji_iload 5 (ji_iload 7 (ji_aload 0 (ji_getfR 2 23 (ji_iload 4 (ji_lald (ji_aload 0 (ji_getfR 2 23 (ji_iload 4 (ji_const 1 (ji_iadd (ji_lald (ji_callS e MX2_isAsked 3 (ji_zast (ji_iinc 5 1 (ji_goto (K 7)))))))))))))))))))))))
    (ji_iinc 4 (-1) (ji_aload 0 (ji_getfR 2 23 (ji_iload 4 (ji_const 1 (ji_isub (ji_iload 7 (ji_aload 0 (ji_getfR 2 23 (ji_iload 4 (ji_const 1 (ji_isub (ji_lald (ji_aload 0 (ji_getfR 2 23 (ji_iload 4 (ji_lald (ji_callS e MX2_two 3 (ji_last (ji_goto (K 7))))))))))))))))))))))))
    (ji_aload 0 (ji_getfR 2 23 (ji_iload 4 (ji_const 1 (ji_isub (ji_aload 0 (ji_getfR 2 23 (ji_iload 4 (ji_const 1 (ji_isub (ji_lald (ji_lneg (ji_last (ji_goto (K 7))))))))))))))))))
    (ji_aload 0 (ji_getfR 2 23 (ji_iload 4 (ji_iload 7 (ji_if_ne (ji_aload 0 (ji_getfR 2 22 (ji_iload 8 (ji_iald (ji_i2l (K 2))))))
    (ji_iload 8 (ji_i2l (ji_goto (K 2))))))))))))))))))))))))))))))))))))))))
  | 2 => (ji_last (ji_iinc 4 1 (ji_goto (K 7))))
  | 3 => (ji_zast (ji_goto (K 7)))
  | 4 => (ji_const 0 (ji_goto (K 6)))
  | 5 => (ji_const 1 (ji_goto (K 6)))
  | 6 => (ji_zast (K 7))
  | 7 => (ji_iinc 6 1 (ji_goto (K 1)))
  | _ => fun _ _ _ _ _ => False
def pX2_work : Nat → Nat := fun k => match k with
  | 0 => 0
  | 1 => 49
  | 2 => 121
  | 3 => 275
  | 4 => 323
  | 5 => 349
  | 6 => 354
  | 7 => 355
  | _ => 0
theorem sX2_work : jSound bX2_work pX2_work MX2_work := by
  intro e p ev R s m args below meth c hX hr hn hlk K hK k
  match k with
  | 0 => exact (js_const hX (z := 705) (by unfold inI; omega) dX2_work_0 (Or.inr (Or.inr (Or.inl ⟨705, rfl, rfl, rfl⟩))) (js_aload_n hX dX2_work_3 rfl (js_getfR hX (ci := 2) (k := 0) (RX2, TX2, 43) rfl (by decide) rfl (Or.inl q1346) (fun _ h => h) dX2_work_4 (js_const hX (z := 6) (by unfold inI; omega) dX2_work_7 (Or.inr (Or.inl ⟨6, rfl, rfl, rfl⟩)) (js_iald hX dX2_work_9 (js_imul hX dX2_work_10 (js_const hX (z := 1) (by unfold inI; omega) dX2_work_11 (Or.inl ⟨1, rfl, rfl, rfl⟩) (js_iadd hX dX2_work_12 (js_const hX (z := 4) (by unfold inI; omega) dX2_work_13 (Or.inl ⟨4, rfl, rfl, rfl⟩) (js_iload_n hX dX2_work_14 rfl (js_imul hX dX2_work_15 (js_iadd hX dX2_work_16 (js_istore_n hX dX2_work_17 rfl (by decide) (js_const hX (z := 705) (by unfold inI; omega) dX2_work_18 (Or.inr (Or.inr (Or.inl ⟨705, rfl, rfl, rfl⟩))) (js_aload_n hX dX2_work_21 rfl (js_getfR hX (ci := 2) (k := 0) (RX2, TX2, 43) rfl (by decide) rfl (Or.inl q1346) (fun _ h => h) dX2_work_22 (js_const hX (z := 6) (by unfold inI; omega) dX2_work_25 (Or.inr (Or.inl ⟨6, rfl, rfl, rfl⟩)) (js_iald hX dX2_work_27 (js_imul hX dX2_work_28 (js_const hX (z := 97) (by unfold inI; omega) dX2_work_29 (Or.inr (Or.inl ⟨97, rfl, rfl, rfl⟩)) (js_iadd hX dX2_work_31 (js_istore_n hX dX2_work_32 rfl (by decide) (js_const hX (z := 0) (by unfold inI; omega) dX2_work_33 (Or.inl ⟨0, rfl, rfl, rfl⟩) (js_istore hX dX2_work_34 (by decide) (js_const hX (z := 0) (by unfold inI; omega) dX2_work_36 (Or.inl ⟨0, rfl, rfl, rfl⟩) (js_istore hX dX2_work_37 (by decide) (js_aload_n hX dX2_work_39 rfl (js_getfR hX (ci := 2) (k := 2) (RX2, TX2, 43) rfl (by decide) rfl (Or.inl q1348) (fun _ h => h) dX2_work_40 (js_iload_n hX dX2_work_43 rfl (js_const hX (z := 2) (by unfold inI; omega) dX2_work_44 (Or.inl ⟨2, rfl, rfl, rfl⟩) (js_iadd hX dX2_work_45 (js_iald hX dX2_work_46 (js_istore hX dX2_work_47 (by decide) (hK 1))))))))))))))))))))))))))))))))))
  | 1 => exact (js_iload hX dX2_work_49 (js_aload_n hX dX2_work_51 rfl (js_getfR hX (ci := 2) (k := 2) (RX2, TX2, 43) rfl (by decide) rfl (Or.inl q1348) (fun _ h => h) dX2_work_52 (js_iload_n hX dX2_work_55 rfl (js_const hX (z := 3) (by unfold inI; omega) dX2_work_56 (Or.inl ⟨3, rfl, rfl, rfl⟩) (js_iadd hX dX2_work_57 (js_iald hX dX2_work_58 (js_icmp_ge hX (tgt := 361) dX2_work_59 rfl (js_return hX hr hlk dX2_work_361)
    (js_aload_n hX dX2_work_62 rfl (js_getfR hX (ci := 2) (k := 2) (RX2, TX2, 43) rfl (by decide) rfl (Or.inl q1348) (fun _ h => h) dX2_work_63 (js_iload_n hX dX2_work_66 rfl (js_const hX (z := 2) (by unfold inI; omega) dX2_work_67 (Or.inl ⟨2, rfl, rfl, rfl⟩) (js_iload hX dX2_work_68 (js_imul hX dX2_work_70 (js_iadd hX dX2_work_71 (js_iald hX dX2_work_72 (js_istore hX dX2_work_73 (by decide) (js_aload_n hX dX2_work_75 rfl (js_getfR hX (ci := 2) (k := 2) (RX2, TX2, 43) rfl (by decide) rfl (Or.inl q1348) (fun _ h => h) dX2_work_76 (js_iload_n hX dX2_work_79 rfl (js_const hX (z := 2) (by unfold inI; omega) dX2_work_80 (Or.inl ⟨2, rfl, rfl, rfl⟩) (js_iload hX dX2_work_81 (js_imul hX dX2_work_83 (js_iadd hX dX2_work_84 (js_const hX (z := 1) (by unfold inI; omega) dX2_work_85 (Or.inl ⟨1, rfl, rfl, rfl⟩) (js_iadd hX dX2_work_86 (js_iald hX dX2_work_87 (js_istore hX dX2_work_88 (by decide) (js_iload hX dX2_work_90 (js_const hX (z := 1) (by unfold inI; omega) dX2_work_92 (Or.inl ⟨1, rfl, rfl, rfl⟩) (js_icmp_gt hX (tgt := 128) dX2_work_93 rfl (js_iload hX dX2_work_128 (js_const hX (z := 2) (by unfold inI; omega) dX2_work_130 (Or.inl ⟨2, rfl, rfl, rfl⟩) (js_icmp_ne hX (tgt := 156) dX2_work_131 rfl (js_iload hX dX2_work_156 (js_const hX (z := 10) (by unfold inI; omega) dX2_work_158 (Or.inr (Or.inl ⟨10, rfl, rfl, rfl⟩)) (js_icmp_ge hX (tgt := 199) dX2_work_160 rfl (js_iload hX dX2_work_199 (js_const hX (z := 20) (by unfold inI; omega) dX2_work_201 (Or.inr (Or.inl ⟨20, rfl, rfl, rfl⟩)) (js_icmp_ge hX (tgt := 243) dX2_work_203 rfl (js_iload hX dX2_work_243 (js_const hX (z := 20) (by unfold inI; omega) dX2_work_245 (Or.inr (Or.inl ⟨20, rfl, rfl, rfl⟩)) (js_icmp_ne hX (tgt := 279) dX2_work_247 rfl (js_iinc hX dX2_work_279 (by decide) (js_aload_n hX dX2_work_282 rfl (js_getfR hX (ci := 2) (k := 24) (RX2, TX2, 43) rfl (by decide) rfl (Or.inl q1368) (fun _ h => h) dX2_work_283 (js_iload hX dX2_work_286 (js_const hX (z := 1) (by unfold inI; omega) dX2_work_288 (Or.inl ⟨1, rfl, rfl, rfl⟩) (js_isub hX dX2_work_289 (js_iload hX dX2_work_290 (js_const hX (z := 21) (by unfold inI; omega) dX2_work_292 (Or.inr (Or.inl ⟨21, rfl, rfl, rfl⟩)) (js_icmp_ne hX (tgt := 327) dX2_work_294 rfl (js_aload_n hX dX2_work_327 rfl (js_getfR hX (ci := 2) (k := 24) (RX2, TX2, 43) rfl (by decide) rfl (Or.inl q1368) (fun _ h => h) dX2_work_328 (js_iload hX dX2_work_331 (js_const hX (z := 1) (by unfold inI; omega) dX2_work_333 (Or.inl ⟨1, rfl, rfl, rfl⟩) (js_isub hX dX2_work_334 (js_zald hX dX2_work_335 (js_if_ne hX (tgt := 349) dX2_work_336 rfl (hK 5)
    (js_aload_n hX dX2_work_339 rfl (js_getfR hX (ci := 2) (k := 24) (RX2, TX2, 43) rfl (by decide) rfl (Or.inl q1368) (fun _ h => h) dX2_work_340 (js_iload hX dX2_work_343 (js_zald hX dX2_work_345 (js_if_eq hX (tgt := 353) dX2_work_346 rfl (js_const hX (z := 0) (by unfold inI; omega) dX2_work_353 (Or.inl ⟨0, rfl, rfl, rfl⟩) (hK 6))
    (hK 5)))))))))))))
    (js_aload_n hX dX2_work_297 rfl (js_getfR hX (ci := 2) (k := 24) (RX2, TX2, 43) rfl (by decide) rfl (Or.inl q1368) (fun _ h => h) dX2_work_298 (js_iload hX dX2_work_301 (js_const hX (z := 1) (by unfold inI; omega) dX2_work_303 (Or.inl ⟨1, rfl, rfl, rfl⟩) (js_isub hX dX2_work_304 (js_zald hX dX2_work_305 (js_if_eq hX (tgt := 323) dX2_work_306 rfl (hK 4)
    (js_aload_n hX dX2_work_309 rfl (js_getfR hX (ci := 2) (k := 24) (RX2, TX2, 43) rfl (by decide) rfl (Or.inl q1368) (fun _ h => h) dX2_work_310 (js_iload hX dX2_work_313 (js_zald hX dX2_work_315 (js_if_eq hX (tgt := 323) dX2_work_316 rfl (hK 4)
    (js_const hX (z := 1) (by unfold inI; omega) dX2_work_319 (Or.inl ⟨1, rfl, rfl, rfl⟩) (js_goto hX (tgt := 354) dX2_work_320 rfl (hK 6))))))))))))))))))))))))
    (js_aload_n hX dX2_work_250 rfl (js_getfR hX (ci := 2) (k := 24) (RX2, TX2, 43) rfl (by decide) rfl (Or.inl q1368) (fun _ h => h) dX2_work_251 (js_iload hX dX2_work_254 (js_const hX (z := 1) (by unfold inI; omega) dX2_work_256 (Or.inl ⟨1, rfl, rfl, rfl⟩) (js_isub hX dX2_work_257 (js_aload_n hX dX2_work_258 rfl (js_getfR hX (ci := 2) (k := 24) (RX2, TX2, 43) rfl (by decide) rfl (Or.inl q1368) (fun _ h => h) dX2_work_259 (js_iload hX dX2_work_262 (js_const hX (z := 1) (by unfold inI; omega) dX2_work_264 (Or.inl ⟨1, rfl, rfl, rfl⟩) (js_isub hX dX2_work_265 (js_zald hX dX2_work_266 (js_if_ne hX (tgt := 274) dX2_work_267 rfl (js_const hX (z := 0) (by unfold inI; omega) dX2_work_274 (Or.inl ⟨0, rfl, rfl, rfl⟩) (hK 3))
    (js_const hX (z := 1) (by unfold inI; omega) dX2_work_270 (Or.inl ⟨1, rfl, rfl, rfl⟩) (js_goto hX (tgt := 275) dX2_work_271 rfl (hK 3))))))))))))))))))
    (js_iinc hX dX2_work_206 (by decide) (js_aload_n hX dX2_work_209 rfl (js_getfR hX (ci := 2) (k := 24) (RX2, TX2, 43) rfl (by decide) rfl (Or.inl q1368) (fun _ h => h) dX2_work_210 (js_iload hX dX2_work_213 (js_iload hX dX2_work_215 (js_aload_n hX dX2_work_217 rfl (js_getfR hX (ci := 2) (k := 23) (RX2, TX2, 43) rfl (by decide) rfl (Or.inl q1367) (fun _ h => h) dX2_work_218 (js_iload hX dX2_work_221 (js_lald hX dX2_work_223 (js_aload_n hX dX2_work_224 rfl (js_getfR hX (ci := 2) (k := 23) (RX2, TX2, 43) rfl (by decide) rfl (Or.inl q1367) (fun _ h => h) dX2_work_225 (js_iload hX dX2_work_228 (js_const hX (z := 1) (by unfold inI; omega) dX2_work_230 (Or.inl ⟨1, rfl, rfl, rfl⟩) (js_iadd hX dX2_work_231 (js_lald hX dX2_work_232 (js_callS hX MX2_isAsked (n := 3) (lw_S q1686 q1687 q156 q1688) npX2_isAsked dX2_work_233 (js_zast hX dX2_work_236 (js_iinc hX dX2_work_237 (by decide) (js_goto hX (tgt := 355) dX2_work_240 rfl (hK 7)))))))))))))))))))))))
    (js_iinc hX dX2_work_163 (by decide) (js_aload_n hX dX2_work_166 rfl (js_getfR hX (ci := 2) (k := 23) (RX2, TX2, 43) rfl (by decide) rfl (Or.inl q1367) (fun _ h => h) dX2_work_167 (js_iload hX dX2_work_170 (js_const hX (z := 1) (by unfold inI; omega) dX2_work_172 (Or.inl ⟨1, rfl, rfl, rfl⟩) (js_isub hX dX2_work_173 (js_iload hX dX2_work_174 (js_aload_n hX dX2_work_176 rfl (js_getfR hX (ci := 2) (k := 23) (RX2, TX2, 43) rfl (by decide) rfl (Or.inl q1367) (fun _ h => h) dX2_work_177 (js_iload hX dX2_work_180 (js_const hX (z := 1) (by unfold inI; omega) dX2_work_182 (Or.inl ⟨1, rfl, rfl, rfl⟩) (js_isub hX dX2_work_183 (js_lald hX dX2_work_184 (js_aload_n hX dX2_work_185 rfl (js_getfR hX (ci := 2) (k := 23) (RX2, TX2, 43) rfl (by decide) rfl (Or.inl q1367) (fun _ h => h) dX2_work_186 (js_iload hX dX2_work_189 (js_lald hX dX2_work_191 (js_callS hX MX2_two (n := 3) (lw_S q1678 q1679 q156 q1680) npX2_two dX2_work_192 (js_last hX dX2_work_195 (js_goto hX (tgt := 355) dX2_work_196 rfl (hK 7))))))))))))))))))))))))
    (js_aload_n hX dX2_work_134 rfl (js_getfR hX (ci := 2) (k := 23) (RX2, TX2, 43) rfl (by decide) rfl (Or.inl q1367) (fun _ h => h) dX2_work_135 (js_iload hX dX2_work_138 (js_const hX (z := 1) (by unfold inI; omega) dX2_work_140 (Or.inl ⟨1, rfl, rfl, rfl⟩) (js_isub hX dX2_work_141 (js_aload_n hX dX2_work_142 rfl (js_getfR hX (ci := 2) (k := 23) (RX2, TX2, 43) rfl (by decide) rfl (Or.inl q1367) (fun _ h => h) dX2_work_143 (js_iload hX dX2_work_146 (js_const hX (z := 1) (by unfold inI; omega) dX2_work_148 (Or.inl ⟨1, rfl, rfl, rfl⟩) (js_isub hX dX2_work_149 (js_lald hX dX2_work_150 (js_lneg hX dX2_work_151 (js_last hX dX2_work_152 (js_goto hX (tgt := 355) dX2_work_153 rfl (hK 7))))))))))))))))))
    (js_aload_n hX dX2_work_96 rfl (js_getfR hX (ci := 2) (k := 23) (RX2, TX2, 43) rfl (by decide) rfl (Or.inl q1367) (fun _ h => h) dX2_work_97 (js_iload hX dX2_work_100 (js_iload hX dX2_work_102 (js_if_ne hX (tgt := 113) dX2_work_104 rfl (js_aload_n hX dX2_work_113 rfl (js_getfR hX (ci := 2) (k := 22) (RX2, TX2, 43) rfl (by decide) rfl (Or.inl q1366) (fun _ h => h) dX2_work_114 (js_iload hX dX2_work_117 (js_iald hX dX2_work_119 (js_i2l hX dX2_work_120 (hK 2))))))
    (js_iload hX dX2_work_107 (js_i2l hX dX2_work_109 (js_goto hX (tgt := 121) dX2_work_110 rfl (hK 2))))))))))))))))))))))))))))))))))))))))
  | 2 => exact (js_last hX dX2_work_121 (js_iinc hX dX2_work_122 (by decide) (js_goto hX (tgt := 355) dX2_work_125 rfl (hK 7))))
  | 3 => exact (js_zast hX dX2_work_275 (js_goto hX (tgt := 355) dX2_work_276 rfl (hK 7)))
  | 4 => exact (js_const hX (z := 0) (by unfold inI; omega) dX2_work_323 (Or.inl ⟨0, rfl, rfl, rfl⟩) (js_goto hX (tgt := 354) dX2_work_324 rfl (hK 6)))
  | 5 => exact (js_const hX (z := 1) (by unfold inI; omega) dX2_work_349 (Or.inl ⟨1, rfl, rfl, rfl⟩) (js_goto hX (tgt := 354) dX2_work_350 rfl (hK 6)))
  | 6 => exact (js_zast hX dX2_work_354 (hK 7))
  | 7 => exact (js_iinc hX dX2_work_355 (by decide) (js_goto hX (tgt := 49) dX2_work_358 rfl (hK 1)))
  | k + 8 => intro ls st h nc ns hf; exact hf.elim
def bX2_two : jjB := fun e K k => match k with
  | 0 => (ji_iload 0 (ji_tsw 3 (ji_lload 3 (ji_lconst 0 (ji_lcmp (ji_if_ne (ji_lload 1 (ji_lload 3 (ji_ldiv (ji_callS e MX2_clip 1 (K 1)))))
    (ji_lconst 0 (ji_goto (K 1))))))) [(ji_lload 1 (ji_lload 3 (ji_ladd (ji_callS e MX2_clip 1 (ji_lreturn e))))), (ji_lload 1 (ji_lload 3 (ji_lsub (ji_callS e MX2_clip 1 (ji_lreturn e))))), (ji_lload 1 (ji_lload 3 (ji_lmul (ji_callS e MX2_clip 1 (ji_lreturn e)))))]))
  | 1 => (ji_lreturn e)
  | _ => fun _ _ _ _ _ => False
def pX2_two : Nat → Nat := fun k => match k with
  | 0 => 0
  | 1 => 65
  | _ => 0
theorem sX2_two : jSound bX2_two pX2_two MX2_two := by
  intro e p ev R s m args below meth c hX hr hn hlk K hK k
  match k with
  | 0 => exact (js_iload_n hX dX2_two_0 rfl (js_tsw hX (dflt := 48) (lo := 3) (hi := 5) (tgt := 49) (tgts := [28, 35, 42]) (offs := #[27, 34, 41]) dX2_two_1 rfl (by decide) (js_lload_n hX dX2_two_49 rfl (js_lconst hX (z := 0) (by unfold inL; omega) dX2_two_50 rfl (js_lcmp hX dX2_two_51 (js_if_ne hX (tgt := 59) dX2_two_52 rfl (js_lload_n hX dX2_two_59 rfl (js_lload_n hX dX2_two_60 rfl (js_ldiv hX dX2_two_61 (js_callS hX MX2_clip (n := 1) (lw_S q1681 q1682 q156 q1683) npX2_clip dX2_two_62 (hK 1)))))
    (js_lconst hX (z := 0) (by unfold inL; omega) dX2_two_55 rfl (js_goto hX (tgt := 65) dX2_two_56 rfl (hK 1))))))) (jswl_cons (js_lload_n hX dX2_two_28 rfl (js_lload_n hX dX2_two_29 rfl (js_ladd hX dX2_two_30 (js_callS hX MX2_clip (n := 1) (lw_S q1681 q1682 q156 q1683) npX2_clip dX2_two_31 (js_lreturn hX hr hlk dX2_two_34))))) (jswl_cons (js_lload_n hX dX2_two_35 rfl (js_lload_n hX dX2_two_36 rfl (js_lsub hX dX2_two_37 (js_callS hX MX2_clip (n := 1) (lw_S q1681 q1682 q156 q1683) npX2_clip dX2_two_38 (js_lreturn hX hr hlk dX2_two_41))))) (jswl_cons (js_lload_n hX dX2_two_42 rfl (js_lload_n hX dX2_two_43 rfl (js_lmul hX dX2_two_44 (js_callS hX MX2_clip (n := 1) (lw_S q1681 q1682 q156 q1683) npX2_clip dX2_two_45 (js_lreturn hX hr hlk dX2_two_48))))) jswl_nil)))))
  | 1 => exact (js_lreturn hX hr hlk dX2_two_65)
  | k + 2 => intro ls st h nc ns hf; exact hf.elim
def bX2_clip : jjB := fun e K k => match k with
  | 0 => (ji_lload 0 (ji_lconst 1000000 (ji_lcmp (ji_if_le (ji_lload 0 (ji_lconst (-1000000) (ji_lcmp (ji_if_ge (ji_lload 0 (K 1))
    (ji_lconst (-1000000) (ji_goto (K 1)))))))
    (ji_lconst 1000000 (ji_goto (K 1)))))))
  | 1 => (ji_lreturn e)
  | _ => fun _ _ _ _ _ => False
def pX2_clip : Nat → Nat := fun k => match k with
  | 0 => 0
  | 1 => 29
  | _ => 0
theorem sX2_clip : jSound bX2_clip pX2_clip MX2_clip := by
  intro e p ev R s m args below meth c hX hr hn hlk K hK k
  match k with
  | 0 => exact (js_lload_n hX dX2_clip_0 rfl (js_ldc2 hX (z := 1000000) (by unfold inL; omega) dX2_clip_1 q1684 (js_lcmp hX dX2_clip_4 (js_if_le hX (tgt := 14) dX2_clip_5 rfl (js_lload_n hX dX2_clip_14 rfl (js_ldc2 hX (z := (-1000000)) (by unfold inL; omega) dX2_clip_15 q1685 (js_lcmp hX dX2_clip_18 (js_if_ge hX (tgt := 28) dX2_clip_19 rfl (js_lload_n hX dX2_clip_28 rfl (hK 1))
    (js_ldc2 hX (z := (-1000000)) (by unfold inL; omega) dX2_clip_22 q1685 (js_goto hX (tgt := 29) dX2_clip_25 rfl (hK 1)))))))
    (js_ldc2 hX (z := 1000000) (by unfold inL; omega) dX2_clip_8 q1684 (js_goto hX (tgt := 29) dX2_clip_11 rfl (hK 1)))))))
  | 1 => exact (js_lreturn hX hr hlk dX2_clip_29)
  | k + 2 => intro ls st h nc ns hf; exact hf.elim
def bX2_isAsked : jjB := fun e K k => match k with
  | 0 => (ji_iload 0 (ji_const 10 (ji_icmp_ne (ji_iload 0 (ji_const 11 (ji_icmp_ne (ji_iload 0 (ji_const 12 (ji_icmp_ne (ji_iload 0 (ji_const 13 (ji_icmp_ne (ji_iload 0 (ji_const 14 (ji_icmp_ne (ji_lload 1 (ji_lload 3 (ji_lcmp (ji_if_eq (ji_const 0 (K 1))
    (ji_const 1 (ji_goto (K 1)))))))
    (ji_lload 1 (ji_lload 3 (ji_lcmp (ji_if_ne (ji_const 0 (ji_goto (K 1)))
    (ji_const 1 (ji_goto (K 1))))))))))
    (ji_lload 1 (ji_lload 3 (ji_lcmp (ji_if_lt (ji_const 0 (ji_goto (K 1)))
    (ji_const 1 (ji_goto (K 1))))))))))
    (ji_lload 1 (ji_lload 3 (ji_lcmp (ji_if_le (ji_const 0 (ji_goto (K 1)))
    (ji_const 1 (ji_goto (K 1))))))))))
    (ji_lload 1 (ji_lload 3 (ji_lcmp (ji_if_gt (ji_const 0 (ji_goto (K 1)))
    (ji_const 1 (ji_goto (K 1))))))))))
    (ji_lload 1 (ji_lload 3 (ji_lcmp (ji_if_ge (ji_const 0 (ji_goto (K 1)))
    (ji_const 1 (ji_goto (K 1))))))))))
  | 1 => (ji_zreturn e)
  | _ => fun _ _ _ _ _ => False
def pX2_isAsked : Nat → Nat := fun k => match k with
  | 0 => 0
  | 1 => 111
  | _ => 0
theorem sX2_isAsked : jSound bX2_isAsked pX2_isAsked MX2_isAsked := by
  intro e p ev R s m args below meth c hX hr hn hlk K hK k
  match k with
  | 0 => exact (js_iload_n hX dX2_isAsked_0 rfl (js_const hX (z := 10) (by unfold inI; omega) dX2_isAsked_1 (Or.inr (Or.inl ⟨10, rfl, rfl, rfl⟩)) (js_icmp_ne hX (tgt := 20) dX2_isAsked_3 rfl (js_iload_n hX dX2_isAsked_20 rfl (js_const hX (z := 11) (by unfold inI; omega) dX2_isAsked_21 (Or.inr (Or.inl ⟨11, rfl, rfl, rfl⟩)) (js_icmp_ne hX (tgt := 40) dX2_isAsked_23 rfl (js_iload_n hX dX2_isAsked_40 rfl (js_const hX (z := 12) (by unfold inI; omega) dX2_isAsked_41 (Or.inr (Or.inl ⟨12, rfl, rfl, rfl⟩)) (js_icmp_ne hX (tgt := 60) dX2_isAsked_43 rfl (js_iload_n hX dX2_isAsked_60 rfl (js_const hX (z := 13) (by unfold inI; omega) dX2_isAsked_61 (Or.inr (Or.inl ⟨13, rfl, rfl, rfl⟩)) (js_icmp_ne hX (tgt := 80) dX2_isAsked_63 rfl (js_iload_n hX dX2_isAsked_80 rfl (js_const hX (z := 14) (by unfold inI; omega) dX2_isAsked_81 (Or.inr (Or.inl ⟨14, rfl, rfl, rfl⟩)) (js_icmp_ne hX (tgt := 100) dX2_isAsked_83 rfl (js_lload_n hX dX2_isAsked_100 rfl (js_lload_n hX dX2_isAsked_101 rfl (js_lcmp hX dX2_isAsked_102 (js_if_eq hX (tgt := 110) dX2_isAsked_103 rfl (js_const hX (z := 0) (by unfold inI; omega) dX2_isAsked_110 (Or.inl ⟨0, rfl, rfl, rfl⟩) (hK 1))
    (js_const hX (z := 1) (by unfold inI; omega) dX2_isAsked_106 (Or.inl ⟨1, rfl, rfl, rfl⟩) (js_goto hX (tgt := 111) dX2_isAsked_107 rfl (hK 1)))))))
    (js_lload_n hX dX2_isAsked_86 rfl (js_lload_n hX dX2_isAsked_87 rfl (js_lcmp hX dX2_isAsked_88 (js_if_ne hX (tgt := 96) dX2_isAsked_89 rfl (js_const hX (z := 0) (by unfold inI; omega) dX2_isAsked_96 (Or.inl ⟨0, rfl, rfl, rfl⟩) (js_goto hX (tgt := 111) dX2_isAsked_97 rfl (hK 1)))
    (js_const hX (z := 1) (by unfold inI; omega) dX2_isAsked_92 (Or.inl ⟨1, rfl, rfl, rfl⟩) (js_goto hX (tgt := 111) dX2_isAsked_93 rfl (hK 1))))))))))
    (js_lload_n hX dX2_isAsked_66 rfl (js_lload_n hX dX2_isAsked_67 rfl (js_lcmp hX dX2_isAsked_68 (js_if_lt hX (tgt := 76) dX2_isAsked_69 rfl (js_const hX (z := 0) (by unfold inI; omega) dX2_isAsked_76 (Or.inl ⟨0, rfl, rfl, rfl⟩) (js_goto hX (tgt := 111) dX2_isAsked_77 rfl (hK 1)))
    (js_const hX (z := 1) (by unfold inI; omega) dX2_isAsked_72 (Or.inl ⟨1, rfl, rfl, rfl⟩) (js_goto hX (tgt := 111) dX2_isAsked_73 rfl (hK 1))))))))))
    (js_lload_n hX dX2_isAsked_46 rfl (js_lload_n hX dX2_isAsked_47 rfl (js_lcmp hX dX2_isAsked_48 (js_if_le hX (tgt := 56) dX2_isAsked_49 rfl (js_const hX (z := 0) (by unfold inI; omega) dX2_isAsked_56 (Or.inl ⟨0, rfl, rfl, rfl⟩) (js_goto hX (tgt := 111) dX2_isAsked_57 rfl (hK 1)))
    (js_const hX (z := 1) (by unfold inI; omega) dX2_isAsked_52 (Or.inl ⟨1, rfl, rfl, rfl⟩) (js_goto hX (tgt := 111) dX2_isAsked_53 rfl (hK 1))))))))))
    (js_lload_n hX dX2_isAsked_26 rfl (js_lload_n hX dX2_isAsked_27 rfl (js_lcmp hX dX2_isAsked_28 (js_if_gt hX (tgt := 36) dX2_isAsked_29 rfl (js_const hX (z := 0) (by unfold inI; omega) dX2_isAsked_36 (Or.inl ⟨0, rfl, rfl, rfl⟩) (js_goto hX (tgt := 111) dX2_isAsked_37 rfl (hK 1)))
    (js_const hX (z := 1) (by unfold inI; omega) dX2_isAsked_32 (Or.inl ⟨1, rfl, rfl, rfl⟩) (js_goto hX (tgt := 111) dX2_isAsked_33 rfl (hK 1))))))))))
    (js_lload_n hX dX2_isAsked_6 rfl (js_lload_n hX dX2_isAsked_7 rfl (js_lcmp hX dX2_isAsked_8 (js_if_ge hX (tgt := 16) dX2_isAsked_9 rfl (js_const hX (z := 0) (by unfold inI; omega) dX2_isAsked_16 (Or.inl ⟨0, rfl, rfl, rfl⟩) (js_goto hX (tgt := 111) dX2_isAsked_17 rfl (hK 1)))
    (js_const hX (z := 1) (by unfold inI; omega) dX2_isAsked_12 (Or.inl ⟨1, rfl, rfl, rfl⟩) (js_goto hX (tgt := 111) dX2_isAsked_13 rfl (hK 1))))))))))
  | 1 => exact (js_zreturn hX hr hlk dX2_isAsked_111)
  | k + 2 => intro ls st h nc ns hf; exact hf.elim
def bX2_wide : jjB := fun e K k => match k with
  | 0 => (ji_iload 1 (ji_callS e MX2_isShelf 1 (ji_if_eq (K 1)
    (ji_iload 2 (ji_const 1 (ji_const 99 (ji_callS e MX2_isIn 3 (ji_if_eq (K 1)
    (ji_iload 2 (ji_aload 0 (ji_iload 1 (ji_callV e MX2_fullOf 2 2 (ji_icmp_ge (ji_aload 0 (ji_getfR 2 0 (ji_const 10 (ji_iload 1 (ji_iadd (ji_iload 2 (ji_iast (ji_const 1 (ji_zreturn e)))))))))
    (K 1))))))))))))))
  | 1 => (ji_const 0 (ji_zreturn e))
  | _ => fun _ _ _ _ _ => False
def pX2_wide : Nat → Nat := fun k => match k with
  | 0 => 0
  | 1 => 26
  | _ => 0
theorem sX2_wide : jSound bX2_wide pX2_wide MX2_wide := by
  intro e p ev R s m args below meth c hX hr hn hlk K hK k
  match k with
  | 0 => exact (js_iload_n hX dX2_wide_0 rfl (js_callS hX MX2_isShelf (n := 1) (lw_S q1693 q1694 q156 q1695) npX2_isShelf dX2_wide_1 (js_if_eq hX (tgt := 26) dX2_wide_4 rfl (hK 1)
    (js_iload_n hX dX2_wide_7 rfl (js_const hX (z := 1) (by unfold inI; omega) dX2_wide_8 (Or.inl ⟨1, rfl, rfl, rfl⟩) (js_const hX (z := 99) (by unfold inI; omega) dX2_wide_9 (Or.inr (Or.inl ⟨99, rfl, rfl, rfl⟩)) (js_callS hX MX2_isIn (n := 3) (lw_S q1479 q1480 q156 q1481) npX2_isIn dX2_wide_11 (js_if_eq hX (tgt := 26) dX2_wide_14 rfl (hK 1)
    (js_iload_n hX dX2_wide_17 rfl (js_aload_n hX dX2_wide_18 rfl (js_iload_n hX dX2_wide_19 rfl (js_callV hX MX2_fullOf (ci := 2) (n := 1) (RX2, TX2, 43) rfl rfl (lw_V q1696 q1698 qs103 q156 q1699) npX2_fullOf dX2_wide_20 (js_icmp_ge hX (tgt := 28) dX2_wide_23 rfl (js_aload_n hX dX2_wide_28 rfl (js_getfR hX (ci := 2) (k := 0) (RX2, TX2, 43) rfl (by decide) rfl (Or.inl q1346) (fun _ h => h) dX2_wide_29 (js_const hX (z := 10) (by unfold inI; omega) dX2_wide_32 (Or.inr (Or.inl ⟨10, rfl, rfl, rfl⟩)) (js_iload_n hX dX2_wide_34 rfl (js_iadd hX dX2_wide_35 (js_iload_n hX dX2_wide_36 rfl (js_iast hX dX2_wide_37 (js_const hX (z := 1) (by unfold inI; omega) dX2_wide_38 (Or.inl ⟨1, rfl, rfl, rfl⟩) (js_zreturn hX hr hlk dX2_wide_39)))))))))
    (hK 1))))))))))))))
  | 1 => exact (js_const hX (z := 0) (by unfold inI; omega) dX2_wide_26 (Or.inl ⟨0, rfl, rfl, rfl⟩) (js_zreturn hX hr hlk dX2_wide_27))
  | k + 2 => intro ls st h nc ns hf; exact hf.elim
def bX2_isShelf : jjB := fun e K k => match k with
  | 0 => (ji_iload 0 (ji_const 0 (ji_const 2 (ji_callS e MX2_isIn 3 (ji_zreturn e)))))
  | _ => fun _ _ _ _ _ => False
def pX2_isShelf : Nat → Nat := fun k => match k with
  | 0 => 0
  | _ => 0
theorem sX2_isShelf : jSound bX2_isShelf pX2_isShelf MX2_isShelf := by
  intro e p ev R s m args below meth c hX hr hn hlk K hK k
  match k with
  | 0 => exact (js_iload_n hX dX2_isShelf_0 rfl (js_const hX (z := 0) (by unfold inI; omega) dX2_isShelf_1 (Or.inl ⟨0, rfl, rfl, rfl⟩) (js_const hX (z := 2) (by unfold inI; omega) dX2_isShelf_2 (Or.inl ⟨2, rfl, rfl, rfl⟩) (js_callS hX MX2_isIn (n := 3) (lw_S q1479 q1480 q156 q1481) npX2_isIn dX2_isShelf_3 (js_zreturn hX hr hlk dX2_isShelf_6)))))
  | k + 1 => intro ls st h nc ns hf; exact hf.elim
def bX2_fullOf : jjB := fun e K k => match k with
  | 0 => (ji_const 0 (ji_istore 2 (ji_const 0 (ji_istore 3 (K 1)))))
  | 1 => (ji_iload 3 (ji_aload 0 (ji_getfR 2 0 (ji_const 13 (ji_iload 1 (ji_iadd (ji_iald (ji_icmp_ge (ji_iload 2 (ji_ireturn e))
    (ji_iload 2 (ji_aload 0 (ji_aload 0 (ji_iload 1 (ji_iload 3 (ji_callV e MX2_bookAt 2 3 (ji_callV e MX2_thickNow 2 2 (ji_iadd (ji_istore 2 (ji_iinc 3 1 (ji_goto (K 1))))))))))))))))))))
  | _ => fun _ _ _ _ _ => False
def pX2_fullOf : Nat → Nat := fun k => match k with
  | 0 => 0
  | 1 => 4
  | _ => 0
theorem sX2_fullOf : jSound bX2_fullOf pX2_fullOf MX2_fullOf := by
  intro e p ev R s m args below meth c hX hr hn hlk K hK k
  match k with
  | 0 => exact (js_const hX (z := 0) (by unfold inI; omega) dX2_fullOf_0 (Or.inl ⟨0, rfl, rfl, rfl⟩) (js_istore_n hX dX2_fullOf_1 rfl (by decide) (js_const hX (z := 0) (by unfold inI; omega) dX2_fullOf_2 (Or.inl ⟨0, rfl, rfl, rfl⟩) (js_istore_n hX dX2_fullOf_3 rfl (by decide) (hK 1)))))
  | 1 => exact (js_iload_n hX dX2_fullOf_4 rfl (js_aload_n hX dX2_fullOf_5 rfl (js_getfR hX (ci := 2) (k := 0) (RX2, TX2, 43) rfl (by decide) rfl (Or.inl q1346) (fun _ h => h) dX2_fullOf_6 (js_const hX (z := 13) (by unfold inI; omega) dX2_fullOf_9 (Or.inr (Or.inl ⟨13, rfl, rfl, rfl⟩)) (js_iload_n hX dX2_fullOf_11 rfl (js_iadd hX dX2_fullOf_12 (js_iald hX dX2_fullOf_13 (js_icmp_ge hX (tgt := 36) dX2_fullOf_14 rfl (js_iload_n hX dX2_fullOf_36 rfl (js_ireturn hX hr hlk dX2_fullOf_37))
    (js_iload_n hX dX2_fullOf_17 rfl (js_aload_n hX dX2_fullOf_18 rfl (js_aload_n hX dX2_fullOf_19 rfl (js_iload_n hX dX2_fullOf_20 rfl (js_iload_n hX dX2_fullOf_21 rfl (js_callV hX MX2_bookAt (ci := 2) (n := 2) (RX2, TX2, 43) rfl rfl (lw_V q1700 q1702 qs104 q156 q1703) npX2_bookAt dX2_fullOf_22 (js_callV hX MX2_thickNow (ci := 2) (n := 1) (RX2, TX2, 43) rfl rfl (lw_V q1704 q1706 qs105 q156 q1707) npX2_thickNow dX2_fullOf_25 (js_iadd hX dX2_fullOf_28 (js_istore_n hX dX2_fullOf_29 rfl (by decide) (js_iinc hX dX2_fullOf_30 (by decide) (js_goto hX (tgt := 4) dX2_fullOf_33 rfl (hK 1))))))))))))))))))))
  | k + 2 => intro ls st h nc ns hf; exact hf.elim
def bX2_bookAt : jjB := fun e K k => match k with
  | 0 => (ji_aload 0 (ji_getfR 2 0 (ji_const 16 (ji_const 10 (ji_iload 1 (ji_imul (ji_iadd (ji_iload 2 (ji_iadd (ji_iald (ji_ireturn e)))))))))))
  | _ => fun _ _ _ _ _ => False
def pX2_bookAt : Nat → Nat := fun k => match k with
  | 0 => 0
  | _ => 0
theorem sX2_bookAt : jSound bX2_bookAt pX2_bookAt MX2_bookAt := by
  intro e p ev R s m args below meth c hX hr hn hlk K hK k
  match k with
  | 0 => exact (js_aload_n hX dX2_bookAt_0 rfl (js_getfR hX (ci := 2) (k := 0) (RX2, TX2, 43) rfl (by decide) rfl (Or.inl q1346) (fun _ h => h) dX2_bookAt_1 (js_const hX (z := 16) (by unfold inI; omega) dX2_bookAt_4 (Or.inr (Or.inl ⟨16, rfl, rfl, rfl⟩)) (js_const hX (z := 10) (by unfold inI; omega) dX2_bookAt_6 (Or.inr (Or.inl ⟨10, rfl, rfl, rfl⟩)) (js_iload_n hX dX2_bookAt_8 rfl (js_imul hX dX2_bookAt_9 (js_iadd hX dX2_bookAt_10 (js_iload_n hX dX2_bookAt_11 rfl (js_iadd hX dX2_bookAt_12 (js_iald hX dX2_bookAt_13 (js_ireturn hX hr hlk dX2_bookAt_14)))))))))))
  | k + 1 => intro ls st h nc ns hf; exact hf.elim
def bX2_thickNow : jjB := fun e K k => match k with
  | 0 => (ji_aload 0 (ji_getfR 2 0 (ji_const 2 (ji_iald (ji_const 1 (ji_icmp_ne (ji_const (-1) (K 1))
    (ji_aload 0 (ji_const 2 (ji_const 0 (ji_callV e MX2_clauseOf 2 3 (ji_goto (K 1))))))))))))
  | 1 => (ji_istore 2 (ji_iload 2 (ji_if_ge (ji_aload 0 (ji_iload 1 (ji_callV e MX2_name 2 2 (ji_aload 0 (ji_iload 2 (ji_callV e MX2_work 2 2 (ji_aload 0 (ji_iload 1 (ji_const 2 (ji_callV e MX2_get 2 3 (ji_aload 0 (ji_getfR 2 23 (ji_const 0 (ji_lald (ji_lconst 0 (ji_lcmp (ji_if_ge (ji_aload 0 (ji_getfR 2 23 (ji_const 0 (ji_lald (ji_lconst 9 (ji_lcmp (ji_if_le (ji_aload 0 (ji_getfR 2 23 (ji_const 0 (ji_lald (ji_l2i (K 2))))))
    (ji_const 9 (ji_goto (K 2))))))))))
    (ji_const 0 (ji_goto (K 2))))))))))))))))))))
    (ji_aload 0 (ji_iload 1 (ji_const 2 (ji_callV e MX2_get 2 3 (ji_ireturn e))))))))
  | 2 => (ji_iadd (ji_ireturn e))
  | _ => fun _ _ _ _ _ => False
def pX2_thickNow : Nat → Nat := fun k => match k with
  | 0 => 0
  | 1 => 20
  | 2 => 88
  | _ => 0
theorem sX2_thickNow : jSound bX2_thickNow pX2_thickNow MX2_thickNow := by
  intro e p ev R s m args below meth c hX hr hn hlk K hK k
  match k with
  | 0 => exact (js_aload_n hX dX2_thickNow_0 rfl (js_getfR hX (ci := 2) (k := 0) (RX2, TX2, 43) rfl (by decide) rfl (Or.inl q1346) (fun _ h => h) dX2_thickNow_1 (js_const hX (z := 2) (by unfold inI; omega) dX2_thickNow_4 (Or.inl ⟨2, rfl, rfl, rfl⟩) (js_iald hX dX2_thickNow_5 (js_const hX (z := 1) (by unfold inI; omega) dX2_thickNow_6 (Or.inl ⟨1, rfl, rfl, rfl⟩) (js_icmp_ne hX (tgt := 19) dX2_thickNow_7 rfl (js_const hX (z := (-1)) (by unfold inI; omega) dX2_thickNow_19 (Or.inl ⟨(-1), rfl, rfl, rfl⟩) (hK 1))
    (js_aload_n hX dX2_thickNow_10 rfl (js_const hX (z := 2) (by unfold inI; omega) dX2_thickNow_11 (Or.inl ⟨2, rfl, rfl, rfl⟩) (js_const hX (z := 0) (by unfold inI; omega) dX2_thickNow_12 (Or.inl ⟨0, rfl, rfl, rfl⟩) (js_callV hX MX2_clauseOf (ci := 2) (n := 2) (RX2, TX2, 43) rfl rfl (lw_V q1666 q1668 qs100 q156 q1669) npX2_clauseOf dX2_thickNow_13 (js_goto hX (tgt := 20) dX2_thickNow_16 rfl (hK 1))))))))))))
  | 1 => exact (js_istore_n hX dX2_thickNow_20 rfl (by decide) (js_iload_n hX dX2_thickNow_21 rfl (js_if_ge hX (tgt := 32) dX2_thickNow_22 rfl (js_aload_n hX dX2_thickNow_32 rfl (js_iload_n hX dX2_thickNow_33 rfl (js_callV hX MX2_name (ci := 2) (n := 1) (RX2, TX2, 43) rfl rfl (lw_V q1670 q1672 qs101 q156 q1673) npX2_name dX2_thickNow_34 (js_aload_n hX dX2_thickNow_37 rfl (js_iload_n hX dX2_thickNow_38 rfl (js_callV hX MX2_work (ci := 2) (n := 1) (RX2, TX2, 43) rfl rfl (lw_V q1674 q1676 qs102 q156 q1677) npX2_work dX2_thickNow_39 (js_aload_n hX dX2_thickNow_42 rfl (js_iload_n hX dX2_thickNow_43 rfl (js_const hX (z := 2) (by unfold inI; omega) dX2_thickNow_44 (Or.inl ⟨2, rfl, rfl, rfl⟩) (js_callV hX MX2_get (ci := 2) (n := 2) (RX2, TX2, 43) rfl rfl (lw_V q1658 q1660 qs98 q156 q1661) npX2_get dX2_thickNow_45 (js_aload_n hX dX2_thickNow_48 rfl (js_getfR hX (ci := 2) (k := 23) (RX2, TX2, 43) rfl (by decide) rfl (Or.inl q1367) (fun _ h => h) dX2_thickNow_49 (js_const hX (z := 0) (by unfold inI; omega) dX2_thickNow_52 (Or.inl ⟨0, rfl, rfl, rfl⟩) (js_lald hX dX2_thickNow_53 (js_lconst hX (z := 0) (by unfold inL; omega) dX2_thickNow_54 rfl (js_lcmp hX dX2_thickNow_55 (js_if_ge hX (tgt := 63) dX2_thickNow_56 rfl (js_aload_n hX dX2_thickNow_63 rfl (js_getfR hX (ci := 2) (k := 23) (RX2, TX2, 43) rfl (by decide) rfl (Or.inl q1367) (fun _ h => h) dX2_thickNow_64 (js_const hX (z := 0) (by unfold inI; omega) dX2_thickNow_67 (Or.inl ⟨0, rfl, rfl, rfl⟩) (js_lald hX dX2_thickNow_68 (js_ldc2 hX (z := 9) (by unfold inL; omega) dX2_thickNow_69 q1708 (js_lcmp hX dX2_thickNow_72 (js_if_le hX (tgt := 81) dX2_thickNow_73 rfl (js_aload_n hX dX2_thickNow_81 rfl (js_getfR hX (ci := 2) (k := 23) (RX2, TX2, 43) rfl (by decide) rfl (Or.inl q1367) (fun _ h => h) dX2_thickNow_82 (js_const hX (z := 0) (by unfold inI; omega) dX2_thickNow_85 (Or.inl ⟨0, rfl, rfl, rfl⟩) (js_lald hX dX2_thickNow_86 (js_l2i hX dX2_thickNow_87 (hK 2))))))
    (js_const hX (z := 9) (by unfold inI; omega) dX2_thickNow_76 (Or.inr (Or.inl ⟨9, rfl, rfl, rfl⟩)) (js_goto hX (tgt := 88) dX2_thickNow_78 rfl (hK 2))))))))))
    (js_const hX (z := 0) (by unfold inI; omega) dX2_thickNow_59 (Or.inl ⟨0, rfl, rfl, rfl⟩) (js_goto hX (tgt := 88) dX2_thickNow_60 rfl (hK 2))))))))))))))))))))
    (js_aload_n hX dX2_thickNow_25 rfl (js_iload_n hX dX2_thickNow_26 rfl (js_const hX (z := 2) (by unfold inI; omega) dX2_thickNow_27 (Or.inl ⟨2, rfl, rfl, rfl⟩) (js_callV hX MX2_get (ci := 2) (n := 2) (RX2, TX2, 43) rfl rfl (lw_V q1658 q1660 qs98 q156 q1661) npX2_get dX2_thickNow_28 (js_ireturn hX hr hlk dX2_thickNow_31))))))))
  | 2 => exact (js_iadd hX dX2_thickNow_88 (js_ireturn hX hr hlk dX2_thickNow_89))
  | k + 3 => intro ls st h nc ns hf; exact hf.elim
def bX2_undo : jjB := fun e K k => match k with
  | 0 => (ji_aload 0 (ji_getfR 2 0 (ji_const 7 (ji_iald (ji_if_ne (ji_aload 0 (ji_getfR 2 0 (ji_const 7 (ji_dup2 (ji_iald (ji_const 1 (ji_isub (ji_iast (ji_const 154 (ji_const 48 (ji_aload 0 (ji_getfR 2 0 (ji_const 7 (ji_iald (ji_imul (ji_iadd (ji_istore 1 (ji_aload 0 (ji_getfR 2 0 (ji_const 1 (ji_aload 0 (ji_getfR 2 0 (ji_iload 1 (ji_const 1 (ji_iadd (ji_iald (ji_iast (ji_aload 0 (ji_getfR 2 0 (ji_const 2 (ji_aload 0 (ji_getfR 2 0 (ji_iload 1 (ji_const 2 (ji_iadd (ji_iald (ji_iast (ji_aload 0 (ji_getfR 2 0 (ji_const 4 (ji_aload 0 (ji_getfR 2 0 (ji_iload 1 (ji_const 3 (ji_iadd (ji_iald (ji_iast (ji_aload 0 (ji_getfR 2 0 (ji_const 9 (ji_aload 0 (ji_getfR 2 0 (ji_iload 1 (ji_const 4 (ji_iadd (ji_iald (ji_iast (ji_const 0 (ji_istore 2 (K 1))))))))))))))))))))))))))))))))))))))))))))))))))))))))))))
    (ji_const (-1) (ji_ireturn e)))))))
  | 1 => (ji_iload 2 (ji_const 33 (ji_icmp_ge (ji_const 0 (ji_istore 2 (K 2)))
    (ji_aload 0 (ji_getfR 2 0 (ji_const 13 (ji_iload 2 (ji_iadd (ji_aload 0 (ji_getfR 2 0 (ji_iload 1 (ji_const 5 (ji_iadd (ji_iload 2 (ji_iadd (ji_iald (ji_iast (ji_iinc 2 1 (ji_goto (K 1))))))))))))))))))))
  | 2 => (ji_iload 2 (ji_aload 0 (ji_getfR 2 0 (ji_const 0 (ji_iald (ji_icmp_ge (ji_aload 0 (ji_getfR 2 0 (ji_const 7 (ji_iald (ji_ireturn e)))))
    (ji_aload 0 (ji_iload 2 (ji_const 5 (ji_iload 2 (ji_aload 0 (ji_getfR 2 0 (ji_iload 1 (ji_iald (ji_icmp_ge (ji_const 3 (K 3))
    (ji_aload 0 (ji_getfR 2 0 (ji_iload 1 (ji_const 38 (ji_iadd (ji_iload 2 (ji_iadd (ji_iald (ji_goto (K 3)))))))))))))))))))))))))
  | 3 => (ji_callV e MX2_set 2 4 (ji_iinc 2 1 (ji_goto (K 2))))
  | _ => fun _ _ _ _ _ => False
def pX2_undo : Nat → Nat := fun k => match k with
  | 0 => 0
  | 1 => 97
  | 2 => 130
  | 3 => 168
  | _ => 0
theorem sX2_undo : jSound bX2_undo pX2_undo MX2_undo := by
  intro e p ev R s m args below meth c hX hr hn hlk K hK k
  match k with
  | 0 => exact (js_aload_n hX dX2_undo_0 rfl (js_getfR hX (ci := 2) (k := 0) (RX2, TX2, 43) rfl (by decide) rfl (Or.inl q1346) (fun _ h => h) dX2_undo_1 (js_const hX (z := 7) (by unfold inI; omega) dX2_undo_4 (Or.inr (Or.inl ⟨7, rfl, rfl, rfl⟩)) (js_iald hX dX2_undo_6 (js_if_ne hX (tgt := 12) dX2_undo_7 rfl (js_aload_n hX dX2_undo_12 rfl (js_getfR hX (ci := 2) (k := 0) (RX2, TX2, 43) rfl (by decide) rfl (Or.inl q1346) (fun _ h => h) dX2_undo_13 (js_const hX (z := 7) (by unfold inI; omega) dX2_undo_16 (Or.inr (Or.inl ⟨7, rfl, rfl, rfl⟩)) (js_dup2 hX dX2_undo_18 (js_iald hX dX2_undo_19 (js_const hX (z := 1) (by unfold inI; omega) dX2_undo_20 (Or.inl ⟨1, rfl, rfl, rfl⟩) (js_isub hX dX2_undo_21 (js_iast hX dX2_undo_22 (js_const hX (z := 154) (by unfold inI; omega) dX2_undo_23 (Or.inr (Or.inr (Or.inl ⟨154, rfl, rfl, rfl⟩))) (js_const hX (z := 48) (by unfold inI; omega) dX2_undo_26 (Or.inr (Or.inl ⟨48, rfl, rfl, rfl⟩)) (js_aload_n hX dX2_undo_28 rfl (js_getfR hX (ci := 2) (k := 0) (RX2, TX2, 43) rfl (by decide) rfl (Or.inl q1346) (fun _ h => h) dX2_undo_29 (js_const hX (z := 7) (by unfold inI; omega) dX2_undo_32 (Or.inr (Or.inl ⟨7, rfl, rfl, rfl⟩)) (js_iald hX dX2_undo_34 (js_imul hX dX2_undo_35 (js_iadd hX dX2_undo_36 (js_istore_n hX dX2_undo_37 rfl (by decide) (js_aload_n hX dX2_undo_38 rfl (js_getfR hX (ci := 2) (k := 0) (RX2, TX2, 43) rfl (by decide) rfl (Or.inl q1346) (fun _ h => h) dX2_undo_39 (js_const hX (z := 1) (by unfold inI; omega) dX2_undo_42 (Or.inl ⟨1, rfl, rfl, rfl⟩) (js_aload_n hX dX2_undo_43 rfl (js_getfR hX (ci := 2) (k := 0) (RX2, TX2, 43) rfl (by decide) rfl (Or.inl q1346) (fun _ h => h) dX2_undo_44 (js_iload_n hX dX2_undo_47 rfl (js_const hX (z := 1) (by unfold inI; omega) dX2_undo_48 (Or.inl ⟨1, rfl, rfl, rfl⟩) (js_iadd hX dX2_undo_49 (js_iald hX dX2_undo_50 (js_iast hX dX2_undo_51 (js_aload_n hX dX2_undo_52 rfl (js_getfR hX (ci := 2) (k := 0) (RX2, TX2, 43) rfl (by decide) rfl (Or.inl q1346) (fun _ h => h) dX2_undo_53 (js_const hX (z := 2) (by unfold inI; omega) dX2_undo_56 (Or.inl ⟨2, rfl, rfl, rfl⟩) (js_aload_n hX dX2_undo_57 rfl (js_getfR hX (ci := 2) (k := 0) (RX2, TX2, 43) rfl (by decide) rfl (Or.inl q1346) (fun _ h => h) dX2_undo_58 (js_iload_n hX dX2_undo_61 rfl (js_const hX (z := 2) (by unfold inI; omega) dX2_undo_62 (Or.inl ⟨2, rfl, rfl, rfl⟩) (js_iadd hX dX2_undo_63 (js_iald hX dX2_undo_64 (js_iast hX dX2_undo_65 (js_aload_n hX dX2_undo_66 rfl (js_getfR hX (ci := 2) (k := 0) (RX2, TX2, 43) rfl (by decide) rfl (Or.inl q1346) (fun _ h => h) dX2_undo_67 (js_const hX (z := 4) (by unfold inI; omega) dX2_undo_70 (Or.inl ⟨4, rfl, rfl, rfl⟩) (js_aload_n hX dX2_undo_71 rfl (js_getfR hX (ci := 2) (k := 0) (RX2, TX2, 43) rfl (by decide) rfl (Or.inl q1346) (fun _ h => h) dX2_undo_72 (js_iload_n hX dX2_undo_75 rfl (js_const hX (z := 3) (by unfold inI; omega) dX2_undo_76 (Or.inl ⟨3, rfl, rfl, rfl⟩) (js_iadd hX dX2_undo_77 (js_iald hX dX2_undo_78 (js_iast hX dX2_undo_79 (js_aload_n hX dX2_undo_80 rfl (js_getfR hX (ci := 2) (k := 0) (RX2, TX2, 43) rfl (by decide) rfl (Or.inl q1346) (fun _ h => h) dX2_undo_81 (js_const hX (z := 9) (by unfold inI; omega) dX2_undo_84 (Or.inr (Or.inl ⟨9, rfl, rfl, rfl⟩)) (js_aload_n hX dX2_undo_86 rfl (js_getfR hX (ci := 2) (k := 0) (RX2, TX2, 43) rfl (by decide) rfl (Or.inl q1346) (fun _ h => h) dX2_undo_87 (js_iload_n hX dX2_undo_90 rfl (js_const hX (z := 4) (by unfold inI; omega) dX2_undo_91 (Or.inl ⟨4, rfl, rfl, rfl⟩) (js_iadd hX dX2_undo_92 (js_iald hX dX2_undo_93 (js_iast hX dX2_undo_94 (js_const hX (z := 0) (by unfold inI; omega) dX2_undo_95 (Or.inl ⟨0, rfl, rfl, rfl⟩) (js_istore_n hX dX2_undo_96 rfl (by decide) (hK 1))))))))))))))))))))))))))))))))))))))))))))))))))))))))))))
    (js_const hX (z := (-1)) (by unfold inI; omega) dX2_undo_10 (Or.inl ⟨(-1), rfl, rfl, rfl⟩) (js_ireturn hX hr hlk dX2_undo_11)))))))
  | 1 => exact (js_iload_n hX dX2_undo_97 rfl (js_const hX (z := 33) (by unfold inI; omega) dX2_undo_98 (Or.inr (Or.inl ⟨33, rfl, rfl, rfl⟩)) (js_icmp_ge hX (tgt := 128) dX2_undo_100 rfl (js_const hX (z := 0) (by unfold inI; omega) dX2_undo_128 (Or.inl ⟨0, rfl, rfl, rfl⟩) (js_istore_n hX dX2_undo_129 rfl (by decide) (hK 2)))
    (js_aload_n hX dX2_undo_103 rfl (js_getfR hX (ci := 2) (k := 0) (RX2, TX2, 43) rfl (by decide) rfl (Or.inl q1346) (fun _ h => h) dX2_undo_104 (js_const hX (z := 13) (by unfold inI; omega) dX2_undo_107 (Or.inr (Or.inl ⟨13, rfl, rfl, rfl⟩)) (js_iload_n hX dX2_undo_109 rfl (js_iadd hX dX2_undo_110 (js_aload_n hX dX2_undo_111 rfl (js_getfR hX (ci := 2) (k := 0) (RX2, TX2, 43) rfl (by decide) rfl (Or.inl q1346) (fun _ h => h) dX2_undo_112 (js_iload_n hX dX2_undo_115 rfl (js_const hX (z := 5) (by unfold inI; omega) dX2_undo_116 (Or.inl ⟨5, rfl, rfl, rfl⟩) (js_iadd hX dX2_undo_117 (js_iload_n hX dX2_undo_118 rfl (js_iadd hX dX2_undo_119 (js_iald hX dX2_undo_120 (js_iast hX dX2_undo_121 (js_iinc hX dX2_undo_122 (by decide) (js_goto hX (tgt := 97) dX2_undo_125 rfl (hK 1))))))))))))))))))))
  | 2 => exact (js_iload_n hX dX2_undo_130 rfl (js_aload_n hX dX2_undo_131 rfl (js_getfR hX (ci := 2) (k := 0) (RX2, TX2, 43) rfl (by decide) rfl (Or.inl q1346) (fun _ h => h) dX2_undo_132 (js_const hX (z := 0) (by unfold inI; omega) dX2_undo_135 (Or.inl ⟨0, rfl, rfl, rfl⟩) (js_iald hX dX2_undo_136 (js_icmp_ge hX (tgt := 177) dX2_undo_137 rfl (js_aload_n hX dX2_undo_177 rfl (js_getfR hX (ci := 2) (k := 0) (RX2, TX2, 43) rfl (by decide) rfl (Or.inl q1346) (fun _ h => h) dX2_undo_178 (js_const hX (z := 7) (by unfold inI; omega) dX2_undo_181 (Or.inr (Or.inl ⟨7, rfl, rfl, rfl⟩)) (js_iald hX dX2_undo_183 (js_ireturn hX hr hlk dX2_undo_184)))))
    (js_aload_n hX dX2_undo_140 rfl (js_iload_n hX dX2_undo_141 rfl (js_const hX (z := 5) (by unfold inI; omega) dX2_undo_142 (Or.inl ⟨5, rfl, rfl, rfl⟩) (js_iload_n hX dX2_undo_143 rfl (js_aload_n hX dX2_undo_144 rfl (js_getfR hX (ci := 2) (k := 0) (RX2, TX2, 43) rfl (by decide) rfl (Or.inl q1346) (fun _ h => h) dX2_undo_145 (js_iload_n hX dX2_undo_148 rfl (js_iald hX dX2_undo_149 (js_icmp_ge hX (tgt := 167) dX2_undo_150 rfl (js_const hX (z := 3) (by unfold inI; omega) dX2_undo_167 (Or.inl ⟨3, rfl, rfl, rfl⟩) (hK 3))
    (js_aload_n hX dX2_undo_153 rfl (js_getfR hX (ci := 2) (k := 0) (RX2, TX2, 43) rfl (by decide) rfl (Or.inl q1346) (fun _ h => h) dX2_undo_154 (js_iload_n hX dX2_undo_157 rfl (js_const hX (z := 38) (by unfold inI; omega) dX2_undo_158 (Or.inr (Or.inl ⟨38, rfl, rfl, rfl⟩)) (js_iadd hX dX2_undo_160 (js_iload_n hX dX2_undo_161 rfl (js_iadd hX dX2_undo_162 (js_iald hX dX2_undo_163 (js_goto hX (tgt := 168) dX2_undo_164 rfl (hK 3)))))))))))))))))))))))))
  | 3 => exact (js_callV hX MX2_set (ci := 2) (n := 3) (RX2, TX2, 43) rfl rfl (lw_V q1482 q1484 qs66 q156 q1485) npX2_set dX2_undo_168 (js_iinc hX dX2_undo_171 (by decide) (js_goto hX (tgt := 130) dX2_undo_174 rfl (hK 2))))
  | k + 4 => intro ls st h nc ns hf; exact hf.elim
def bX2_night : jjB := fun e K k => match k with
  | 0 => (ji_iload 1 (ji_const 1 (ji_const 99 (ji_callS e MX2_isIn 3 (ji_if_eq (K 1)
    (ji_aload 0 (ji_getfR 2 0 (ji_const 1 (ji_iald (ji_iload 1 (ji_iadd (ji_const 9999 (ji_icmp_le (ji_const 0 (ji_istore 2 (ji_const 0 (ji_istore 3 (K 2)))))
    (K 1))))))))))))))
  | 1 => (ji_const (-1) (ji_ireturn e))
  | 2 => (ji_iload 3 (ji_iload 1 (ji_icmp_ge (ji_iload 2 (ji_ireturn e))
    (ji_iload 2 (ji_aload 0 (ji_callV e MX2_oneNight 2 1 (ji_iadd (ji_istore 2 (ji_iinc 3 1 (ji_goto (K 2)))))))))))
  | _ => fun _ _ _ _ _ => False
def pX2_night : Nat → Nat := fun k => match k with
  | 0 => 0
  | 1 => 24
  | 2 => 30
  | _ => 0
theorem sX2_night : jSound bX2_night pX2_night MX2_night := by
  intro e p ev R s m args below meth c hX hr hn hlk K hK k
  match k with
  | 0 => exact (js_iload_n hX dX2_night_0 rfl (js_const hX (z := 1) (by unfold inI; omega) dX2_night_1 (Or.inl ⟨1, rfl, rfl, rfl⟩) (js_const hX (z := 99) (by unfold inI; omega) dX2_night_2 (Or.inr (Or.inl ⟨99, rfl, rfl, rfl⟩)) (js_callS hX MX2_isIn (n := 3) (lw_S q1479 q1480 q156 q1481) npX2_isIn dX2_night_4 (js_if_eq hX (tgt := 24) dX2_night_7 rfl (hK 1)
    (js_aload_n hX dX2_night_10 rfl (js_getfR hX (ci := 2) (k := 0) (RX2, TX2, 43) rfl (by decide) rfl (Or.inl q1346) (fun _ h => h) dX2_night_11 (js_const hX (z := 1) (by unfold inI; omega) dX2_night_14 (Or.inl ⟨1, rfl, rfl, rfl⟩) (js_iald hX dX2_night_15 (js_iload_n hX dX2_night_16 rfl (js_iadd hX dX2_night_17 (js_const hX (z := 9999) (by unfold inI; omega) dX2_night_18 (Or.inr (Or.inr (Or.inl ⟨9999, rfl, rfl, rfl⟩))) (js_icmp_le hX (tgt := 26) dX2_night_21 rfl (js_const hX (z := 0) (by unfold inI; omega) dX2_night_26 (Or.inl ⟨0, rfl, rfl, rfl⟩) (js_istore_n hX dX2_night_27 rfl (by decide) (js_const hX (z := 0) (by unfold inI; omega) dX2_night_28 (Or.inl ⟨0, rfl, rfl, rfl⟩) (js_istore_n hX dX2_night_29 rfl (by decide) (hK 2)))))
    (hK 1))))))))))))))
  | 1 => exact (js_const hX (z := (-1)) (by unfold inI; omega) dX2_night_24 (Or.inl ⟨(-1), rfl, rfl, rfl⟩) (js_ireturn hX hr hlk dX2_night_25))
  | 2 => exact (js_iload_n hX dX2_night_30 rfl (js_iload_n hX dX2_night_31 rfl (js_icmp_ge hX (tgt := 48) dX2_night_32 rfl (js_iload_n hX dX2_night_48 rfl (js_ireturn hX hr hlk dX2_night_49))
    (js_iload_n hX dX2_night_35 rfl (js_aload_n hX dX2_night_36 rfl (js_callV hX MX2_oneNight (ci := 2) (n := 0) (RX2, TX2, 43) rfl rfl (lw_V q1717 q1719 qs106 q156 q1720) npX2_oneNight dX2_night_37 (js_iadd hX dX2_night_40 (js_istore_n hX dX2_night_41 rfl (by decide) (js_iinc hX dX2_night_42 (by decide) (js_goto hX (tgt := 30) dX2_night_45 rfl (hK 2)))))))))))
  | k + 3 => intro ls st h nc ns hf; exact hf.elim
def bX2_oneNight : jjB := fun e K k => match k with
  | 0 => (ji_aload 0 (ji_callV e MX2_keep 2 1 (ji_const 0 (ji_istore 1 (ji_const 0 (ji_istore 2 (K 1)))))))
  | 1 => (ji_iload 2 (ji_const 3 (ji_icmp_ge (ji_aload 0 (ji_getfR 2 0 (ji_const 1 (ji_dup2 (ji_iald (ji_const 1 (ji_iadd (ji_iast (ji_aload 0 (ji_dup (ji_getfI 2 25 (ji_aload 0 (ji_callV e MX2_fall 2 1 (ji_iadd (ji_putfI 2 25 (ji_iload 1 (ji_ireturn e)))))))))))))))))
    (ji_aload 0 (ji_getfR 2 0 (ji_const 1 (ji_iald (ji_const 2 (ji_irem (ji_istore 3 (K 2)))))))))))
  | 2 => (ji_iload 3 (ji_const 1 (ji_iadd (ji_aload 0 (ji_getfR 2 0 (ji_const 13 (ji_iload 2 (ji_iadd (ji_iald (ji_icmp_ge (ji_iinc 2 1 (ji_goto (K 1)))
    (ji_iload 1 (ji_aload 0 (ji_iload 2 (ji_iload 3 (ji_callV e MX2_changeAt 2 3 (ji_iadd (ji_istore 1 (ji_iinc 3 2 (ji_goto (K 2))))))))))))))))))))
  | _ => fun _ _ _ _ _ => False
def pX2_oneNight : Nat → Nat := fun k => match k with
  | 0 => 0
  | 1 => 8
  | 2 => 22
  | _ => 0
theorem sX2_oneNight : jSound bX2_oneNight pX2_oneNight MX2_oneNight := by
  intro e p ev R s m args below meth c hX hr hn hlk K hK k
  match k with
  | 0 => exact (js_aload_n hX dX2_oneNight_0 rfl (js_callV hX MX2_keep (ci := 2) (n := 0) (RX2, TX2, 43) rfl rfl (lw_V q1721 q1723 qs107 q156 q1724) npX2_keep dX2_oneNight_1 (js_const hX (z := 0) (by unfold inI; omega) dX2_oneNight_4 (Or.inl ⟨0, rfl, rfl, rfl⟩) (js_istore_n hX dX2_oneNight_5 rfl (by decide) (js_const hX (z := 0) (by unfold inI; omega) dX2_oneNight_6 (Or.inl ⟨0, rfl, rfl, rfl⟩) (js_istore_n hX dX2_oneNight_7 rfl (by decide) (hK 1)))))))
  | 1 => exact (js_iload_n hX dX2_oneNight_8 rfl (js_const hX (z := 3) (by unfold inI; omega) dX2_oneNight_9 (Or.inl ⟨3, rfl, rfl, rfl⟩) (js_icmp_ge hX (tgt := 58) dX2_oneNight_10 rfl (js_aload_n hX dX2_oneNight_58 rfl (js_getfR hX (ci := 2) (k := 0) (RX2, TX2, 43) rfl (by decide) rfl (Or.inl q1346) (fun _ h => h) dX2_oneNight_59 (js_const hX (z := 1) (by unfold inI; omega) dX2_oneNight_62 (Or.inl ⟨1, rfl, rfl, rfl⟩) (js_dup2 hX dX2_oneNight_63 (js_iald hX dX2_oneNight_64 (js_const hX (z := 1) (by unfold inI; omega) dX2_oneNight_65 (Or.inl ⟨1, rfl, rfl, rfl⟩) (js_iadd hX dX2_oneNight_66 (js_iast hX dX2_oneNight_67 (js_aload_n hX dX2_oneNight_68 rfl (js_dup hX dX2_oneNight_69 (js_getfI hX (ci := 2) (k := 25) (RX2, TX2, 43) rfl (by decide) rfl (Or.inl q1369) (fun _ h => h) dX2_oneNight_70 (js_aload_n hX dX2_oneNight_73 rfl (js_callV hX MX2_fall (ci := 2) (n := 0) (RX2, TX2, 43) rfl rfl (lw_V q1749 q1751 qs114 q156 q1752) npX2_fall dX2_oneNight_74 (js_iadd hX dX2_oneNight_77 (js_putfI hX (ci := 2) (k := 25) (RX2, TX2, 43) rfl (by decide) rfl (Or.inl q1369) (fun _ h => h) (Or.inl rfl) dX2_oneNight_78 (js_iload_n hX dX2_oneNight_81 rfl (js_ireturn hX hr hlk dX2_oneNight_82)))))))))))))))))
    (js_aload_n hX dX2_oneNight_13 rfl (js_getfR hX (ci := 2) (k := 0) (RX2, TX2, 43) rfl (by decide) rfl (Or.inl q1346) (fun _ h => h) dX2_oneNight_14 (js_const hX (z := 1) (by unfold inI; omega) dX2_oneNight_17 (Or.inl ⟨1, rfl, rfl, rfl⟩) (js_iald hX dX2_oneNight_18 (js_const hX (z := 2) (by unfold inI; omega) dX2_oneNight_19 (Or.inl ⟨2, rfl, rfl, rfl⟩) (js_irem hX dX2_oneNight_20 (js_istore_n hX dX2_oneNight_21 rfl (by decide) (hK 2)))))))))))
  | 2 => exact (js_iload_n hX dX2_oneNight_22 rfl (js_const hX (z := 1) (by unfold inI; omega) dX2_oneNight_23 (Or.inl ⟨1, rfl, rfl, rfl⟩) (js_iadd hX dX2_oneNight_24 (js_aload_n hX dX2_oneNight_25 rfl (js_getfR hX (ci := 2) (k := 0) (RX2, TX2, 43) rfl (by decide) rfl (Or.inl q1346) (fun _ h => h) dX2_oneNight_26 (js_const hX (z := 13) (by unfold inI; omega) dX2_oneNight_29 (Or.inr (Or.inl ⟨13, rfl, rfl, rfl⟩)) (js_iload_n hX dX2_oneNight_31 rfl (js_iadd hX dX2_oneNight_32 (js_iald hX dX2_oneNight_33 (js_icmp_ge hX (tgt := 52) dX2_oneNight_34 rfl (js_iinc hX dX2_oneNight_52 (by decide) (js_goto hX (tgt := 8) dX2_oneNight_55 rfl (hK 1)))
    (js_iload_n hX dX2_oneNight_37 rfl (js_aload_n hX dX2_oneNight_38 rfl (js_iload_n hX dX2_oneNight_39 rfl (js_iload_n hX dX2_oneNight_40 rfl (js_callV hX MX2_changeAt (ci := 2) (n := 2) (RX2, TX2, 43) rfl rfl (lw_V q1725 q1727 qs108 q156 q1728) npX2_changeAt dX2_oneNight_41 (js_iadd hX dX2_oneNight_44 (js_istore_n hX dX2_oneNight_45 rfl (by decide) (js_iinc hX dX2_oneNight_46 (by decide) (js_goto hX (tgt := 22) dX2_oneNight_49 rfl (hK 2))))))))))))))))))))
  | k + 3 => intro ls st h nc ns hf; exact hf.elim
def bX2_keep : jjB := fun e K k => match k with
  | 0 => (ji_aload 0 (ji_getfR 2 0 (ji_const 7 (ji_iald (ji_const 30 (ji_icmp_ne (K 2)
    (ji_const 0 (ji_istore 1 (K 1)))))))))
  | 1 => (ji_iload 1 (ji_const 1392 (ji_icmp_ge (ji_aload 0 (ji_getfR 2 0 (ji_const 7 (ji_dup2 (ji_iald (ji_const 1 (ji_isub (ji_iast (K 2)))))))))
    (ji_aload 0 (ji_getfR 2 0 (ji_const 154 (ji_iload 1 (ji_iadd (ji_aload 0 (ji_getfR 2 0 (ji_const 202 (ji_iload 1 (ji_iadd (ji_iald (ji_iast (ji_iinc 1 1 (ji_goto (K 1))))))))))))))))))
  | 2 => (ji_const 154 (ji_const 48 (ji_aload 0 (ji_getfR 2 0 (ji_const 7 (ji_iald (ji_imul (ji_iadd (ji_istore 1 (ji_aload 0 (ji_getfR 2 0 (ji_iload 1 (ji_aload 0 (ji_getfR 2 0 (ji_const 0 (ji_iald (ji_iast (ji_aload 0 (ji_getfR 2 0 (ji_iload 1 (ji_const 1 (ji_iadd (ji_aload 0 (ji_getfR 2 0 (ji_const 1 (ji_iald (ji_iast (ji_aload 0 (ji_getfR 2 0 (ji_iload 1 (ji_const 2 (ji_iadd (ji_aload 0 (ji_getfR 2 0 (ji_const 2 (ji_iald (ji_iast (ji_aload 0 (ji_getfR 2 0 (ji_iload 1 (ji_const 3 (ji_iadd (ji_aload 0 (ji_getfR 2 0 (ji_const 4 (ji_iald (ji_iast (ji_aload 0 (ji_getfR 2 0 (ji_iload 1 (ji_const 4 (ji_iadd (ji_aload 0 (ji_getfR 2 0 (ji_const 9 (ji_iald (ji_iast (ji_const 0 (ji_istore 2 (K 3))))))))))))))))))))))))))))))))))))))))))))))))))))))))))))
  | 3 => (ji_iload 2 (ji_const 33 (ji_icmp_ge (ji_const 0 (ji_istore 2 (K 4)))
    (ji_aload 0 (ji_getfR 2 0 (ji_iload 1 (ji_const 5 (ji_iadd (ji_iload 2 (ji_iadd (ji_aload 0 (ji_getfR 2 0 (ji_const 13 (ji_iload 2 (ji_iadd (ji_iald (ji_iast (ji_iinc 2 1 (ji_goto (K 3))))))))))))))))))))
  | 4 => (ji_iload 2 (ji_const 10 (ji_icmp_ge (ji_aload 0 (ji_getfR 2 0 (ji_const 7 (ji_dup2 (ji_iald (ji_const 1 (ji_iadd (ji_iast (ji_return e)))))))))
    (ji_aload 0 (ji_getfR 2 0 (ji_iload 1 (ji_const 38 (ji_iadd (ji_iload 2 (ji_iadd (ji_aload 0 (ji_iload 2 (ji_const 5 (ji_callV e MX2_get 2 3 (ji_iast (ji_iinc 2 1 (ji_goto (K 4))))))))))))))))))
  | _ => fun _ _ _ _ _ => False
def pX2_keep : Nat → Nat := fun k => match k with
  | 0 => 0
  | 1 => 14
  | 2 => 58
  | 3 => 144
  | 4 => 177
  | _ => 0
theorem sX2_keep : jSound bX2_keep pX2_keep MX2_keep := by
  intro e p ev R s m args below meth c hX hr hn hlk K hK k
  match k with
  | 0 => exact (js_aload_n hX dX2_keep_0 rfl (js_getfR hX (ci := 2) (k := 0) (RX2, TX2, 43) rfl (by decide) rfl (Or.inl q1346) (fun _ h => h) dX2_keep_1 (js_const hX (z := 7) (by unfold inI; omega) dX2_keep_4 (Or.inr (Or.inl ⟨7, rfl, rfl, rfl⟩)) (js_iald hX dX2_keep_6 (js_const hX (z := 30) (by unfold inI; omega) dX2_keep_7 (Or.inr (Or.inl ⟨30, rfl, rfl, rfl⟩)) (js_icmp_ne hX (tgt := 58) dX2_keep_9 rfl (hK 2)
    (js_const hX (z := 0) (by unfold inI; omega) dX2_keep_12 (Or.inl ⟨0, rfl, rfl, rfl⟩) (js_istore_n hX dX2_keep_13 rfl (by decide) (hK 1)))))))))
  | 1 => exact (js_iload_n hX dX2_keep_14 rfl (js_const hX (z := 1392) (by unfold inI; omega) dX2_keep_15 (Or.inr (Or.inr (Or.inl ⟨1392, rfl, rfl, rfl⟩))) (js_icmp_ge hX (tgt := 47) dX2_keep_18 rfl (js_aload_n hX dX2_keep_47 rfl (js_getfR hX (ci := 2) (k := 0) (RX2, TX2, 43) rfl (by decide) rfl (Or.inl q1346) (fun _ h => h) dX2_keep_48 (js_const hX (z := 7) (by unfold inI; omega) dX2_keep_51 (Or.inr (Or.inl ⟨7, rfl, rfl, rfl⟩)) (js_dup2 hX dX2_keep_53 (js_iald hX dX2_keep_54 (js_const hX (z := 1) (by unfold inI; omega) dX2_keep_55 (Or.inl ⟨1, rfl, rfl, rfl⟩) (js_isub hX dX2_keep_56 (js_iast hX dX2_keep_57 (hK 2)))))))))
    (js_aload_n hX dX2_keep_21 rfl (js_getfR hX (ci := 2) (k := 0) (RX2, TX2, 43) rfl (by decide) rfl (Or.inl q1346) (fun _ h => h) dX2_keep_22 (js_const hX (z := 154) (by unfold inI; omega) dX2_keep_25 (Or.inr (Or.inr (Or.inl ⟨154, rfl, rfl, rfl⟩))) (js_iload_n hX dX2_keep_28 rfl (js_iadd hX dX2_keep_29 (js_aload_n hX dX2_keep_30 rfl (js_getfR hX (ci := 2) (k := 0) (RX2, TX2, 43) rfl (by decide) rfl (Or.inl q1346) (fun _ h => h) dX2_keep_31 (js_const hX (z := 202) (by unfold inI; omega) dX2_keep_34 (Or.inr (Or.inr (Or.inl ⟨202, rfl, rfl, rfl⟩))) (js_iload_n hX dX2_keep_37 rfl (js_iadd hX dX2_keep_38 (js_iald hX dX2_keep_39 (js_iast hX dX2_keep_40 (js_iinc hX dX2_keep_41 (by decide) (js_goto hX (tgt := 14) dX2_keep_44 rfl (hK 1))))))))))))))))))
  | 2 => exact (js_const hX (z := 154) (by unfold inI; omega) dX2_keep_58 (Or.inr (Or.inr (Or.inl ⟨154, rfl, rfl, rfl⟩))) (js_const hX (z := 48) (by unfold inI; omega) dX2_keep_61 (Or.inr (Or.inl ⟨48, rfl, rfl, rfl⟩)) (js_aload_n hX dX2_keep_63 rfl (js_getfR hX (ci := 2) (k := 0) (RX2, TX2, 43) rfl (by decide) rfl (Or.inl q1346) (fun _ h => h) dX2_keep_64 (js_const hX (z := 7) (by unfold inI; omega) dX2_keep_67 (Or.inr (Or.inl ⟨7, rfl, rfl, rfl⟩)) (js_iald hX dX2_keep_69 (js_imul hX dX2_keep_70 (js_iadd hX dX2_keep_71 (js_istore_n hX dX2_keep_72 rfl (by decide) (js_aload_n hX dX2_keep_73 rfl (js_getfR hX (ci := 2) (k := 0) (RX2, TX2, 43) rfl (by decide) rfl (Or.inl q1346) (fun _ h => h) dX2_keep_74 (js_iload_n hX dX2_keep_77 rfl (js_aload_n hX dX2_keep_78 rfl (js_getfR hX (ci := 2) (k := 0) (RX2, TX2, 43) rfl (by decide) rfl (Or.inl q1346) (fun _ h => h) dX2_keep_79 (js_const hX (z := 0) (by unfold inI; omega) dX2_keep_82 (Or.inl ⟨0, rfl, rfl, rfl⟩) (js_iald hX dX2_keep_83 (js_iast hX dX2_keep_84 (js_aload_n hX dX2_keep_85 rfl (js_getfR hX (ci := 2) (k := 0) (RX2, TX2, 43) rfl (by decide) rfl (Or.inl q1346) (fun _ h => h) dX2_keep_86 (js_iload_n hX dX2_keep_89 rfl (js_const hX (z := 1) (by unfold inI; omega) dX2_keep_90 (Or.inl ⟨1, rfl, rfl, rfl⟩) (js_iadd hX dX2_keep_91 (js_aload_n hX dX2_keep_92 rfl (js_getfR hX (ci := 2) (k := 0) (RX2, TX2, 43) rfl (by decide) rfl (Or.inl q1346) (fun _ h => h) dX2_keep_93 (js_const hX (z := 1) (by unfold inI; omega) dX2_keep_96 (Or.inl ⟨1, rfl, rfl, rfl⟩) (js_iald hX dX2_keep_97 (js_iast hX dX2_keep_98 (js_aload_n hX dX2_keep_99 rfl (js_getfR hX (ci := 2) (k := 0) (RX2, TX2, 43) rfl (by decide) rfl (Or.inl q1346) (fun _ h => h) dX2_keep_100 (js_iload_n hX dX2_keep_103 rfl (js_const hX (z := 2) (by unfold inI; omega) dX2_keep_104 (Or.inl ⟨2, rfl, rfl, rfl⟩) (js_iadd hX dX2_keep_105 (js_aload_n hX dX2_keep_106 rfl (js_getfR hX (ci := 2) (k := 0) (RX2, TX2, 43) rfl (by decide) rfl (Or.inl q1346) (fun _ h => h) dX2_keep_107 (js_const hX (z := 2) (by unfold inI; omega) dX2_keep_110 (Or.inl ⟨2, rfl, rfl, rfl⟩) (js_iald hX dX2_keep_111 (js_iast hX dX2_keep_112 (js_aload_n hX dX2_keep_113 rfl (js_getfR hX (ci := 2) (k := 0) (RX2, TX2, 43) rfl (by decide) rfl (Or.inl q1346) (fun _ h => h) dX2_keep_114 (js_iload_n hX dX2_keep_117 rfl (js_const hX (z := 3) (by unfold inI; omega) dX2_keep_118 (Or.inl ⟨3, rfl, rfl, rfl⟩) (js_iadd hX dX2_keep_119 (js_aload_n hX dX2_keep_120 rfl (js_getfR hX (ci := 2) (k := 0) (RX2, TX2, 43) rfl (by decide) rfl (Or.inl q1346) (fun _ h => h) dX2_keep_121 (js_const hX (z := 4) (by unfold inI; omega) dX2_keep_124 (Or.inl ⟨4, rfl, rfl, rfl⟩) (js_iald hX dX2_keep_125 (js_iast hX dX2_keep_126 (js_aload_n hX dX2_keep_127 rfl (js_getfR hX (ci := 2) (k := 0) (RX2, TX2, 43) rfl (by decide) rfl (Or.inl q1346) (fun _ h => h) dX2_keep_128 (js_iload_n hX dX2_keep_131 rfl (js_const hX (z := 4) (by unfold inI; omega) dX2_keep_132 (Or.inl ⟨4, rfl, rfl, rfl⟩) (js_iadd hX dX2_keep_133 (js_aload_n hX dX2_keep_134 rfl (js_getfR hX (ci := 2) (k := 0) (RX2, TX2, 43) rfl (by decide) rfl (Or.inl q1346) (fun _ h => h) dX2_keep_135 (js_const hX (z := 9) (by unfold inI; omega) dX2_keep_138 (Or.inr (Or.inl ⟨9, rfl, rfl, rfl⟩)) (js_iald hX dX2_keep_140 (js_iast hX dX2_keep_141 (js_const hX (z := 0) (by unfold inI; omega) dX2_keep_142 (Or.inl ⟨0, rfl, rfl, rfl⟩) (js_istore_n hX dX2_keep_143 rfl (by decide) (hK 3))))))))))))))))))))))))))))))))))))))))))))))))))))))))))))
  | 3 => exact (js_iload_n hX dX2_keep_144 rfl (js_const hX (z := 33) (by unfold inI; omega) dX2_keep_145 (Or.inr (Or.inl ⟨33, rfl, rfl, rfl⟩)) (js_icmp_ge hX (tgt := 175) dX2_keep_147 rfl (js_const hX (z := 0) (by unfold inI; omega) dX2_keep_175 (Or.inl ⟨0, rfl, rfl, rfl⟩) (js_istore_n hX dX2_keep_176 rfl (by decide) (hK 4)))
    (js_aload_n hX dX2_keep_150 rfl (js_getfR hX (ci := 2) (k := 0) (RX2, TX2, 43) rfl (by decide) rfl (Or.inl q1346) (fun _ h => h) dX2_keep_151 (js_iload_n hX dX2_keep_154 rfl (js_const hX (z := 5) (by unfold inI; omega) dX2_keep_155 (Or.inl ⟨5, rfl, rfl, rfl⟩) (js_iadd hX dX2_keep_156 (js_iload_n hX dX2_keep_157 rfl (js_iadd hX dX2_keep_158 (js_aload_n hX dX2_keep_159 rfl (js_getfR hX (ci := 2) (k := 0) (RX2, TX2, 43) rfl (by decide) rfl (Or.inl q1346) (fun _ h => h) dX2_keep_160 (js_const hX (z := 13) (by unfold inI; omega) dX2_keep_163 (Or.inr (Or.inl ⟨13, rfl, rfl, rfl⟩)) (js_iload_n hX dX2_keep_165 rfl (js_iadd hX dX2_keep_166 (js_iald hX dX2_keep_167 (js_iast hX dX2_keep_168 (js_iinc hX dX2_keep_169 (by decide) (js_goto hX (tgt := 144) dX2_keep_172 rfl (hK 3))))))))))))))))))))
  | 4 => exact (js_iload_n hX dX2_keep_177 rfl (js_const hX (z := 10) (by unfold inI; omega) dX2_keep_178 (Or.inr (Or.inl ⟨10, rfl, rfl, rfl⟩)) (js_icmp_ge hX (tgt := 206) dX2_keep_180 rfl (js_aload_n hX dX2_keep_206 rfl (js_getfR hX (ci := 2) (k := 0) (RX2, TX2, 43) rfl (by decide) rfl (Or.inl q1346) (fun _ h => h) dX2_keep_207 (js_const hX (z := 7) (by unfold inI; omega) dX2_keep_210 (Or.inr (Or.inl ⟨7, rfl, rfl, rfl⟩)) (js_dup2 hX dX2_keep_212 (js_iald hX dX2_keep_213 (js_const hX (z := 1) (by unfold inI; omega) dX2_keep_214 (Or.inl ⟨1, rfl, rfl, rfl⟩) (js_iadd hX dX2_keep_215 (js_iast hX dX2_keep_216 (js_return hX hr hlk dX2_keep_217)))))))))
    (js_aload_n hX dX2_keep_183 rfl (js_getfR hX (ci := 2) (k := 0) (RX2, TX2, 43) rfl (by decide) rfl (Or.inl q1346) (fun _ h => h) dX2_keep_184 (js_iload_n hX dX2_keep_187 rfl (js_const hX (z := 38) (by unfold inI; omega) dX2_keep_188 (Or.inr (Or.inl ⟨38, rfl, rfl, rfl⟩)) (js_iadd hX dX2_keep_190 (js_iload_n hX dX2_keep_191 rfl (js_iadd hX dX2_keep_192 (js_aload_n hX dX2_keep_193 rfl (js_iload_n hX dX2_keep_194 rfl (js_const hX (z := 5) (by unfold inI; omega) dX2_keep_195 (Or.inl ⟨5, rfl, rfl, rfl⟩) (js_callV hX MX2_get (ci := 2) (n := 2) (RX2, TX2, 43) rfl rfl (lw_V q1658 q1660 qs98 q156 q1661) npX2_get dX2_keep_196 (js_iast hX dX2_keep_199 (js_iinc hX dX2_keep_200 (by decide) (js_goto hX (tgt := 177) dX2_keep_203 rfl (hK 4))))))))))))))))))
  | k + 5 => intro ls st h nc ns hf; exact hf.elim
def bX2_changeAt : jjB := fun e K k => match k with
  | 0 => (ji_aload 0 (ji_iload 1 (ji_iload 2 (ji_callV e MX2_bookAt 2 3 (ji_istore 3 (ji_aload 0 (ji_iload 1 (ji_iload 2 (ji_const 1 (ji_iadd (ji_callV e MX2_bookAt 2 3 (ji_istore 4 (ji_aload 0 (ji_iload 3 (ji_iload 4 (ji_callV e MX2_doChange 2 3 (ji_if_ne (ji_aload 0 (ji_iload 3 (ji_iload 4 (ji_const 1 (ji_callV e MX2_doesPush 2 4 (ji_if_eq (K 1)
    (ji_aload 0 (ji_iload 3 (ji_iload 4 (ji_iload 1 (ji_callV e MX2_write 2 4 (K 1))))))))))))
    (ji_const 0 (ji_ireturn e)))))))))))))))))))
  | 1 => (ji_aload 0 (ji_iload 4 (ji_iload 3 (ji_const 0 (ji_callV e MX2_doesPush 2 4 (ji_if_eq (K 2)
    (ji_aload 0 (ji_iload 4 (ji_iload 3 (ji_iload 1 (ji_callV e MX2_write 2 4 (K 2))))))))))))
  | 2 => (ji_aload 0 (ji_iload 1 (ji_iload 2 (ji_callV e MX2_exchange 2 3 (ji_const 1 (ji_ireturn e))))))
  | _ => fun _ _ _ _ _ => False
def pX2_changeAt : Nat → Nat := fun k => match k with
  | 0 => 0
  | 1 => 48
  | 2 => 67
  | _ => 0
theorem sX2_changeAt : jSound bX2_changeAt pX2_changeAt MX2_changeAt := by
  intro e p ev R s m args below meth c hX hr hn hlk K hK k
  match k with
  | 0 => exact (js_aload_n hX dX2_changeAt_0 rfl (js_iload_n hX dX2_changeAt_1 rfl (js_iload_n hX dX2_changeAt_2 rfl (js_callV hX MX2_bookAt (ci := 2) (n := 2) (RX2, TX2, 43) rfl rfl (lw_V q1700 q1702 qs104 q156 q1703) npX2_bookAt dX2_changeAt_3 (js_istore_n hX dX2_changeAt_6 rfl (by decide) (js_aload_n hX dX2_changeAt_7 rfl (js_iload_n hX dX2_changeAt_8 rfl (js_iload_n hX dX2_changeAt_9 rfl (js_const hX (z := 1) (by unfold inI; omega) dX2_changeAt_10 (Or.inl ⟨1, rfl, rfl, rfl⟩) (js_iadd hX dX2_changeAt_11 (js_callV hX MX2_bookAt (ci := 2) (n := 2) (RX2, TX2, 43) rfl rfl (lw_V q1700 q1702 qs104 q156 q1703) npX2_bookAt dX2_changeAt_12 (js_istore hX dX2_changeAt_15 (by decide) (js_aload_n hX dX2_changeAt_17 rfl (js_iload_n hX dX2_changeAt_18 rfl (js_iload hX dX2_changeAt_19 (js_callV hX MX2_doChange (ci := 2) (n := 2) (RX2, TX2, 43) rfl rfl (lw_V q1729 q1731 qs109 q156 q1732) npX2_doChange dX2_changeAt_21 (js_if_ne hX (tgt := 29) dX2_changeAt_24 rfl (js_aload_n hX dX2_changeAt_29 rfl (js_iload_n hX dX2_changeAt_30 rfl (js_iload hX dX2_changeAt_31 (js_const hX (z := 1) (by unfold inI; omega) dX2_changeAt_33 (Or.inl ⟨1, rfl, rfl, rfl⟩) (js_callV hX MX2_doesPush (ci := 2) (n := 3) (RX2, TX2, 43) rfl rfl (lw_V q1654 q1656 qs97 q156 q1657) npX2_doesPush dX2_changeAt_34 (js_if_eq hX (tgt := 48) dX2_changeAt_37 rfl (hK 1)
    (js_aload_n hX dX2_changeAt_40 rfl (js_iload_n hX dX2_changeAt_41 rfl (js_iload hX dX2_changeAt_42 (js_iload_n hX dX2_changeAt_44 rfl (js_callV hX MX2_write (ci := 2) (n := 3) (RX2, TX2, 43) rfl rfl (lw_V q1737 q1739 qs111 q156 q1740) npX2_write dX2_changeAt_45 (hK 1))))))))))))
    (js_const hX (z := 0) (by unfold inI; omega) dX2_changeAt_27 (Or.inl ⟨0, rfl, rfl, rfl⟩) (js_ireturn hX hr hlk dX2_changeAt_28)))))))))))))))))))
  | 1 => exact (js_aload_n hX dX2_changeAt_48 rfl (js_iload hX dX2_changeAt_49 (js_iload_n hX dX2_changeAt_51 rfl (js_const hX (z := 0) (by unfold inI; omega) dX2_changeAt_52 (Or.inl ⟨0, rfl, rfl, rfl⟩) (js_callV hX MX2_doesPush (ci := 2) (n := 3) (RX2, TX2, 43) rfl rfl (lw_V q1654 q1656 qs97 q156 q1657) npX2_doesPush dX2_changeAt_53 (js_if_eq hX (tgt := 67) dX2_changeAt_56 rfl (hK 2)
    (js_aload_n hX dX2_changeAt_59 rfl (js_iload hX dX2_changeAt_60 (js_iload_n hX dX2_changeAt_62 rfl (js_iload_n hX dX2_changeAt_63 rfl (js_callV hX MX2_write (ci := 2) (n := 3) (RX2, TX2, 43) rfl rfl (lw_V q1737 q1739 qs111 q156 q1740) npX2_write dX2_changeAt_64 (hK 2))))))))))))
  | 2 => exact (js_aload_n hX dX2_changeAt_67 rfl (js_iload_n hX dX2_changeAt_68 rfl (js_iload_n hX dX2_changeAt_69 rfl (js_callV hX MX2_exchange (ci := 2) (n := 2) (RX2, TX2, 43) rfl rfl (lw_V q1741 q1743 qs112 q156 q1744) npX2_exchange dX2_changeAt_70 (js_const hX (z := 1) (by unfold inI; omega) dX2_changeAt_73 (Or.inl ⟨1, rfl, rfl, rfl⟩) (js_ireturn hX hr hlk dX2_changeAt_74))))))
  | k + 3 => intro ls st h nc ns hf; exact hf.elim
def bX2_doChange : jjB := fun e K k => match k with
  | 0 => (ji_aload 0 (ji_iload 1 (ji_iload 2 (ji_const 1 (ji_callV e MX2_doesPush 2 4 (ji_if_eq (ji_const 0 (K 1))
    (ji_const 1 (ji_goto (K 1)))))))))
  | 1 => (ji_aload 0 (ji_iload 2 (ji_iload 1 (ji_const 0 (ji_callV e MX2_doesPush 2 4 (ji_if_eq (ji_const 0 (K 2))
    (ji_const 1 (ji_goto (K 2)))))))))
  | 2 => (ji_iadd (ji_istore 3 (ji_iload 3 (ji_aload 0 (ji_callV e MX2_needNow 2 1 (ji_icmp_lt (ji_const 0 (K 3))
    (ji_const 1 (ji_goto (K 3)))))))))
  | 3 => (ji_zreturn e)
  | _ => fun _ _ _ _ _ => False
def pX2_doChange : Nat → Nat := fun k => match k with
  | 0 => 0
  | 1 => 15
  | 2 => 30
  | 3 => 45
  | _ => 0
theorem sX2_doChange : jSound bX2_doChange pX2_doChange MX2_doChange := by
  intro e p ev R s m args below meth c hX hr hn hlk K hK k
  match k with
  | 0 => exact (js_aload_n hX dX2_doChange_0 rfl (js_iload_n hX dX2_doChange_1 rfl (js_iload_n hX dX2_doChange_2 rfl (js_const hX (z := 1) (by unfold inI; omega) dX2_doChange_3 (Or.inl ⟨1, rfl, rfl, rfl⟩) (js_callV hX MX2_doesPush (ci := 2) (n := 3) (RX2, TX2, 43) rfl rfl (lw_V q1654 q1656 qs97 q156 q1657) npX2_doesPush dX2_doChange_4 (js_if_eq hX (tgt := 14) dX2_doChange_7 rfl (js_const hX (z := 0) (by unfold inI; omega) dX2_doChange_14 (Or.inl ⟨0, rfl, rfl, rfl⟩) (hK 1))
    (js_const hX (z := 1) (by unfold inI; omega) dX2_doChange_10 (Or.inl ⟨1, rfl, rfl, rfl⟩) (js_goto hX (tgt := 15) dX2_doChange_11 rfl (hK 1)))))))))
  | 1 => exact (js_aload_n hX dX2_doChange_15 rfl (js_iload_n hX dX2_doChange_16 rfl (js_iload_n hX dX2_doChange_17 rfl (js_const hX (z := 0) (by unfold inI; omega) dX2_doChange_18 (Or.inl ⟨0, rfl, rfl, rfl⟩) (js_callV hX MX2_doesPush (ci := 2) (n := 3) (RX2, TX2, 43) rfl rfl (lw_V q1654 q1656 qs97 q156 q1657) npX2_doesPush dX2_doChange_19 (js_if_eq hX (tgt := 29) dX2_doChange_22 rfl (js_const hX (z := 0) (by unfold inI; omega) dX2_doChange_29 (Or.inl ⟨0, rfl, rfl, rfl⟩) (hK 2))
    (js_const hX (z := 1) (by unfold inI; omega) dX2_doChange_25 (Or.inl ⟨1, rfl, rfl, rfl⟩) (js_goto hX (tgt := 30) dX2_doChange_26 rfl (hK 2)))))))))
  | 2 => exact (js_iadd hX dX2_doChange_30 (js_istore_n hX dX2_doChange_31 rfl (by decide) (js_iload_n hX dX2_doChange_32 rfl (js_aload_n hX dX2_doChange_33 rfl (js_callV hX MX2_needNow (ci := 2) (n := 0) (RX2, TX2, 43) rfl rfl (lw_V q1733 q1735 qs110 q156 q1736) npX2_needNow dX2_doChange_34 (js_icmp_lt hX (tgt := 44) dX2_doChange_37 rfl (js_const hX (z := 0) (by unfold inI; omega) dX2_doChange_44 (Or.inl ⟨0, rfl, rfl, rfl⟩) (hK 3))
    (js_const hX (z := 1) (by unfold inI; omega) dX2_doChange_40 (Or.inl ⟨1, rfl, rfl, rfl⟩) (js_goto hX (tgt := 45) dX2_doChange_41 rfl (hK 3)))))))))
  | 3 => exact (js_zreturn hX hr hlk dX2_doChange_45)
  | k + 4 => intro ls st h nc ns hf; exact hf.elim
def bX2_needNow : jjB := fun e K k => match k with
  | 0 => (ji_aload 0 (ji_const 3 (ji_const 0 (ji_callV e MX2_clauseOf 2 3 (ji_istore 1 (ji_iload 1 (ji_if_ge (ji_aload 0 (ji_getfR 2 2 (ji_const 705 (ji_aload 0 (ji_getfR 2 0 (ji_const 6 (ji_iald (ji_imul (ji_const 2 (ji_iadd (ji_const 4 (ji_iload 1 (ji_imul (ji_iadd (ji_iald (K 1))))))))))))))))
    (ji_aload 0 (ji_getfR 2 0 (ji_const 3 (ji_iald (ji_goto (K 1)))))))))))))
  | 1 => (ji_ireturn e)
  | _ => fun _ _ _ _ _ => False
def pX2_needNow : Nat → Nat := fun k => match k with
  | 0 => 0
  | 1 => 42
  | _ => 0
theorem sX2_needNow : jSound bX2_needNow pX2_needNow MX2_needNow := by
  intro e p ev R s m args below meth c hX hr hn hlk K hK k
  match k with
  | 0 => exact (js_aload_n hX dX2_needNow_0 rfl (js_const hX (z := 3) (by unfold inI; omega) dX2_needNow_1 (Or.inl ⟨3, rfl, rfl, rfl⟩) (js_const hX (z := 0) (by unfold inI; omega) dX2_needNow_2 (Or.inl ⟨0, rfl, rfl, rfl⟩) (js_callV hX MX2_clauseOf (ci := 2) (n := 2) (RX2, TX2, 43) rfl rfl (lw_V q1666 q1668 qs100 q156 q1669) npX2_clauseOf dX2_needNow_3 (js_istore_n hX dX2_needNow_6 rfl (by decide) (js_iload_n hX dX2_needNow_7 rfl (js_if_ge hX (tgt := 20) dX2_needNow_8 rfl (js_aload_n hX dX2_needNow_20 rfl (js_getfR hX (ci := 2) (k := 2) (RX2, TX2, 43) rfl (by decide) rfl (Or.inl q1348) (fun _ h => h) dX2_needNow_21 (js_const hX (z := 705) (by unfold inI; omega) dX2_needNow_24 (Or.inr (Or.inr (Or.inl ⟨705, rfl, rfl, rfl⟩))) (js_aload_n hX dX2_needNow_27 rfl (js_getfR hX (ci := 2) (k := 0) (RX2, TX2, 43) rfl (by decide) rfl (Or.inl q1346) (fun _ h => h) dX2_needNow_28 (js_const hX (z := 6) (by unfold inI; omega) dX2_needNow_31 (Or.inr (Or.inl ⟨6, rfl, rfl, rfl⟩)) (js_iald hX dX2_needNow_33 (js_imul hX dX2_needNow_34 (js_const hX (z := 2) (by unfold inI; omega) dX2_needNow_35 (Or.inl ⟨2, rfl, rfl, rfl⟩) (js_iadd hX dX2_needNow_36 (js_const hX (z := 4) (by unfold inI; omega) dX2_needNow_37 (Or.inl ⟨4, rfl, rfl, rfl⟩) (js_iload_n hX dX2_needNow_38 rfl (js_imul hX dX2_needNow_39 (js_iadd hX dX2_needNow_40 (js_iald hX dX2_needNow_41 (hK 1))))))))))))))))
    (js_aload_n hX dX2_needNow_11 rfl (js_getfR hX (ci := 2) (k := 0) (RX2, TX2, 43) rfl (by decide) rfl (Or.inl q1346) (fun _ h => h) dX2_needNow_12 (js_const hX (z := 3) (by unfold inI; omega) dX2_needNow_15 (Or.inl ⟨3, rfl, rfl, rfl⟩) (js_iald hX dX2_needNow_16 (js_goto hX (tgt := 42) dX2_needNow_17 rfl (hK 1)))))))))))))
  | 1 => exact (js_ireturn hX hr hlk dX2_needNow_42)
  | k + 2 => intro ls st h nc ns hf; exact hf.elim
def bX2_write : jjB := fun e K k => match k with
  | 0 => (ji_const 1594 (ji_const 4 (ji_aload 0 (ji_getfR 2 0 (ji_const 9 (ji_iald (ji_const 512 (ji_irem (ji_imul (ji_iadd (ji_istore 4 (ji_aload 0 (ji_getfR 2 0 (ji_iload 4 (ji_iload 1 (ji_iast (ji_aload 0 (ji_getfR 2 0 (ji_iload 4 (ji_const 1 (ji_iadd (ji_iload 2 (ji_iast (ji_aload 0 (ji_getfR 2 0 (ji_iload 4 (ji_const 2 (ji_iadd (ji_iload 3 (ji_iast (ji_aload 0 (ji_getfR 2 0 (ji_iload 4 (ji_const 3 (ji_iadd (ji_aload 0 (ji_getfR 2 0 (ji_const 1 (ji_iald (ji_iast (ji_aload 0 (ji_getfR 2 0 (ji_const 9 (ji_dup2 (ji_iald (ji_const 1 (ji_iadd (ji_iast (ji_return e)))))))))))))))))))))))))))))))))))))))))))))))))
  | _ => fun _ _ _ _ _ => False
def pX2_write : Nat → Nat := fun k => match k with
  | 0 => 0
  | _ => 0
theorem sX2_write : jSound bX2_write pX2_write MX2_write := by
  intro e p ev R s m args below meth c hX hr hn hlk K hK k
  match k with
  | 0 => exact (js_const hX (z := 1594) (by unfold inI; omega) dX2_write_0 (Or.inr (Or.inr (Or.inl ⟨1594, rfl, rfl, rfl⟩))) (js_const hX (z := 4) (by unfold inI; omega) dX2_write_3 (Or.inl ⟨4, rfl, rfl, rfl⟩) (js_aload_n hX dX2_write_4 rfl (js_getfR hX (ci := 2) (k := 0) (RX2, TX2, 43) rfl (by decide) rfl (Or.inl q1346) (fun _ h => h) dX2_write_5 (js_const hX (z := 9) (by unfold inI; omega) dX2_write_8 (Or.inr (Or.inl ⟨9, rfl, rfl, rfl⟩)) (js_iald hX dX2_write_10 (js_const hX (z := 512) (by unfold inI; omega) dX2_write_11 (Or.inr (Or.inr (Or.inl ⟨512, rfl, rfl, rfl⟩))) (js_irem hX dX2_write_14 (js_imul hX dX2_write_15 (js_iadd hX dX2_write_16 (js_istore hX dX2_write_17 (by decide) (js_aload_n hX dX2_write_19 rfl (js_getfR hX (ci := 2) (k := 0) (RX2, TX2, 43) rfl (by decide) rfl (Or.inl q1346) (fun _ h => h) dX2_write_20 (js_iload hX dX2_write_23 (js_iload_n hX dX2_write_25 rfl (js_iast hX dX2_write_26 (js_aload_n hX dX2_write_27 rfl (js_getfR hX (ci := 2) (k := 0) (RX2, TX2, 43) rfl (by decide) rfl (Or.inl q1346) (fun _ h => h) dX2_write_28 (js_iload hX dX2_write_31 (js_const hX (z := 1) (by unfold inI; omega) dX2_write_33 (Or.inl ⟨1, rfl, rfl, rfl⟩) (js_iadd hX dX2_write_34 (js_iload_n hX dX2_write_35 rfl (js_iast hX dX2_write_36 (js_aload_n hX dX2_write_37 rfl (js_getfR hX (ci := 2) (k := 0) (RX2, TX2, 43) rfl (by decide) rfl (Or.inl q1346) (fun _ h => h) dX2_write_38 (js_iload hX dX2_write_41 (js_const hX (z := 2) (by unfold inI; omega) dX2_write_43 (Or.inl ⟨2, rfl, rfl, rfl⟩) (js_iadd hX dX2_write_44 (js_iload_n hX dX2_write_45 rfl (js_iast hX dX2_write_46 (js_aload_n hX dX2_write_47 rfl (js_getfR hX (ci := 2) (k := 0) (RX2, TX2, 43) rfl (by decide) rfl (Or.inl q1346) (fun _ h => h) dX2_write_48 (js_iload hX dX2_write_51 (js_const hX (z := 3) (by unfold inI; omega) dX2_write_53 (Or.inl ⟨3, rfl, rfl, rfl⟩) (js_iadd hX dX2_write_54 (js_aload_n hX dX2_write_55 rfl (js_getfR hX (ci := 2) (k := 0) (RX2, TX2, 43) rfl (by decide) rfl (Or.inl q1346) (fun _ h => h) dX2_write_56 (js_const hX (z := 1) (by unfold inI; omega) dX2_write_59 (Or.inl ⟨1, rfl, rfl, rfl⟩) (js_iald hX dX2_write_60 (js_iast hX dX2_write_61 (js_aload_n hX dX2_write_62 rfl (js_getfR hX (ci := 2) (k := 0) (RX2, TX2, 43) rfl (by decide) rfl (Or.inl q1346) (fun _ h => h) dX2_write_63 (js_const hX (z := 9) (by unfold inI; omega) dX2_write_66 (Or.inr (Or.inl ⟨9, rfl, rfl, rfl⟩)) (js_dup2 hX dX2_write_68 (js_iald hX dX2_write_69 (js_const hX (z := 1) (by unfold inI; omega) dX2_write_70 (Or.inl ⟨1, rfl, rfl, rfl⟩) (js_iadd hX dX2_write_71 (js_iast hX dX2_write_72 (js_return hX hr hlk dX2_write_73)))))))))))))))))))))))))))))))))))))))))))))))))
  | k + 1 => intro ls st h nc ns hf; exact hf.elim
