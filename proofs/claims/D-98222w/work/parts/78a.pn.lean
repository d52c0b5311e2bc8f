/-! ===== pushesNow: its array is one of rows ===== -/
set_option maxRecDepth 100000
def bX0_pushesNow5 : jjB := fun e K k => match k with
  | 0 => (ji_aload 0 (ji_aload 0 (ji_getfR 0 0 (ji_getfR 1 3 (ji_iload 1 (ji_aald (-5) (ji_const 4 (ji_iald (ji_iload 1 (ji_iload 2 (ji_iload 3 (ji_callV e MX0_pushesBy 0 5 (ji_zreturn e)))))))))))))
  | _ => fun _ _ _ _ _ => False
def pX0_pushesNow5 : Nat → Nat := fun k => match k with
  | 0 => 0
  | _ => 0
theorem sX0_pushesNow5 : jSound bX0_pushesNow5 pX0_pushesNow5 MX0_pushesNow := by
  intro e p ev R s m args below meth c hX hr hn hlk K hK k
  match k with
  | 0 => exact (js_aload_n hX dX0_pushesNow_0 rfl (js_aload_n hX dX0_pushesNow_1 rfl (js_getfR hX (ci := 0) (k := 0) (RX0, TX0, 20) rfl (by decide) rfl (Or.inl q255) (fun _ h => h) dX0_pushesNow_2 (js_getfR hX (ci := 1) (k := 3) (RX1, TX1, 7) rfl (by decide) rfl (Or.inr ⟨_, q218⟩) (fun _ h => h) dX0_pushesNow_5 (js_iload_n hX dX0_pushesNow_8 rfl (js_aald hX (cd := (-5)) (by decide) rfl rfl dX0_pushesNow_9 (js_const hX (z := 4) (by unfold inI; omega) dX0_pushesNow_10 (Or.inl ⟨4, rfl, rfl, rfl⟩) (js_iald hX dX0_pushesNow_11 (js_iload_n hX dX0_pushesNow_12 rfl (js_iload_n hX dX0_pushesNow_13 rfl (js_iload_n hX dX0_pushesNow_14 rfl (js_callV hX MX0_pushesBy (ci := 0) (n := 4) (RX0, TX0, 20) rfl rfl (lw_V q967 q969 qs29 q152 q970) npX0_pushesBy dX0_pushesNow_15 (js_zreturn hX hr hlk dX0_pushesNow_18)))))))))))))
  | k + 1 => intro ls st h nc ns hf; exact hf.elim
