/-! ===== instructions without calls ===== -/
set_option maxRecDepth 100000
def jend (e : jjE) (r : jjR) (h : jjH) (nc ns : Nat) : Prop := nc ≤ e.2.2.1 ∧ ns ≤ e.2.2.2.1 ∧ e.2.2.2.2 r h
/-- a thing thrown: what the method does with it when it doesn't catch it -/
def jOut (e : jjE) (p : Program) (ev : Env) (R : Room) (s : State) (m : MethodId) (args : Array Value) (below : List Frame) (meth : Method) (c : Code) (Qm : State → Prop) : Prop :=
  ∀ (pc : Nat) (lsM : Array Slot) (st : List Value) (H : Heap) (locs : List Loc) (nc ns : Nat) (a : Int) (h : jjH), jend e (.inr a) h nc ns → jok h.2 a 5 → 400 ≤ a → jHR e.1 s h H → (∀ z ∈ locs, e.1.2.2.2.1 ≤ z.base) → vx_W p e.1.1 ev R s m args below meth c H locs nc ns Qm (F0 m pc lsM st) (jadr e.1 a)
/-- what a frame of a method knows of the machine -/
def jX (e : jjE) (p : Program) (ev : Env) (R : Room) (s : State) (m : MethodId) (args : Array Value) (below : List Frame) (meth : Method) (c : Code) (cc : ByteArray) (nL : Nat) (own : String) (Qm : State → Prop) : Prop :=
  p.tables.exec = Jvm.exec ∧ c.code = cc ∧ c.maxLocals = nL ∧ s.vm.findClass own = some m.cls ∧ (∀ w ∈ lw_all, w.before args s = true) ∧ jGK e.1 s ∧ (e.2.1 + 1 ≤ R.frames ∧ 60 * (e.2.1 + 1) ≤ R.locals ∧ e.2.2.1 ≤ R.cells ∧ e.2.2.2.1 ≤ R.slots) ∧ jOut e p ev R s m args below meth c Qm
def jM (e : jjE) (p : Program) (ev : Env) (R : Room) (s : State) (m : MethodId) (args : Array Value) (below : List Frame) (meth : Method) (c : Code) (nL : Nat) (Qm : State → Prop) (pc : Nat) : jjP := fun ls st h nc ns =>
  (∀ v, some v ∈ ls → jokv v) → (∀ v ∈ st, jokv v) → ∀ (H : Heap) (locs : List Loc) (lsM : Array Slot), jHR e.1 s h H → (∀ z ∈ locs, e.1.2.2.2.1 ≤ z.base) → jLR e.1 nL ls lsM →
    W p e.1.1 ev R s m args below meth c H locs nc ns Qm (F0 m pc lsM (st.map (jtv e.1)))
def jMW (e : jjE) (p : Program) (ev : Env) (R : Room) (s : State) (m : MethodId) (args : Array Value) (below : List Frame) (meth : Method) (c : Code) (nL : Nat) (Qm : State → Prop) (pc : Nat) (K : jjP) : Prop :=
  ∀ ls st h nc ns, K ls st h nc ns → jM e p ev R s m args below meth c nL Qm pc ls st h nc ns
theorem jcons {v : jjV} {st : List jjV} (h : jokv v) (hs : ∀ w ∈ st, jokv w) : ∀ w ∈ v :: st, jokv w := List.forall_mem_cons.mpr ⟨h, hs⟩
theorem jtl {v : jjV} {st : List jjV} (hs : ∀ w ∈ v :: st, jokv w) : ∀ w ∈ st, jokv w := (List.forall_mem_cons.mp hs).2
theorem jhd {v : jjV} {st : List jjV} (hs : ∀ w ∈ v :: st, jokv w) : jokv v := (List.forall_mem_cons.mp hs).1
theorem jlok {ls : List (Option jjV)} {i : Nat} {v : jjV} (hl : ∀ v, some v ∈ ls → jokv v) (h : ls[i]? = some (some v)) : jokv v := hl v (List.mem_of_getElem? h)
theorem jrv_cases (g : jjG) (z : Int) : (z = 0 ∧ jrv g z = .null) ∨ (z ≠ 0 ∧ jrv g z = .ref (jadr g z)) := by
  unfold jrv
  by_cases h : z = 0
  · exact Or.inl ⟨h, if_pos h⟩
  · exact Or.inr ⟨h, if_neg h⟩
theorem jrv_ne {g : jjG} {z : Int} (h : 0 < z) : jrv g z = .ref (jadr g z) := by
  unfold jrv; exact if_neg (by omega)
section JS
variable {e : jjE} {p : Program} {ev : Env} {R : Room} {s : State} {m : MethodId} {args : Array Value} {below : List Frame} {meth : Method} {c : Code} {cc : ByteArray} {nL : Nat} {own : String} {Qm : State → Prop} {pc : Nat} {K : jjP}

def jConst (i : Instr) (n : Nat) (z : Int) (args : Array Value) (s : State) (own : String) : Prop :=
  (∃ k : Int, i = .iconst k ∧ n = 1 ∧ Int32.ofInt k = Int32.ofInt z) ∨ (∃ k : Int, i = .bipush k ∧ n = 2 ∧ (Int8.ofInt k).toInt32 = Int32.ofInt z) ∨ (∃ k : Int, i = .sipush k ∧ n = 3 ∧ (Int16.ofInt k).toInt32 = Int32.ofInt z) ∨
  (∃ k : Nat, i = .ldc k ∧ n = 2 ∧ Cond.constant own k (Int32.ofInt z) ∈ lw_all) ∨ (∃ k : Nat, i = .ldc_w k ∧ n = 3 ∧ Cond.constant own k (Int32.ofInt z) ∈ lw_all)
def ji_const (z : Int) (K : jjP) : jjP := fun ls st h nc ns => K ls (vI z :: st) h nc ns
theorem js_const (hX : jX e p ev R s m args below meth c cc nL own Qm) {z : Int} (hz : inI z)  {i : Instr} {n : Nat} (hd : decode cc pc = .ok (i, n)) (hi : jConst i n z args s own) (hk : jMW e p ev R s m args below meth c nL Qm (pc + n) K) : jMW e p ev R s m args below meth c nL Qm (pc) (ji_const z K) := by

  intro ls st h nc ns hK
  unfold ji_const at hK
  intro hl hs H locs lsM hH hlo hL
  have w := hk ls (vI z :: st) h nc ns hK hl (jcons hz hs) H locs lsM hH hlo hL
  rcases hi with ⟨k, e1, e2, e3⟩ | ⟨k, e1, e2, e3⟩ | ⟨k, e1, e2, e3⟩ | ⟨k, e1, e2, e3⟩ | ⟨k, e1, e2, e3⟩
  · subst e1; subst e2; exact lv_iconst hX.1 hX.2.1 hd e3 w
  · subst e1; subst e2; exact lv_bipush hX.1 hX.2.1 hd e3 w
  · subst e1; subst e2; exact lv_sipush hX.1 hX.2.1 hd e3 w
  · subst e1; subst e2; exact lv_ldc hX.1 hX.2.1 hX.2.2.2.1 (hX.2.2.2.2.1 _ e3) hd w
  · subst e1; subst e2; exact lv_ldcw hX.1 hX.2.1 hX.2.2.2.1 (hX.2.2.2.2.1 _ e3) hd w
def ji_lconst (z : Int) (K : jjP) : jjP := fun ls st h nc ns => K ls (vL z :: st) h nc ns
theorem js_lconst (hX : jX e p ev R s m args below meth c cc nL own Qm) {z : Int} (hz : inL z) {k : Fin 2} (hd : decode cc pc = .ok (.lconst k, 1)) (he : Int64.ofNat (k : Nat) = Int64.ofInt z) (hk : jMW e p ev R s m args below meth c nL Qm (pc + 1) K) : jMW e p ev R s m args below meth c nL Qm (pc) (ji_lconst z K) := by
  intro ls st h nc ns hK
  unfold ji_lconst at hK
  intro hl hs H locs lsM hH hlo hL
  exact lv_lconst hX.1 hX.2.1 hd he (hk ls (vL z :: st) h nc ns hK hl (jcons hz hs) H locs lsM hH hlo hL)
theorem js_ldc2 (hX : jX e p ev R s m args below meth c cc nL own Qm) {z : Int} (hz : inL z) {k : Nat} (hd : decode cc pc = .ok (.ldc2_w k, 3)) (hq : Cond.constantLong own k (Int64.ofInt z) ∈ lw_all) (hk : jMW e p ev R s m args below meth c nL Qm (pc + 3) K) : jMW e p ev R s m args below meth c nL Qm (pc) (ji_lconst z K) := by
  intro ls st h nc ns hK
  unfold ji_lconst at hK
  intro hl hs H locs lsM hH hlo hL
  exact lv_ldc2 hX.1 hX.2.1 hX.2.2.2.1 (hX.2.2.2.2.1 _ hq) hd (hk ls (vL z :: st) h nc ns hK hl (jcons hz hs) H locs lsM hH hlo hL)
def ji_null  (K : jjP) : jjP := fun ls st h nc ns => K ls (vR 0 :: st) h nc ns
theorem js_null (hX : jX e p ev R s m args below meth c cc nL own Qm)  (hd : decode cc pc = .ok (.aconst_null, 1)) (hk : jMW e p ev R s m args below meth c nL Qm (pc + 1) K) : jMW e p ev R s m args below meth c nL Qm (pc) (ji_null  K) := by
  intro ls st h nc ns hK
  unfold ji_null at hK
  intro hl hs H locs lsM hH hlo hL
  exact lv_null hX.1 hX.2.1 hd (hk ls (vR 0 :: st) h nc ns hK hl (jcons trivial hs) H locs lsM hH hlo hL)
def ji_iload (i : Nat) (K : jjP) : jjP := fun ls st h nc ns => match ls[i]? with
  | some (some (.inl z)) => K ls (vI z :: st) h nc ns
  | _ => False
theorem js_iload (hX : jX e p ev R s m args below meth c cc nL own Qm) {i : Nat} (hd : decode cc pc = .ok (.iload i, 2)) (hk : jMW e p ev R s m args below meth c nL Qm (pc + 2) K) : jMW e p ev R s m args below meth c nL Qm (pc) (ji_iload i K) := by
  intro ls st h nc ns hK
  unfold ji_iload at hK
  split at hK
  · rename_i z hz
    intro hl hs H locs lsM hH hlo hL
    exact lv_iload hX.1 hX.2.1 hd (hL.2.2 _ _ hz) (hk ls (vI z :: st) h nc ns hK hl (jcons (jlok hl hz) hs) H locs lsM hH hlo hL)
  · exact hK.elim
theorem js_iload_n (hX : jX e p ev R s m args below meth c cc nL own Qm) {i : Nat} {k : Fin 4} (hd : decode cc pc = .ok (.iload_n k, 1)) (hi : (k : Nat) = i) (hk : jMW e p ev R s m args below meth c nL Qm (pc + 1) K) : jMW e p ev R s m args below meth c nL Qm (pc) (ji_iload i K) := by
  intro ls st h nc ns hK
  unfold ji_iload at hK
  split at hK
  · rename_i z hz
    intro hl hs H locs lsM hH hlo hL
    exact lv_iload_n hX.1 hX.2.1 hd hi (hL.2.2 _ _ hz) (hk ls (vI z :: st) h nc ns hK hl (jcons (jlok hl hz) hs) H locs lsM hH hlo hL)
  · exact hK.elim
def ji_lload (i : Nat) (K : jjP) : jjP := fun ls st h nc ns => match ls[i]? with
  | some (some (.inr (.inl z))) => K ls (vL z :: st) h nc ns
  | _ => False
theorem js_lload (hX : jX e p ev R s m args below meth c cc nL own Qm) {i : Nat} (hd : decode cc pc = .ok (.lload i, 2)) (hk : jMW e p ev R s m args below meth c nL Qm (pc + 2) K) : jMW e p ev R s m args below meth c nL Qm (pc) (ji_lload i K) := by
  intro ls st h nc ns hK
  unfold ji_lload at hK
  split at hK
  · rename_i z hz
    intro hl hs H locs lsM hH hlo hL
    exact lv_lload hX.1 hX.2.1 hd (hL.2.2 _ _ hz) (hk ls (vL z :: st) h nc ns hK hl (jcons (jlok hl hz) hs) H locs lsM hH hlo hL)
  · exact hK.elim
theorem js_lload_n (hX : jX e p ev R s m args below meth c cc nL own Qm) {i : Nat} {k : Fin 4} (hd : decode cc pc = .ok (.lload_n k, 1)) (hi : (k : Nat) = i) (hk : jMW e p ev R s m args below meth c nL Qm (pc + 1) K) : jMW e p ev R s m args below meth c nL Qm (pc) (ji_lload i K) := by
  intro ls st h nc ns hK
  unfold ji_lload at hK
  split at hK
  · rename_i z hz
    intro hl hs H locs lsM hH hlo hL
    exact lv_lload_n hX.1 hX.2.1 hd hi (hL.2.2 _ _ hz) (hk ls (vL z :: st) h nc ns hK hl (jcons (jlok hl hz) hs) H locs lsM hH hlo hL)
  · exact hK.elim
def ji_aload (i : Nat) (K : jjP) : jjP := fun ls st h nc ns => match ls[i]? with
  | some (some (.inr (.inr z))) => K ls (vR z :: st) h nc ns
  | _ => False
theorem js_aload (hX : jX e p ev R s m args below meth c cc nL own Qm) {i : Nat} (hd : decode cc pc = .ok (.aload i, 2)) (hk : jMW e p ev R s m args below meth c nL Qm (pc + 2) K) : jMW e p ev R s m args below meth c nL Qm (pc) (ji_aload i K) := by
  intro ls st h nc ns hK
  unfold ji_aload at hK
  split at hK
  · rename_i z hz
    intro hl hs H locs lsM hH hlo hL
    have w := hk ls (vR z :: st) h nc ns hK hl (jcons trivial hs) H locs lsM hH hlo hL
    have y := hL.2.2 _ _ hz
    rcases jrv_cases e.1 z with ⟨-, q⟩ | ⟨-, q⟩
    · have y : lsM[i]? = some (.val .null) := by rw [← q]; exact y
      refine lv_aloadN hX.1 hX.2.1 hd y ?_
      rw [← q]; exact w
    · have y : lsM[i]? = some (.val (.ref (jadr e.1 z))) := by rw [← q]; exact y
      refine lv_aload hX.1 hX.2.1 hd y ?_
      rw [← q]; exact w
  · exact hK.elim
theorem js_aload_n (hX : jX e p ev R s m args below meth c cc nL own Qm) {i : Nat} {k : Fin 4} (hd : decode cc pc = .ok (.aload_n k, 1)) (hi : (k : Nat) = i) (hk : jMW e p ev R s m args below meth c nL Qm (pc + 1) K) : jMW e p ev R s m args below meth c nL Qm (pc) (ji_aload i K) := by
  intro ls st h nc ns hK
  unfold ji_aload at hK
  split at hK
  · rename_i z hz
    intro hl hs H locs lsM hH hlo hL
    have w := hk ls (vR z :: st) h nc ns hK hl (jcons trivial hs) H locs lsM hH hlo hL
    have y := hL.2.2 _ _ hz
    rcases jrv_cases e.1 z with ⟨-, q⟩ | ⟨-, q⟩
    · have y : lsM[i]? = some (.val .null) := by rw [← q]; exact y
      refine lv_aload_nN hX.1 hX.2.1 hd hi y ?_
      rw [← q]; exact w
    · have y : lsM[i]? = some (.val (.ref (jadr e.1 z))) := by rw [← q]; exact y
      refine lv_aload_n hX.1 hX.2.1 hd hi y ?_
      rw [← q]; exact w
  · exact hK.elim
def ji_istore (i : Nat) (K : jjP) : jjP := fun ls st h nc ns => match st with
  | .inl z :: st => K (jset1 ls i (vI z)) st h nc ns
  | _ => False
theorem js_istore (hX : jX e p ev R s m args below meth c cc nL own Qm) {i : Nat} (hd : decode cc pc = .ok (.istore i, 2)) (hn : i < nL) (hk : jMW e p ev R s m args below meth c nL Qm (pc + 2) K) : jMW e p ev R s m args below meth c nL Qm (pc) (ji_istore i K) := by
  intro ls st h nc ns hK
  unfold ji_istore at hK
  split at hK
  · rename_i z st
    intro hl hs H locs lsM hH hlo hL
    exact lv_istore hX.1 hX.2.1 hd hL.has hn rfl (fun lsM' hL' => hk _ st h nc ns hK (jset1_ok hl (jhd hs)) (jtl hs) H locs lsM' hH hlo (jLR.store1 rfl hL'))
  · exact hK.elim
theorem js_istore_n (hX : jX e p ev R s m args below meth c cc nL own Qm) {i : Nat} {k : Fin 4} (hd : decode cc pc = .ok (.istore_n k, 1)) (hi : (k : Nat) = i) (hn : i < nL) (hk : jMW e p ev R s m args below meth c nL Qm (pc + 1) K) : jMW e p ev R s m args below meth c nL Qm (pc) (ji_istore i K) := by
  intro ls st h nc ns hK
  unfold ji_istore at hK
  split at hK
  · rename_i z st
    intro hl hs H locs lsM hH hlo hL
    exact lv_istore_n hX.1 hX.2.1 hd hi hL.has hn rfl (fun lsM' hL' => hk _ st h nc ns hK (jset1_ok hl (jhd hs)) (jtl hs) H locs lsM' hH hlo (jLR.store1 rfl hL'))
  · exact hK.elim
def ji_lstore (i : Nat) (K : jjP) : jjP := fun ls st h nc ns => match st with
  | .inr (.inl z) :: st => K (jset2 ls i (vL z)) st h nc ns
  | _ => False
theorem js_lstore (hX : jX e p ev R s m args below meth c cc nL own Qm) {i : Nat} (hd : decode cc pc = .ok (.lstore i, 2)) (hn : i + 1 < nL) (hk : jMW e p ev R s m args below meth c nL Qm (pc + 2) K) : jMW e p ev R s m args below meth c nL Qm (pc) (ji_lstore i K) := by
  intro ls st h nc ns hK
  unfold ji_lstore at hK
  split at hK
  · rename_i z st
    intro hl hs H locs lsM hH hlo hL
    exact lv_lstore hX.1 hX.2.1 hd hL.has hn rfl (fun lsM' hL' => hk _ st h nc ns hK (jset2_ok hl (jhd hs)) (jtl hs) H locs lsM' hH hlo (jLR.store2 rfl hL'))
  · exact hK.elim
theorem js_lstore_n (hX : jX e p ev R s m args below meth c cc nL own Qm) {i : Nat} {k : Fin 4} (hd : decode cc pc = .ok (.lstore_n k, 1)) (hi : (k : Nat) = i) (hn : i + 1 < nL) (hk : jMW e p ev R s m args below meth c nL Qm (pc + 1) K) : jMW e p ev R s m args below meth c nL Qm (pc) (ji_lstore i K) := by
  intro ls st h nc ns hK
  unfold ji_lstore at hK
  split at hK
  · rename_i z st
    intro hl hs H locs lsM hH hlo hL
    exact lv_lstore_n hX.1 hX.2.1 hd hi hL.has hn rfl (fun lsM' hL' => hk _ st h nc ns hK (jset2_ok hl (jhd hs)) (jtl hs) H locs lsM' hH hlo (jLR.store2 rfl hL'))
  · exact hK.elim
def ji_astore (i : Nat) (K : jjP) : jjP := fun ls st h nc ns => match st with
  | .inr (.inr z) :: st => K (jset1 ls i (vR z)) st h nc ns
  | _ => False
theorem js_astore (hX : jX e p ev R s m args below meth c cc nL own Qm) {i : Nat} (hd : decode cc pc = .ok (.astore i, 2)) (hn : i < nL) (hk : jMW e p ev R s m args below meth c nL Qm (pc + 2) K) : jMW e p ev R s m args below meth c nL Qm (pc) (ji_astore i K) := by
  intro ls st h nc ns hK
  unfold ji_astore at hK
  split at hK
  · rename_i z st
    intro hl hs H locs lsM hH hlo hL
    show W p e.1.1 ev R s m args below meth c H locs nc ns Qm (F0 m pc lsM (jrv e.1 z :: st.map (jtv e.1)))
    rcases jrv_cases e.1 z with ⟨-, q⟩ | ⟨-, q⟩
    · rw [q]
      exact lv_astoreN hX.1 hX.2.1 hd hL.has hn rfl (fun lsM' hL' => hk _ st h nc ns hK (jset1_ok hl (jhd hs)) (jtl hs) H locs lsM' hH hlo (jLR.store1 (v := vR z) q.symm hL'))
    · rw [q]
      exact lv_astore hX.1 hX.2.1 hd hL.has hn rfl (fun lsM' hL' => hk _ st h nc ns hK (jset1_ok hl (jhd hs)) (jtl hs) H locs lsM' hH hlo (jLR.store1 (v := vR z) q.symm hL'))
  · exact hK.elim
theorem js_astore_n (hX : jX e p ev R s m args below meth c cc nL own Qm) {i : Nat} {k : Fin 4} (hd : decode cc pc = .ok (.astore_n k, 1)) (hi : (k : Nat) = i) (hn : i < nL) (hk : jMW e p ev R s m args below meth c nL Qm (pc + 1) K) : jMW e p ev R s m args below meth c nL Qm (pc) (ji_astore i K) := by
  intro ls st h nc ns hK
  unfold ji_astore at hK
  split at hK
  · rename_i z st
    intro hl hs H locs lsM hH hlo hL
    show W p e.1.1 ev R s m args below meth c H locs nc ns Qm (F0 m pc lsM (jrv e.1 z :: st.map (jtv e.1)))
    rcases jrv_cases e.1 z with ⟨-, q⟩ | ⟨-, q⟩
    · rw [q]
      exact lv_astore_nN hX.1 hX.2.1 hd hi hL.has hn rfl (fun lsM' hL' => hk _ st h nc ns hK (jset1_ok hl (jhd hs)) (jtl hs) H locs lsM' hH hlo (jLR.store1 (v := vR z) q.symm hL'))
    · rw [q]
      exact lv_astore_n hX.1 hX.2.1 hd hi hL.has hn rfl (fun lsM' hL' => hk _ st h nc ns hK (jset1_ok hl (jhd hs)) (jtl hs) H locs lsM' hH hlo (jLR.store1 (v := vR z) q.symm hL'))
  · exact hK.elim
def ji_iinc (i : Nat) (n : Int) (K : jjP) : jjP := fun ls st h nc ns => match ls[i]? with
  | some (some (.inl z)) => inI (z + n) ∧ K (jset1 ls i (vI (z + n))) st h nc ns
  | _ => False
theorem js_iinc (hX : jX e p ev R s m args below meth c cc nL own Qm) {i : Nat} {n : Int} (hd : decode cc pc = .ok (.iinc i n, 3)) (hn : i < nL) (hk : jMW e p ev R s m args below meth c nL Qm (pc + 3) K) : jMW e p ev R s m args below meth c nL Qm (pc) (ji_iinc i n K) := by
  intro ls st h nc ns hK
  unfold ji_iinc at hK
  split at hK
  · rename_i z hz
    intro hl hs H locs lsM hH hlo hL
    obtain ⟨k, hk0⟩ := List.getElem?_of_mem (jtoL_mem (g := e.1) hz)
    exact lv_iinc hX.1 hX.2.1 hd hL.has hk0 (v := Int32.ofInt (z + n)) (Int32.ofInt_add z n).symm hn rfl (fun lsM' hL' => hk _ st h nc ns hK.2 (jset1_ok hl (v := vI (z + n)) hK.1) hs H locs lsM' hH hlo (jLR.store1 (v := vI (z + n)) rfl hL'))
  · exact hK.elim
def ji_iadd  (K : jjP) : jjP := fun ls st h nc ns => match st with
  | .inl b :: .inl a :: st => inI (a + b) ∧ K ls (vI (a + b) :: st) h nc ns
  | _ => False
theorem js_iadd (hX : jX e p ev R s m args below meth c cc nL own Qm)  (hd : decode cc pc = .ok (.iadd, 1)) (hk : jMW e p ev R s m args below meth c nL Qm (pc + 1) K) : jMW e p ev R s m args below meth c nL Qm (pc) (ji_iadd  K) := by
  intro ls st h nc ns hK
  unfold ji_iadd at hK
  split at hK
  · rename_i b a st
    intro hl hs H locs lsM hH hlo hL
    have w := hk ls (vI (a + b) :: st) h nc ns hK.2 hl (jcons hK.1 (jtl (jtl hs))) H locs lsM hH hlo hL
    refine lv_iadd hX.1 hX.2.1 hd ?_
    rw [← Int32.ofInt_add]
    exact w
  · exact hK.elim
def ji_isub  (K : jjP) : jjP := fun ls st h nc ns => match st with
  | .inl b :: .inl a :: st => inI (a - b) ∧ K ls (vI (a - b) :: st) h nc ns
  | _ => False
theorem js_isub (hX : jX e p ev R s m args below meth c cc nL own Qm)  (hd : decode cc pc = .ok (.isub, 1)) (hk : jMW e p ev R s m args below meth c nL Qm (pc + 1) K) : jMW e p ev R s m args below meth c nL Qm (pc) (ji_isub  K) := by
  intro ls st h nc ns hK
  unfold ji_isub at hK
  split at hK
  · rename_i b a st
    intro hl hs H locs lsM hH hlo hL
    have w := hk ls (vI (a - b) :: st) h nc ns hK.2 hl (jcons hK.1 (jtl (jtl hs))) H locs lsM hH hlo hL
    refine lv_isub hX.1 hX.2.1 hd ?_
    rw [← Int32.ofInt_sub]
    exact w
  · exact hK.elim
def ji_imul  (K : jjP) : jjP := fun ls st h nc ns => match st with
  | .inl b :: .inl a :: st => inI (a * b) ∧ K ls (vI (a * b) :: st) h nc ns
  | _ => False
theorem js_imul (hX : jX e p ev R s m args below meth c cc nL own Qm)  (hd : decode cc pc = .ok (.imul, 1)) (hk : jMW e p ev R s m args below meth c nL Qm (pc + 1) K) : jMW e p ev R s m args below meth c nL Qm (pc) (ji_imul  K) := by
  intro ls st h nc ns hK
  unfold ji_imul at hK
  split at hK
  · rename_i b a st
    intro hl hs H locs lsM hH hlo hL
    have w := hk ls (vI (a * b) :: st) h nc ns hK.2 hl (jcons hK.1 (jtl (jtl hs))) H locs lsM hH hlo hL
    refine lv_imul hX.1 hX.2.1 hd ?_
    rw [← Int32.ofInt_mul]
    exact w
  · exact hK.elim
def ji_ladd  (K : jjP) : jjP := fun ls st h nc ns => match st with
  | .inr (.inl b) :: .inr (.inl a) :: st => inL (a + b) ∧ K ls (vL (a + b) :: st) h nc ns
  | _ => False
theorem js_ladd (hX : jX e p ev R s m args below meth c cc nL own Qm)  (hd : decode cc pc = .ok (.ladd, 1)) (hk : jMW e p ev R s m args below meth c nL Qm (pc + 1) K) : jMW e p ev R s m args below meth c nL Qm (pc) (ji_ladd  K) := by
  intro ls st h nc ns hK
  unfold ji_ladd at hK
  split at hK
  · rename_i b a st
    intro hl hs H locs lsM hH hlo hL
    have w := hk ls (vL (a + b) :: st) h nc ns hK.2 hl (jcons hK.1 (jtl (jtl hs))) H locs lsM hH hlo hL
    refine lv_ladd hX.1 hX.2.1 hd ?_
    rw [← Int64.ofInt_add]
    exact w
  · exact hK.elim
def ji_lsub  (K : jjP) : jjP := fun ls st h nc ns => match st with
  | .inr (.inl b) :: .inr (.inl a) :: st => inL (a - b) ∧ K ls (vL (a - b) :: st) h nc ns
  | _ => False
theorem js_lsub (hX : jX e p ev R s m args below meth c cc nL own Qm)  (hd : decode cc pc = .ok (.lsub, 1)) (hk : jMW e p ev R s m args below meth c nL Qm (pc + 1) K) : jMW e p ev R s m args below meth c nL Qm (pc) (ji_lsub  K) := by
  intro ls st h nc ns hK
  unfold ji_lsub at hK
  split at hK
  · rename_i b a st
    intro hl hs H locs lsM hH hlo hL
    have w := hk ls (vL (a - b) :: st) h nc ns hK.2 hl (jcons hK.1 (jtl (jtl hs))) H locs lsM hH hlo hL
    refine lv_lsub hX.1 hX.2.1 hd ?_
    rw [← Int64.ofInt_sub]
    exact w
  · exact hK.elim
def ji_lmul  (K : jjP) : jjP := fun ls st h nc ns => match st with
  | .inr (.inl b) :: .inr (.inl a) :: st => inL (a * b) ∧ K ls (vL (a * b) :: st) h nc ns
  | _ => False
theorem js_lmul (hX : jX e p ev R s m args below meth c cc nL own Qm)  (hd : decode cc pc = .ok (.lmul, 1)) (hk : jMW e p ev R s m args below meth c nL Qm (pc + 1) K) : jMW e p ev R s m args below meth c nL Qm (pc) (ji_lmul  K) := by
  intro ls st h nc ns hK
  unfold ji_lmul at hK
  split at hK
  · rename_i b a st
    intro hl hs H locs lsM hH hlo hL
    have w := hk ls (vL (a * b) :: st) h nc ns hK.2 hl (jcons hK.1 (jtl (jtl hs))) H locs lsM hH hlo hL
    refine lv_lmul hX.1 hX.2.1 hd ?_
    rw [← Int64.ofInt_mul]
    exact w
  · exact hK.elim
theorem j_div {a b : Int} (ha : 0 ≤ a) (hb : 0 < b) : a.tdiv b = a / b := Int.tdiv_eq_ediv_of_nonneg ha
theorem j32_div {a b : Int} (ha : inI a) (hb : inI b) (h0 : 0 ≤ a) (h1 : 0 < b) : Int32.ofInt a / Int32.ofInt b = Int32.ofInt (a / b) := by
  have hq : inI (a / b) := ⟨by have := Int.ediv_nonneg h0 (Int.le_of_lt h1); unfold inI at *; omega, by have := Int.ediv_le_self b h0; unfold inI at *; omega⟩
  rw [← Int32.toInt_inj, j32_toInt hq, Int32.toInt_div_of_ne_right, j32_toInt ha, j32_toInt hb, j_div h0 h1]
  intro q
  have e1 := congrArg Int32.toInt q
  rw [j32_toInt hb] at e1
  have : (-1 : Int32).toInt = -1 := by decide
  omega
theorem j64_div {a b : Int} (ha : inL a) (hb : inL b) (h1 : b ≠ 0) (h2 : inL (a.tdiv b)) : Int64.ofInt a / Int64.ofInt b = Int64.ofInt (a.tdiv b) := by
  rw [← Int64.toInt_inj, Int64.toInt_div, j64_toInt ha, j64_toInt hb, j64_toInt h2]
  exact Int.bmod_eq_of_le (by have := h2.1; omega) (by have := h2.2; omega)
theorem j_ne0 {b : Int} (hb : inI b) (h : b ≠ 0) : ¬ Int32.ofInt b = 0 := by
  intro q
  have e1 := congrArg Int32.toInt q
  rw [j32_toInt hb] at e1
  exact h e1
theorem j_ne0L {b : Int} (hb : inL b) (h : b ≠ 0) : ¬ Int64.ofInt b = 0 := by
  intro q
  have e1 := congrArg Int64.toInt q
  rw [j64_toInt hb] at e1
  exact h e1
theorem j_modI {a b : Int} (ha : inI a) (hb : inI b) (h0 : 0 ≤ a) (h1 : 0 < b) : inI (a % b) := ⟨by have := Int.emod_nonneg a (show b ≠ 0 by omega); omega, by have := Int.emod_lt_of_pos a h1; unfold inI at *; omega⟩
theorem j_divI {a b : Int} (ha : inI a) (hb : inI b) (h0 : 0 ≤ a) (h1 : 0 < b) : inI (a / b) := ⟨by have := Int.ediv_nonneg h0 (Int.le_of_lt h1); unfold inI at *; omega, by have := Int.ediv_le_self b h0; unfold inI at *; omega⟩
def ji_idiv  (K : jjP) : jjP := fun ls st h nc ns => match st with
  | .inl b :: .inl a :: st => (0 ≤ a ∧ 0 < b) ∧ K ls (vI (a / b) :: st) h nc ns
  | _ => False
theorem js_idiv (hX : jX e p ev R s m args below meth c cc nL own Qm)  (hd : decode cc pc = .ok (.idiv, 1)) (hk : jMW e p ev R s m args below meth c nL Qm (pc + 1) K) : jMW e p ev R s m args below meth c nL Qm (pc) (ji_idiv  K) := by
  intro ls st h nc ns hK
  unfold ji_idiv at hK
  split at hK
  · rename_i b a st
    intro hl hs H locs lsM hH hlo hL
    have kb : inI b := jhd hs
    have ka : inI a := jhd (jtl hs)
    have w := hk ls (vI (a / b) :: st) h nc ns hK.2 hl (jcons (j_divI ka kb hK.1.1 hK.1.2) (jtl (jtl hs))) H locs lsM hH hlo hL
    refine lv_idiv hX.1 hX.2.1 hd (j_ne0 kb (by have := hK.1.2; omega)) ?_
    rw [j32_div ka kb hK.1.1 hK.1.2]
    exact w
  · exact hK.elim
def ji_irem  (K : jjP) : jjP := fun ls st h nc ns => match st with
  | .inl b :: .inl a :: st => (0 ≤ a ∧ 0 < b) ∧ K ls (vI (a % b) :: st) h nc ns
  | _ => False
theorem js_irem (hX : jX e p ev R s m args below meth c cc nL own Qm)  (hd : decode cc pc = .ok (.irem, 1)) (hk : jMW e p ev R s m args below meth c nL Qm (pc + 1) K) : jMW e p ev R s m args below meth c nL Qm (pc) (ji_irem  K) := by
  intro ls st h nc ns hK
  unfold ji_irem at hK
  split at hK
  · rename_i b a st
    intro hl hs H locs lsM hH hlo hL
    have kb : inI b := jhd hs
    have ka : inI a := jhd (jtl hs)
    have w := hk ls (vI (a % b) :: st) h nc ns hK.2 hl (jcons (j_modI ka kb hK.1.1 hK.1.2) (jtl (jtl hs))) H locs lsM hH hlo hL
    refine lv_irem hX.1 hX.2.1 hd (j_ne0 kb (by have := hK.1.2; omega)) ?_
    have q : Int32.ofInt a - Int32.ofInt a / Int32.ofInt b * Int32.ofInt b = Int32.ofInt (a % b) := by
      rw [j32_div ka kb hK.1.1 hK.1.2, ← Int32.ofInt_mul, ← Int32.ofInt_sub]
      congr 1
      have := Int.mul_ediv_add_emod a b
      rw [Int.mul_comm] at this
      omega
    rw [q]
    exact w
  · exact hK.elim
def ji_ldiv  (K : jjP) : jjP := fun ls st h nc ns => match st with
  | .inr (.inl b) :: .inr (.inl a) :: st => (b ≠ 0 ∧ inL (a.tdiv b)) ∧ K ls (vL (a.tdiv b) :: st) h nc ns
  | _ => False
theorem js_ldiv (hX : jX e p ev R s m args below meth c cc nL own Qm)  (hd : decode cc pc = .ok (.ldiv, 1)) (hk : jMW e p ev R s m args below meth c nL Qm (pc + 1) K) : jMW e p ev R s m args below meth c nL Qm (pc) (ji_ldiv  K) := by
  intro ls st h nc ns hK
  unfold ji_ldiv at hK
  split at hK
  · rename_i b a st
    intro hl hs H locs lsM hH hlo hL
    have kb : inL b := jhd hs
    have ka : inL a := jhd (jtl hs)
    have w := hk ls (vL (a.tdiv b) :: st) h nc ns hK.2 hl (jcons hK.1.2 (jtl (jtl hs))) H locs lsM hH hlo hL
    refine lv_ldiv hX.1 hX.2.1 hd (j_ne0L kb hK.1.1) ?_
    rw [j64_div ka kb hK.1.1 hK.1.2]
    exact w
  · exact hK.elim
def ji_ineg  (K : jjP) : jjP := fun ls st h nc ns => match st with
  | .inl a :: st => inI (-a) ∧ K ls (vI (-a) :: st) h nc ns
  | _ => False
theorem js_ineg (hX : jX e p ev R s m args below meth c cc nL own Qm)  (hd : decode cc pc = .ok (.ineg, 1)) (hk : jMW e p ev R s m args below meth c nL Qm (pc + 1) K) : jMW e p ev R s m args below meth c nL Qm (pc) (ji_ineg  K) := by
  intro ls st h nc ns hK
  unfold ji_ineg at hK
  split at hK
  · rename_i a st
    intro hl hs H locs lsM hH hlo hL
    have w := hk ls (vI (-a) :: st) h nc ns hK.2 hl (jcons hK.1 (jtl hs)) H locs lsM hH hlo hL
    refine lv_ineg hX.1 hX.2.1 hd ?_
    rw [← Int32.ofInt_neg]
    exact w
  · exact hK.elim
def ji_lneg  (K : jjP) : jjP := fun ls st h nc ns => match st with
  | .inr (.inl a) :: st => inL (-a) ∧ K ls (vL (-a) :: st) h nc ns
  | _ => False
theorem js_lneg (hX : jX e p ev R s m args below meth c cc nL own Qm)  (hd : decode cc pc = .ok (.lneg, 1)) (hk : jMW e p ev R s m args below meth c nL Qm (pc + 1) K) : jMW e p ev R s m args below meth c nL Qm (pc) (ji_lneg  K) := by
  intro ls st h nc ns hK
  unfold ji_lneg at hK
  split at hK
  · rename_i a st
    intro hl hs H locs lsM hH hlo hL
    have w := hk ls (vL (-a) :: st) h nc ns hK.2 hl (jcons hK.1 (jtl hs)) H locs lsM hH hlo hL
    refine lv_lneg hX.1 hX.2.1 hd ?_
    rw [← Int64.ofInt_neg]
    exact w
  · exact hK.elim
def jand (a b : Int) : Int := (Int32.ofInt a &&& Int32.ofInt b).toInt
def jor (a b : Int) : Int := (Int32.ofInt a ||| Int32.ofInt b).toInt
def jxor (a b : Int) : Int := (Int32.ofInt a ^^^ Int32.ofInt b).toInt
def jshl (a b : Int) : Int := (Int32.ofInt a <<< (Int32.ofInt b &&& 31)).toInt
def jshr (a b : Int) : Int := (Int32.ofInt a >>> (Int32.ofInt b &&& 31)).toInt
def jushr (a b : Int) : Int := ((Int32.ofInt a).toUInt32 >>> ((Int32.ofInt b).toUInt32 &&& Int32.toUInt32 31)).toInt32.toInt
def jorL (a b : Int) : Int := (Int64.ofInt a ||| Int64.ofInt b).toInt
def jshlL (a b : Int) : Int := (Int64.ofInt a <<< ((Int32.ofInt b).toInt64 &&& 63)).toInt
def jbyte (a : Int) : Int := (Int32.ofInt a).toInt8.toInt32.toInt
def ji_iand  (K : jjP) : jjP := fun ls st h nc ns => match st with
  | .inl b :: .inl a :: st => K ls (vI (jand a b) :: st) h nc ns
  | _ => False
theorem js_iand (hX : jX e p ev R s m args below meth c cc nL own Qm)  (hd : decode cc pc = .ok (.iand, 1)) (hk : jMW e p ev R s m args below meth c nL Qm (pc + 1) K) : jMW e p ev R s m args below meth c nL Qm (pc) (ji_iand  K) := by
  intro ls st h nc ns hK
  unfold ji_iand at hK
  split at hK
  · rename_i b a st
    intro hl hs H locs lsM hH hlo hL
    have w := hk ls (vI (jand a b) :: st) h nc ns hK hl (jcons (j32_ok _) (jtl (jtl hs))) H locs lsM hH hlo hL
    refine lv_iand hX.1 hX.2.1 hd ?_
    have q : jtv e.1 (vI (jand a b)) = .int _ := congrArg Value.int (Int32.ofInt_toInt _)
    rw [List.map_cons, q] at w
    exact w
  · exact hK.elim
def ji_ior  (K : jjP) : jjP := fun ls st h nc ns => match st with
  | .inl b :: .inl a :: st => K ls (vI (jor a b) :: st) h nc ns
  | _ => False
theorem js_ior (hX : jX e p ev R s m args below meth c cc nL own Qm)  (hd : decode cc pc = .ok (.ior, 1)) (hk : jMW e p ev R s m args below meth c nL Qm (pc + 1) K) : jMW e p ev R s m args below meth c nL Qm (pc) (ji_ior  K) := by
  intro ls st h nc ns hK
  unfold ji_ior at hK
  split at hK
  · rename_i b a st
    intro hl hs H locs lsM hH hlo hL
    have w := hk ls (vI (jor a b) :: st) h nc ns hK hl (jcons (j32_ok _) (jtl (jtl hs))) H locs lsM hH hlo hL
    refine lv_ior hX.1 hX.2.1 hd ?_
    have q : jtv e.1 (vI (jor a b)) = .int _ := congrArg Value.int (Int32.ofInt_toInt _)
    rw [List.map_cons, q] at w
    exact w
  · exact hK.elim
def ji_ixor  (K : jjP) : jjP := fun ls st h nc ns => match st with
  | .inl b :: .inl a :: st => K ls (vI (jxor a b) :: st) h nc ns
  | _ => False
theorem js_ixor (hX : jX e p ev R s m args below meth c cc nL own Qm)  (hd : decode cc pc = .ok (.ixor, 1)) (hk : jMW e p ev R s m args below meth c nL Qm (pc + 1) K) : jMW e p ev R s m args below meth c nL Qm (pc) (ji_ixor  K) := by
  intro ls st h nc ns hK
  unfold ji_ixor at hK
  split at hK
  · rename_i b a st
    intro hl hs H locs lsM hH hlo hL
    have w := hk ls (vI (jxor a b) :: st) h nc ns hK hl (jcons (j32_ok _) (jtl (jtl hs))) H locs lsM hH hlo hL
    refine lv_ixor hX.1 hX.2.1 hd ?_
    have q : jtv e.1 (vI (jxor a b)) = .int _ := congrArg Value.int (Int32.ofInt_toInt _)
    rw [List.map_cons, q] at w
    exact w
  · exact hK.elim
def ji_ishl  (K : jjP) : jjP := fun ls st h nc ns => match st with
  | .inl b :: .inl a :: st => K ls (vI (jshl a b) :: st) h nc ns
  | _ => False
theorem js_ishl (hX : jX e p ev R s m args below meth c cc nL own Qm)  (hd : decode cc pc = .ok (.ishl, 1)) (hk : jMW e p ev R s m args below meth c nL Qm (pc + 1) K) : jMW e p ev R s m args below meth c nL Qm (pc) (ji_ishl  K) := by
  intro ls st h nc ns hK
  unfold ji_ishl at hK
  split at hK
  · rename_i b a st
    intro hl hs H locs lsM hH hlo hL
    have w := hk ls (vI (jshl a b) :: st) h nc ns hK hl (jcons (j32_ok _) (jtl (jtl hs))) H locs lsM hH hlo hL
    refine lv_ishl hX.1 hX.2.1 hd ?_
    have q : jtv e.1 (vI (jshl a b)) = .int _ := congrArg Value.int (Int32.ofInt_toInt _)
    rw [List.map_cons, q] at w
    exact w
  · exact hK.elim
def ji_ishr  (K : jjP) : jjP := fun ls st h nc ns => match st with
  | .inl b :: .inl a :: st => K ls (vI (jshr a b) :: st) h nc ns
  | _ => False
theorem js_ishr (hX : jX e p ev R s m args below meth c cc nL own Qm)  (hd : decode cc pc = .ok (.ishr, 1)) (hk : jMW e p ev R s m args below meth c nL Qm (pc + 1) K) : jMW e p ev R s m args below meth c nL Qm (pc) (ji_ishr  K) := by
  intro ls st h nc ns hK
  unfold ji_ishr at hK
  split at hK
  · rename_i b a st
    intro hl hs H locs lsM hH hlo hL
    have w := hk ls (vI (jshr a b) :: st) h nc ns hK hl (jcons (j32_ok _) (jtl (jtl hs))) H locs lsM hH hlo hL
    refine lv_ishr hX.1 hX.2.1 hd ?_
    have q : jtv e.1 (vI (jshr a b)) = .int _ := congrArg Value.int (Int32.ofInt_toInt _)
    rw [List.map_cons, q] at w
    exact w
  · exact hK.elim
def ji_iushr  (K : jjP) : jjP := fun ls st h nc ns => match st with
  | .inl b :: .inl a :: st => K ls (vI (jushr a b) :: st) h nc ns
  | _ => False
theorem js_iushr (hX : jX e p ev R s m args below meth c cc nL own Qm)  (hd : decode cc pc = .ok (.iushr, 1)) (hk : jMW e p ev R s m args below meth c nL Qm (pc + 1) K) : jMW e p ev R s m args below meth c nL Qm (pc) (ji_iushr  K) := by
  intro ls st h nc ns hK
  unfold ji_iushr at hK
  split at hK
  · rename_i b a st
    intro hl hs H locs lsM hH hlo hL
    have w := hk ls (vI (jushr a b) :: st) h nc ns hK hl (jcons (j32_ok _) (jtl (jtl hs))) H locs lsM hH hlo hL
    exact lv_iushr hX.1 hX.2.1 hd (Int32.ofInt_toInt _).symm w
  · exact hK.elim
def ji_lor  (K : jjP) : jjP := fun ls st h nc ns => match st with
  | .inr (.inl b) :: .inr (.inl a) :: st => K ls (vL (jorL a b) :: st) h nc ns
  | _ => False
theorem js_lor (hX : jX e p ev R s m args below meth c cc nL own Qm)  (hd : decode cc pc = .ok (.lor, 1)) (hk : jMW e p ev R s m args below meth c nL Qm (pc + 1) K) : jMW e p ev R s m args below meth c nL Qm (pc) (ji_lor  K) := by
  intro ls st h nc ns hK
  unfold ji_lor at hK
  split at hK
  · rename_i b a st
    intro hl hs H locs lsM hH hlo hL
    have w := hk ls (vL (jorL a b) :: st) h nc ns hK hl (jcons (j64_ok _) (jtl (jtl hs))) H locs lsM hH hlo hL
    refine lv_lor hX.1 hX.2.1 hd ?_
    have q : jtv e.1 (vL (jorL a b)) = .long _ := congrArg Value.long (Int64.ofInt_toInt _)
    rw [List.map_cons, q] at w
    exact w
  · exact hK.elim
def ji_lshl  (K : jjP) : jjP := fun ls st h nc ns => match st with
  | .inl b :: .inr (.inl a) :: st => K ls (vL (jshlL a b) :: st) h nc ns
  | _ => False
theorem js_lshl (hX : jX e p ev R s m args below meth c cc nL own Qm)  (hd : decode cc pc = .ok (.lshl, 1)) (hk : jMW e p ev R s m args below meth c nL Qm (pc + 1) K) : jMW e p ev R s m args below meth c nL Qm (pc) (ji_lshl  K) := by
  intro ls st h nc ns hK
  unfold ji_lshl at hK
  split at hK
  · rename_i b a st
    intro hl hs H locs lsM hH hlo hL
    have w := hk ls (vL (jshlL a b) :: st) h nc ns hK hl (jcons (j64_ok _) (jtl (jtl hs))) H locs lsM hH hlo hL
    exact lv_lshl hX.1 hX.2.1 hd (Int64.ofInt_toInt _).symm w
  · exact hK.elim
def jcmp (a b : Int) : Int := if a < b then -1 else if a = b then 0 else 1
theorem jcmp_ok (a b : Int) : inI (jcmp a b) := by
  unfold jcmp inI
  split
  · omega
  · split <;> omega
theorem jcmp_eq {a b : Int} (ha : inL a) (hb : inL b) : lg_cmp (Int64.ofInt a) (Int64.ofInt b) = Int32.ofInt (jcmp a b) := by
  unfold lg_cmp jcmp
  simp only [gt_iff_lt, j64_lt hb ha, j64_inj ha hb]
  by_cases h1 : b < a
  · rw [if_pos h1, if_neg (by omega), if_neg (by omega)]; rfl
  · rw [if_neg h1]
    by_cases h2 : a = b
    · rw [if_pos h2, if_neg (by omega), if_pos h2]; rfl
    · rw [if_neg h2, if_pos (by omega)]; rfl
def ji_lcmp  (K : jjP) : jjP := fun ls st h nc ns => match st with
  | .inr (.inl b) :: .inr (.inl a) :: st => K ls (vI (jcmp a b) :: st) h nc ns
  | _ => False
theorem js_lcmp (hX : jX e p ev R s m args below meth c cc nL own Qm)  (hd : decode cc pc = .ok (.lcmp, 1)) (hk : jMW e p ev R s m args below meth c nL Qm (pc + 1) K) : jMW e p ev R s m args below meth c nL Qm (pc) (ji_lcmp  K) := by
  intro ls st h nc ns hK
  unfold ji_lcmp at hK
  split at hK
  · rename_i b a st
    intro hl hs H locs lsM hH hlo hL
    have kb : inL b := jhd hs
    have ka : inL a := jhd (jtl hs)
    have w := hk ls (vI (jcmp a b) :: st) h nc ns hK hl (jcons (jcmp_ok a b) (jtl (jtl hs))) H locs lsM hH hlo hL
    refine W.lcmp hX.1 hX.2.1 hd ?_
    rw [jcmp_eq ka kb]
    exact w
  · exact hK.elim
theorem j_IL {a : Int} (h : inI a) : inL a := ⟨by have := h.1; omega, by have := h.2; omega⟩
def ji_i2l  (K : jjP) : jjP := fun ls st h nc ns => match st with
  | .inl a :: st => K ls (vL a :: st) h nc ns
  | _ => False
theorem js_i2l (hX : jX e p ev R s m args below meth c cc nL own Qm)  (hd : decode cc pc = .ok (.i2l, 1)) (hk : jMW e p ev R s m args below meth c nL Qm (pc + 1) K) : jMW e p ev R s m args below meth c nL Qm (pc) (ji_i2l  K) := by
  intro ls st h nc ns hK
  unfold ji_i2l at hK
  split at hK
  · rename_i a st
    intro hl hs H locs lsM hH hlo hL
    have ka : inI a := jhd hs
    have w := hk ls (vL a :: st) h nc ns hK hl (jcons (j_IL ka) (jtl hs)) H locs lsM hH hlo hL
    refine lv_i2l hX.1 hX.2.1 hd (v := Int64.ofInt a) ?_ w
    rw [← Int64.toInt_inj, Int32.toInt_toInt64, j32_toInt ka, j64_toInt (j_IL ka)]
  · exact hK.elim
def ji_l2i  (K : jjP) : jjP := fun ls st h nc ns => match st with
  | .inr (.inl a) :: st => inI a ∧ K ls (vI a :: st) h nc ns
  | _ => False
theorem js_l2i (hX : jX e p ev R s m args below meth c cc nL own Qm)  (hd : decode cc pc = .ok (.l2i, 1)) (hk : jMW e p ev R s m args below meth c nL Qm (pc + 1) K) : jMW e p ev R s m args below meth c nL Qm (pc) (ji_l2i  K) := by
  intro ls st h nc ns hK
  unfold ji_l2i at hK
  split at hK
  · rename_i a st
    intro hl hs H locs lsM hH hlo hL
    have w := hk ls (vI a :: st) h nc ns hK.2 hl (jcons hK.1 (jtl hs)) H locs lsM hH hlo hL
    refine lv_l2i hX.1 hX.2.1 hd (v := Int32.ofInt a) ?_ w
    rw [← Int32.ofInt_int64ToInt, j64_toInt (j_IL hK.1)]
  · exact hK.elim
def ji_i2b  (K : jjP) : jjP := fun ls st h nc ns => match st with
  | .inl a :: st => K ls (vI (jbyte a) :: st) h nc ns
  | _ => False
theorem js_i2b (hX : jX e p ev R s m args below meth c cc nL own Qm)  (hd : decode cc pc = .ok (.i2b, 1)) (hk : jMW e p ev R s m args below meth c nL Qm (pc + 1) K) : jMW e p ev R s m args below meth c nL Qm (pc) (ji_i2b  K) := by
  intro ls st h nc ns hK
  unfold ji_i2b at hK
  split at hK
  · rename_i a st
    intro hl hs H locs lsM hH hlo hL
    have w := hk ls (vI (jbyte a) :: st) h nc ns hK hl (jcons (j32_ok _) (jtl hs)) H locs lsM hH hlo hL
    exact lv_i2b hX.1 hX.2.1 hd (Int32.ofInt_toInt _).symm w
  · exact hK.elim
def ji_i2c  (K : jjP) : jjP := fun ls st h nc ns => match st with
  | .inl a :: st => (0 ≤ a ∧ a < 65536) ∧ K ls (vI a :: st) h nc ns
  | _ => False
theorem js_i2c (hX : jX e p ev R s m args below meth c cc nL own Qm)  (hd : decode cc pc = .ok (.i2c, 1)) (hk : jMW e p ev R s m args below meth c nL Qm (pc + 1) K) : jMW e p ev R s m args below meth c nL Qm (pc) (ji_i2c  K) := by
  intro ls st h nc ns hK
  unfold ji_i2c at hK
  split at hK
  · rename_i a st
    intro hl hs H locs lsM hH hlo hL
    have ka : inI a := jhd hs
    have w := hk ls (vI a :: st) h nc ns hK.2 hl (jcons ka (jtl hs)) H locs lsM hH hlo hL
    refine lv_i2c hX.1 hX.2.1 hd (v := Int32.ofInt a) ?_ w
    have hq := (pk_charN (q := a.toNat) (by have := hK.1.2; omega)).1
    have e1 : nI a.toNat = Int32.ofInt a := by
      show Int32.ofNat a.toNat = Int32.ofInt a
      rw [← Int32.ofInt_eq_ofNat, Int.toNat_of_nonneg hK.1.1]
    rw [e1] at hq
    exact Value.int.inj hq
  · exact hK.elim
def jc1 (v : jjV) : Prop := match v with
  | .inr (.inl _) => False
  | _ => True
theorem jc1_cat {g : jjG} {v : jjV} (h : jc1 v) : (jtv g v).category = 1 := jtv_cat1 (fun z q => by subst q; exact h)
def ji_dup  (K : jjP) : jjP := fun ls st h nc ns => match st with
  | v :: st => jc1 v ∧ K ls (v :: v :: st) h nc ns
  | _ => False
theorem js_dup (hX : jX e p ev R s m args below meth c cc nL own Qm)  (hd : decode cc pc = .ok (.dup, 1)) (hk : jMW e p ev R s m args below meth c nL Qm (pc + 1) K) : jMW e p ev R s m args below meth c nL Qm (pc) (ji_dup  K) := by
  intro ls st h nc ns hK
  unfold ji_dup at hK
  split at hK
  · rename_i v st
    intro hl hs H locs lsM hH hlo hL
    exact lv_dup hX.1 hX.2.1 hd (jc1_cat hK.1) (hk ls (v :: v :: st) h nc ns hK.2 hl (jcons (jhd hs) hs) H locs lsM hH hlo hL)
  · exact hK.elim
def ji_pop  (K : jjP) : jjP := fun ls st h nc ns => match st with
  | v :: st => jc1 v ∧ K ls st h nc ns
  | _ => False
theorem js_pop (hX : jX e p ev R s m args below meth c cc nL own Qm)  (hd : decode cc pc = .ok (.pop, 1)) (hk : jMW e p ev R s m args below meth c nL Qm (pc + 1) K) : jMW e p ev R s m args below meth c nL Qm (pc) (ji_pop  K) := by
  intro ls st h nc ns hK
  unfold ji_pop at hK
  split at hK
  · rename_i v st
    intro hl hs H locs lsM hH hlo hL
    exact lv_pop hX.1 hX.2.1 hd (jc1_cat hK.1) (hk ls st h nc ns hK.2 hl (jtl hs) H locs lsM hH hlo hL)
  · exact hK.elim
def ji_dup2  (K : jjP) : jjP := fun ls st h nc ns => match st with
  | v :: w :: st => (jc1 v ∧ jc1 w) ∧ K ls (v :: w :: v :: w :: st) h nc ns
  | _ => False
theorem js_dup2 (hX : jX e p ev R s m args below meth c cc nL own Qm)  (hd : decode cc pc = .ok (.dup2, 1)) (hk : jMW e p ev R s m args below meth c nL Qm (pc + 1) K) : jMW e p ev R s m args below meth c nL Qm (pc) (ji_dup2  K) := by
  intro ls st h nc ns hK
  unfold ji_dup2 at hK
  split at hK
  · rename_i v w st
    intro hl hs H locs lsM hH hlo hL
    exact lv_dup2_11 hX.1 hX.2.1 hd (jc1_cat hK.1.1) (jc1_cat hK.1.2) (hk ls (v :: w :: v :: w :: st) h nc ns hK.2 hl (jcons (jhd hs) (jcons (jhd (jtl hs)) hs)) H locs lsM hH hlo hL)
  · exact hK.elim
def ji_dupx1  (K : jjP) : jjP := fun ls st h nc ns => match st with
  | v :: w :: st => (jc1 v ∧ jc1 w) ∧ K ls (v :: w :: v :: st) h nc ns
  | _ => False
theorem js_dupx1 (hX : jX e p ev R s m args below meth c cc nL own Qm)  (hd : decode cc pc = .ok (.dup_x1, 1)) (hk : jMW e p ev R s m args below meth c nL Qm (pc + 1) K) : jMW e p ev R s m args below meth c nL Qm (pc) (ji_dupx1  K) := by
  intro ls st h nc ns hK
  unfold ji_dupx1 at hK
  split at hK
  · rename_i v w st
    intro hl hs H locs lsM hH hlo hL
    exact lv_dup_x1 hX.1 hX.2.1 hd (jc1_cat hK.1.1) (jc1_cat hK.1.2) (hk ls (v :: w :: v :: st) h nc ns hK.2 hl (jcons (jhd hs) (jcons (jhd (jtl hs)) (jcons (jhd hs) (jtl (jtl hs))))) H locs lsM hH hlo hL)
  · exact hK.elim
def ji_goto  (K : jjP) : jjP := fun ls st h nc ns => K ls st h nc ns
theorem js_goto (hX : jX e p ev R s m args below meth c cc nL own Qm)  {off : Int} {tgt : Nat} (hd : decode cc pc = .ok (.goto off, 3)) (ht : (pc : Int) + off = (tgt : Int)) (hk : jMW e p ev R s m args below meth c nL Qm (tgt) K) : jMW e p ev R s m args below meth c nL Qm (pc) (ji_goto  K) := by
  intro ls st h nc ns hK
  unfold ji_goto at hK
  intro hl hs H locs lsM hH hlo hL
  exact lv_goto hX.1 hX.2.1 hd ht (hk ls st h nc ns hK hl hs H locs lsM hH hlo hL)
def ji_icmp_eq  (K K2 : jjP) : jjP := fun ls st h nc ns => match st with
  | .inl b :: .inl a :: st => ((a = b) → K ls st h nc ns) ∧ ((¬ (a = b)) → K2 ls st h nc ns)
  | _ => False
theorem js_icmp_eq (hX : jX e p ev R s m args below meth c cc nL own Qm)  {K2 : jjP} {off : Int} {tgt : Nat} (hd : decode cc pc = .ok (.if_icmp .eq off, 3)) (ht : (pc : Int) + off = (tgt : Int)) (hk : jMW e p ev R s m args below meth c nL Qm (tgt) K) (hk2 : jMW e p ev R s m args below meth c nL Qm (pc + 3) K2) : jMW e p ev R s m args below meth c nL Qm (pc) (ji_icmp_eq  K K2) := by
  intro ls st h nc ns hK
  unfold ji_icmp_eq at hK
  split at hK
  · rename_i b a st
    intro hl hs H locs lsM hH hlo hL
    have kb : inI b := jhd hs
    have ka : inI a := jhd (jtl hs)
    have cv := j32_inj ka kb
    exact lv_icmp_eq hX.1 hX.2.1 hd ht (fun q => hk ls st h nc ns (hK.1 (cv.mp q)) hl (jtl (jtl hs)) H locs lsM hH hlo hL) (fun q => hk2 ls st h nc ns (hK.2 (fun z => q (cv.mpr z))) hl (jtl (jtl hs)) H locs lsM hH hlo hL)
  · exact hK.elim
def ji_if_eq  (K K2 : jjP) : jjP := fun ls st h nc ns => match st with
  | .inl a :: st => ((a = 0) → K ls st h nc ns) ∧ ((¬ (a = 0)) → K2 ls st h nc ns)
  | _ => False
theorem js_if_eq (hX : jX e p ev R s m args below meth c cc nL own Qm)  {K2 : jjP} {off : Int} {tgt : Nat} (hd : decode cc pc = .ok (.ifCond .eq off, 3)) (ht : (pc : Int) + off = (tgt : Int)) (hk : jMW e p ev R s m args below meth c nL Qm (tgt) K) (hk2 : jMW e p ev R s m args below meth c nL Qm (pc + 3) K2) : jMW e p ev R s m args below meth c nL Qm (pc) (ji_if_eq  K K2) := by
  intro ls st h nc ns hK
  unfold ji_if_eq at hK
  split at hK
  · rename_i a st
    intro hl hs H locs lsM hH hlo hL
    have ka : inI a := jhd hs
    have kb : inI 0 := by unfold inI; omega
    have cv := j32_inj ka kb
    exact lv_if_eq hX.1 hX.2.1 hd ht (fun q => hk ls st h nc ns (hK.1 (cv.mp q)) hl (jtl hs) H locs lsM hH hlo hL) (fun q => hk2 ls st h nc ns (hK.2 (fun z => q (cv.mpr z))) hl (jtl hs) H locs lsM hH hlo hL)
  · exact hK.elim
def ji_icmp_ne  (K K2 : jjP) : jjP := fun ls st h nc ns => match st with
  | .inl b :: .inl a :: st => ((¬ a = b) → K ls st h nc ns) ∧ ((a = b) → K2 ls st h nc ns)
  | _ => False
theorem js_icmp_ne (hX : jX e p ev R s m args below meth c cc nL own Qm)  {K2 : jjP} {off : Int} {tgt : Nat} (hd : decode cc pc = .ok (.if_icmp .ne off, 3)) (ht : (pc : Int) + off = (tgt : Int)) (hk : jMW e p ev R s m args below meth c nL Qm (tgt) K) (hk2 : jMW e p ev R s m args below meth c nL Qm (pc + 3) K2) : jMW e p ev R s m args below meth c nL Qm (pc) (ji_icmp_ne  K K2) := by
  intro ls st h nc ns hK
  unfold ji_icmp_ne at hK
  split at hK
  · rename_i b a st
    intro hl hs H locs lsM hH hlo hL
    have kb : inI b := jhd hs
    have ka : inI a := jhd (jtl hs)
    have cv := not_congr (j32_inj ka kb)
    exact lv_icmp_ne hX.1 hX.2.1 hd ht (fun q => hk ls st h nc ns (hK.1 (cv.mp q)) hl (jtl (jtl hs)) H locs lsM hH hlo hL) (fun q => hk2 ls st h nc ns (hK.2 ((j32_inj ka kb).mp q)) hl (jtl (jtl hs)) H locs lsM hH hlo hL)
  · exact hK.elim
def ji_if_ne  (K K2 : jjP) : jjP := fun ls st h nc ns => match st with
  | .inl a :: st => ((¬ a = 0) → K ls st h nc ns) ∧ ((a = 0) → K2 ls st h nc ns)
  | _ => False
theorem js_if_ne (hX : jX e p ev R s m args below meth c cc nL own Qm)  {K2 : jjP} {off : Int} {tgt : Nat} (hd : decode cc pc = .ok (.ifCond .ne off, 3)) (ht : (pc : Int) + off = (tgt : Int)) (hk : jMW e p ev R s m args below meth c nL Qm (tgt) K) (hk2 : jMW e p ev R s m args below meth c nL Qm (pc + 3) K2) : jMW e p ev R s m args below meth c nL Qm (pc) (ji_if_ne  K K2) := by
  intro ls st h nc ns hK
  unfold ji_if_ne at hK
  split at hK
  · rename_i a st
    intro hl hs H locs lsM hH hlo hL
    have ka : inI a := jhd hs
    have kb : inI 0 := by unfold inI; omega
    have cv := not_congr (j32_inj ka kb)
    exact lv_if_ne hX.1 hX.2.1 hd ht (fun q => hk ls st h nc ns (hK.1 (cv.mp q)) hl (jtl hs) H locs lsM hH hlo hL) (fun q => hk2 ls st h nc ns (hK.2 ((j32_inj ka kb).mp q)) hl (jtl hs) H locs lsM hH hlo hL)
  · exact hK.elim
def ji_icmp_lt  (K K2 : jjP) : jjP := fun ls st h nc ns => match st with
  | .inl b :: .inl a :: st => ((a < b) → K ls st h nc ns) ∧ ((¬ (a < b)) → K2 ls st h nc ns)
  | _ => False
theorem js_icmp_lt (hX : jX e p ev R s m args below meth c cc nL own Qm)  {K2 : jjP} {off : Int} {tgt : Nat} (hd : decode cc pc = .ok (.if_icmp .lt off, 3)) (ht : (pc : Int) + off = (tgt : Int)) (hk : jMW e p ev R s m args below meth c nL Qm (tgt) K) (hk2 : jMW e p ev R s m args below meth c nL Qm (pc + 3) K2) : jMW e p ev R s m args below meth c nL Qm (pc) (ji_icmp_lt  K K2) := by
  intro ls st h nc ns hK
  unfold ji_icmp_lt at hK
  split at hK
  · rename_i b a st
    intro hl hs H locs lsM hH hlo hL
    have kb : inI b := jhd hs
    have ka : inI a := jhd (jtl hs)
    have cv := j32_lt ka kb
    exact lv_icmp_lt hX.1 hX.2.1 hd ht (fun q => hk ls st h nc ns (hK.1 (cv.mp q)) hl (jtl (jtl hs)) H locs lsM hH hlo hL) (fun q => hk2 ls st h nc ns (hK.2 (fun z => q (cv.mpr z))) hl (jtl (jtl hs)) H locs lsM hH hlo hL)
  · exact hK.elim
def ji_if_lt  (K K2 : jjP) : jjP := fun ls st h nc ns => match st with
  | .inl a :: st => ((a < 0) → K ls st h nc ns) ∧ ((¬ (a < 0)) → K2 ls st h nc ns)
  | _ => False
theorem js_if_lt (hX : jX e p ev R s m args below meth c cc nL own Qm)  {K2 : jjP} {off : Int} {tgt : Nat} (hd : decode cc pc = .ok (.ifCond .lt off, 3)) (ht : (pc : Int) + off = (tgt : Int)) (hk : jMW e p ev R s m args below meth c nL Qm (tgt) K) (hk2 : jMW e p ev R s m args below meth c nL Qm (pc + 3) K2) : jMW e p ev R s m args below meth c nL Qm (pc) (ji_if_lt  K K2) := by
  intro ls st h nc ns hK
  unfold ji_if_lt at hK
  split at hK
  · rename_i a st
    intro hl hs H locs lsM hH hlo hL
    have ka : inI a := jhd hs
    have kb : inI 0 := by unfold inI; omega
    have cv := j32_lt ka kb
    exact lv_if_lt hX.1 hX.2.1 hd ht (fun q => hk ls st h nc ns (hK.1 (cv.mp q)) hl (jtl hs) H locs lsM hH hlo hL) (fun q => hk2 ls st h nc ns (hK.2 (fun z => q (cv.mpr z))) hl (jtl hs) H locs lsM hH hlo hL)
  · exact hK.elim
def ji_icmp_ge  (K K2 : jjP) : jjP := fun ls st h nc ns => match st with
  | .inl b :: .inl a :: st => ((b ≤ a) → K ls st h nc ns) ∧ ((¬ (b ≤ a)) → K2 ls st h nc ns)
  | _ => False
theorem js_icmp_ge (hX : jX e p ev R s m args below meth c cc nL own Qm)  {K2 : jjP} {off : Int} {tgt : Nat} (hd : decode cc pc = .ok (.if_icmp .ge off, 3)) (ht : (pc : Int) + off = (tgt : Int)) (hk : jMW e p ev R s m args below meth c nL Qm (tgt) K) (hk2 : jMW e p ev R s m args below meth c nL Qm (pc + 3) K2) : jMW e p ev R s m args below meth c nL Qm (pc) (ji_icmp_ge  K K2) := by
  intro ls st h nc ns hK
  unfold ji_icmp_ge at hK
  split at hK
  · rename_i b a st
    intro hl hs H locs lsM hH hlo hL
    have kb : inI b := jhd hs
    have ka : inI a := jhd (jtl hs)
    have cv := j32_le kb ka
    exact lv_icmp_ge hX.1 hX.2.1 hd ht (fun q => hk ls st h nc ns (hK.1 (cv.mp q)) hl (jtl (jtl hs)) H locs lsM hH hlo hL) (fun q => hk2 ls st h nc ns (hK.2 (fun z => q (cv.mpr z))) hl (jtl (jtl hs)) H locs lsM hH hlo hL)
  · exact hK.elim
def ji_if_ge  (K K2 : jjP) : jjP := fun ls st h nc ns => match st with
  | .inl a :: st => ((0 ≤ a) → K ls st h nc ns) ∧ ((¬ (0 ≤ a)) → K2 ls st h nc ns)
  | _ => False
theorem js_if_ge (hX : jX e p ev R s m args below meth c cc nL own Qm)  {K2 : jjP} {off : Int} {tgt : Nat} (hd : decode cc pc = .ok (.ifCond .ge off, 3)) (ht : (pc : Int) + off = (tgt : Int)) (hk : jMW e p ev R s m args below meth c nL Qm (tgt) K) (hk2 : jMW e p ev R s m args below meth c nL Qm (pc + 3) K2) : jMW e p ev R s m args below meth c nL Qm (pc) (ji_if_ge  K K2) := by
  intro ls st h nc ns hK
  unfold ji_if_ge at hK
  split at hK
  · rename_i a st
    intro hl hs H locs lsM hH hlo hL
    have ka : inI a := jhd hs
    have kb : inI 0 := by unfold inI; omega
    have cv := j32_le kb ka
    exact lv_if_ge hX.1 hX.2.1 hd ht (fun q => hk ls st h nc ns (hK.1 (cv.mp q)) hl (jtl hs) H locs lsM hH hlo hL) (fun q => hk2 ls st h nc ns (hK.2 (fun z => q (cv.mpr z))) hl (jtl hs) H locs lsM hH hlo hL)
  · exact hK.elim
def ji_icmp_gt  (K K2 : jjP) : jjP := fun ls st h nc ns => match st with
  | .inl b :: .inl a :: st => ((b < a) → K ls st h nc ns) ∧ ((¬ (b < a)) → K2 ls st h nc ns)
  | _ => False
theorem js_icmp_gt (hX : jX e p ev R s m args below meth c cc nL own Qm)  {K2 : jjP} {off : Int} {tgt : Nat} (hd : decode cc pc = .ok (.if_icmp .gt off, 3)) (ht : (pc : Int) + off = (tgt : Int)) (hk : jMW e p ev R s m args below meth c nL Qm (tgt) K) (hk2 : jMW e p ev R s m args below meth c nL Qm (pc + 3) K2) : jMW e p ev R s m args below meth c nL Qm (pc) (ji_icmp_gt  K K2) := by
  intro ls st h nc ns hK
  unfold ji_icmp_gt at hK
  split at hK
  · rename_i b a st
    intro hl hs H locs lsM hH hlo hL
    have kb : inI b := jhd hs
    have ka : inI a := jhd (jtl hs)
    have cv := j32_lt kb ka
    exact lv_icmp_gt hX.1 hX.2.1 hd ht (fun q => hk ls st h nc ns (hK.1 (cv.mp q)) hl (jtl (jtl hs)) H locs lsM hH hlo hL) (fun q => hk2 ls st h nc ns (hK.2 (fun z => q (cv.mpr z))) hl (jtl (jtl hs)) H locs lsM hH hlo hL)
  · exact hK.elim
def ji_if_gt  (K K2 : jjP) : jjP := fun ls st h nc ns => match st with
  | .inl a :: st => ((0 < a) → K ls st h nc ns) ∧ ((¬ (0 < a)) → K2 ls st h nc ns)
  | _ => False
theorem js_if_gt (hX : jX e p ev R s m args below meth c cc nL own Qm)  {K2 : jjP} {off : Int} {tgt : Nat} (hd : decode cc pc = .ok (.ifCond .gt off, 3)) (ht : (pc : Int) + off = (tgt : Int)) (hk : jMW e p ev R s m args below meth c nL Qm (tgt) K) (hk2 : jMW e p ev R s m args below meth c nL Qm (pc + 3) K2) : jMW e p ev R s m args below meth c nL Qm (pc) (ji_if_gt  K K2) := by
  intro ls st h nc ns hK
  unfold ji_if_gt at hK
  split at hK
  · rename_i a st
    intro hl hs H locs lsM hH hlo hL
    have ka : inI a := jhd hs
    have kb : inI 0 := by unfold inI; omega
    have cv := j32_lt kb ka
    exact lv_if_gt hX.1 hX.2.1 hd ht (fun q => hk ls st h nc ns (hK.1 (cv.mp q)) hl (jtl hs) H locs lsM hH hlo hL) (fun q => hk2 ls st h nc ns (hK.2 (fun z => q (cv.mpr z))) hl (jtl hs) H locs lsM hH hlo hL)
  · exact hK.elim
def ji_icmp_le  (K K2 : jjP) : jjP := fun ls st h nc ns => match st with
  | .inl b :: .inl a :: st => ((a ≤ b) → K ls st h nc ns) ∧ ((¬ (a ≤ b)) → K2 ls st h nc ns)
  | _ => False
theorem js_icmp_le (hX : jX e p ev R s m args below meth c cc nL own Qm)  {K2 : jjP} {off : Int} {tgt : Nat} (hd : decode cc pc = .ok (.if_icmp .le off, 3)) (ht : (pc : Int) + off = (tgt : Int)) (hk : jMW e p ev R s m args below meth c nL Qm (tgt) K) (hk2 : jMW e p ev R s m args below meth c nL Qm (pc + 3) K2) : jMW e p ev R s m args below meth c nL Qm (pc) (ji_icmp_le  K K2) := by
  intro ls st h nc ns hK
  unfold ji_icmp_le at hK
  split at hK
  · rename_i b a st
    intro hl hs H locs lsM hH hlo hL
    have kb : inI b := jhd hs
    have ka : inI a := jhd (jtl hs)
    have cv := j32_le ka kb
    exact lv_icmp_le hX.1 hX.2.1 hd ht (fun q => hk ls st h nc ns (hK.1 (cv.mp q)) hl (jtl (jtl hs)) H locs lsM hH hlo hL) (fun q => hk2 ls st h nc ns (hK.2 (fun z => q (cv.mpr z))) hl (jtl (jtl hs)) H locs lsM hH hlo hL)
  · exact hK.elim
def ji_if_le  (K K2 : jjP) : jjP := fun ls st h nc ns => match st with
  | .inl a :: st => ((a ≤ 0) → K ls st h nc ns) ∧ ((¬ (a ≤ 0)) → K2 ls st h nc ns)
  | _ => False
theorem js_if_le (hX : jX e p ev R s m args below meth c cc nL own Qm)  {K2 : jjP} {off : Int} {tgt : Nat} (hd : decode cc pc = .ok (.ifCond .le off, 3)) (ht : (pc : Int) + off = (tgt : Int)) (hk : jMW e p ev R s m args below meth c nL Qm (tgt) K) (hk2 : jMW e p ev R s m args below meth c nL Qm (pc + 3) K2) : jMW e p ev R s m args below meth c nL Qm (pc) (ji_if_le  K K2) := by
  intro ls st h nc ns hK
  unfold ji_if_le at hK
  split at hK
  · rename_i a st
    intro hl hs H locs lsM hH hlo hL
    have ka : inI a := jhd hs
    have kb : inI 0 := by unfold inI; omega
    have cv := j32_le ka kb
    exact lv_if_le hX.1 hX.2.1 hd ht (fun q => hk ls st h nc ns (hK.1 (cv.mp q)) hl (jtl hs) H locs lsM hH hlo hL) (fun q => hk2 ls st h nc ns (hK.2 (fun z => q (cv.mpr z))) hl (jtl hs) H locs lsM hH hlo hL)
  · exact hK.elim
def ji_ifnull  (K K2 : jjP) : jjP := fun ls st h nc ns => match st with
  | .inr (.inr a) :: st => ((a = 0) → K ls st h nc ns) ∧ ((¬ a = 0) → K2 ls st h nc ns)
  | _ => False
theorem js_ifnull (hX : jX e p ev R s m args below meth c cc nL own Qm)  {K2 : jjP} {off : Int} {tgt : Nat} (hd : decode cc pc = .ok (.ifnull off, 3)) (ht : (pc : Int) + off = (tgt : Int)) (hk : jMW e p ev R s m args below meth c nL Qm (tgt) K) (hk2 : jMW e p ev R s m args below meth c nL Qm (pc + 3) K2) : jMW e p ev R s m args below meth c nL Qm (pc) (ji_ifnull  K K2) := by
  intro ls st h nc ns hK
  unfold ji_ifnull at hK
  split at hK
  · rename_i a st
    intro hl hs H locs lsM hH hlo hL
    show W p e.1.1 ev R s m args below meth c H locs nc ns Qm (F0 m pc lsM (jrv e.1 a :: st.map (jtv e.1)))
    rcases jrv_cases e.1 a with ⟨q0, q⟩ | ⟨q0, q⟩
    · rw [q]; exact lv_ifnullN hX.1 hX.2.1 hd ht (hk ls st h nc ns (hK.1 q0) hl (jtl hs) H locs lsM hH hlo hL)
    · rw [q]; exact lv_ifnull hX.1 hX.2.1 hd (hk2 ls st h nc ns (hK.2 q0) hl (jtl hs) H locs lsM hH hlo hL)
  · exact hK.elim
def ji_ifnonnull  (K K2 : jjP) : jjP := fun ls st h nc ns => match st with
  | .inr (.inr a) :: st => ((¬ a = 0) → K ls st h nc ns) ∧ ((a = 0) → K2 ls st h nc ns)
  | _ => False
theorem js_ifnonnull (hX : jX e p ev R s m args below meth c cc nL own Qm)  {K2 : jjP} {off : Int} {tgt : Nat} (hd : decode cc pc = .ok (.ifnonnull off, 3)) (ht : (pc : Int) + off = (tgt : Int)) (hk : jMW e p ev R s m args below meth c nL Qm (tgt) K) (hk2 : jMW e p ev R s m args below meth c nL Qm (pc + 3) K2) : jMW e p ev R s m args below meth c nL Qm (pc) (ji_ifnonnull  K K2) := by
  intro ls st h nc ns hK
  unfold ji_ifnonnull at hK
  split at hK
  · rename_i a st
    intro hl hs H locs lsM hH hlo hL
    show W p e.1.1 ev R s m args below meth c H locs nc ns Qm (F0 m pc lsM (jrv e.1 a :: st.map (jtv e.1)))
    rcases jrv_cases e.1 a with ⟨q0, q⟩ | ⟨q0, q⟩
    · rw [q]; exact lv_ifnonnullN hX.1 hX.2.1 hd (hk2 ls st h nc ns (hK.2 q0) hl (jtl hs) H locs lsM hH hlo hL)
    · rw [q]; exact lv_ifnonnull hX.1 hX.2.1 hd ht (hk ls st h nc ns (hK.1 q0) hl (jtl hs) H locs lsM hH hlo hL)
  · exact hK.elim
end JS
