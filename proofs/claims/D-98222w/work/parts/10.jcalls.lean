/-! ===== contracts, calls, returns ===== -/
set_option maxRecDepth 100000
def jPc (g : jjG) (as : List jjV) (h : jjH) : Array Value → State → Prop := fun a U => a = (as.map (jtv g)).toArray ∧ (∀ v ∈ as, jokv v) ∧ jHR g U h U.heap ∧ jGK g U
def jQc (g : jjG) (Q : jjQ) : Array Value → State → Outcome → State → Prop := fun _ _ o t => ∃ (r : Option jjV) (h : jjH), Q (.inl r) h ∧ o = .returned (r.map (jtv g)) ∧ (∀ v, r = some v → jokv v) ∧ jHR g t h t.heap
def jXC (g : jjG) (Q : jjQ) : String → Addr → State → State → Prop := fun _ q _ t => ∃ (a : Int) (h : jjH), Q (.inr a) h ∧ q = jadr g a ∧ jok h.2 a 5 ∧ 400 ≤ a ∧ jHR g t h t.heap
def jQm (e : jjE) (below : List Frame) (args : Array Value) (s : State) : State → Prop := vx_MQ below (jQc e.1 e.2.2.2.2) (jXC e.1 e.2.2.2.2) args s e.2.2.1 e.2.2.2.1 (fun q => e.1.2.2.2.1 ≤ q)
/-- THE CONTRACT: method M, called with as in the heap h, at most d frames deep, mc new cells of ms slots, ends as Q says -/
def jmet (g : jjG) (d mc ms : Nat) (M : jjM) (as : List jjV) (h : jjH) (Q : jjQ) : Prop :=
  ∃ d0 mc0 ms0 : Nat, d0 ≤ d ∧ mc0 ≤ mc ∧ ms0 ≤ ms ∧ M.2.2.1 ≤ 40 ∧ vx_Met g.1 M.1 (ws_ M.1 M.2.1 M.2.2.1 M.2.2.2) ({ frames := d0, cells := mc0, slots := ms0, locals := 60 * d0 }) (jPc g as h) (jQc g Q) (jXC g Q) mc0 ms0 (fun q => g.2.2.2.1 ≤ q)
theorem jmet_le {g : jjG} {d mc ms d' mc' ms' : Nat} {M : jjM} {as : List jjV} {h : jjH} {Q : jjQ} (hd : d ≤ d') (hc : mc ≤ mc') (hs : ms ≤ ms') (hm : jmet g d mc ms M as h Q) : jmet g d' mc' ms' M as h Q := by
  obtain ⟨d0, mc0, ms0, h1, h2, h3, h4⟩ := hm
  exact ⟨d0, mc0, ms0, by omega, by omega, by omega, h4⟩
theorem jPc_blind (g : jjG) (as : List jjV) (h : jjH) : FrameBlind (jPc g as h) := by
  intro a U gf mk hp
  obtain ⟨h1, h2, h3, h4⟩ := hp
  exact ⟨h1, h2, jHR.moved (u := U) (U := U.calling gf mk a) (Vm.Alike.refl U.vm) h3, jGK.moved (u := U) (U := U.calling gf mk a) (State.WarmedH.refl U) h4⟩
def jpop : Nat → List jjV → List jjV → Option (List jjV × List jjV)
  | 0, st, acc => some (acc, st)
  | _ + 1, [], _ => none
  | n + 1, x :: st, acc => jpop n st (x :: acc)
theorem jpop_spec : ∀ (n : Nat) (st acc as st' : List jjV), jpop n st acc = some (as, st') → ∃ xs, st = xs ++ st' ∧ as = xs.reverse ++ acc ∧ xs.length = n
  | 0, st, acc, as, st', h => by
    simp only [jpop, Option.some.injEq, Prod.mk.injEq] at h
    exact ⟨[], by simp [h.2], by simp [h.1], rfl⟩
  | n + 1, [], acc, as, st', h => by simp [jpop] at h
  | n + 1, x :: st, acc, as, st', h => by
    obtain ⟨xs, h1, h2, h3⟩ := jpop_spec n st (x :: acc) as st' h
    exact ⟨x :: xs, by simp [h1], by simp [h2], by simp [h3]⟩
def jwt (st : List jjV) : Nat := (st.map fun v => match v with | .inr (.inl _) => 2 | _ => 1).sum
theorem jwt_cat {g : jjG} {st : List jjV} : ((st.map (jtv g)).map fun v => v.category).sum = jwt st := by
  unfold jwt
  rw [List.map_map]
  congr 1
  apply List.map_congr_left
  intro v _
  match v with
  | .inl z => rfl
  | .inr (.inl z) => rfl
  | .inr (.inr z) => exact jtv_cat1 (fun z' q => by cases q)
/-- what a call's end is to the caller -/
def jres (e : jjE) (K : jjP) (ls : List (Option jjV)) (st : List jjV) (nc ns : Nat) : jjQ := fun r h => match r with
  | .inl (some v) => K ls (v :: st) h nc ns
  | .inl none => K ls st h nc ns
  | .inr a => jend e (.inr a) h nc ns
section JS
variable {e : jjE} {p : Program} {ev : Env} {R : Room} {s : State} {m : MethodId} {args : Array Value} {below : List Frame} {meth : Method} {c : Code} {cc : ByteArray} {nL : Nat} {own : String} {Qm : State → Prop} {pc : Nat} {K : jjP}
theorem js_after (hX : jX e p ev R s m args below meth c cc nL own Qm) {mc0 ms0 mc ms : Nat} {ls : List (Option jjV)} {st' : List jjV} {st0 : List Value} {a : Array Value} {H : Heap} {locs : List Loc} {nc ns : Nat} {lsM : Array Slot} {len : Nat}
    (hrun : ∀ T : State, T.heap = H → Stand p e.1.1 ev R s m args below meth c T locs nc ns →
    (∃ (v : Option Value) (st₀ t T' : State) (L : List Loc), st₀.heap = H ∧ Stand p e.1.1 ev R s m args below meth c T' (locs ++ L) (nc + mc0) (ns + ms0) ∧ (∀ q ∈ L, e.1.2.2.2.1 ≤ q.base) ∧ T'.heap = t.heap ∧ T'.vm = t.vm ∧ jQc e.1 (jres e K ls st' (nc + mc) (ns + ms)) a st₀ (.returned v) t ∧
      Goes p ev below T (F0 m pc lsM st0) T' (F0 m (pc + len) lsM (v.toList ++ st'.map (jtv e.1)))) ∨
    (∃ (q : Addr) (st₀ t T' : State) (L : List Loc) (E : String) (ce : Cell), st₀.heap = H ∧ Stand p e.1.1 ev R s m args below meth c T' (locs ++ L) (nc + mc0) (ns + ms0) ∧ (∀ z ∈ L, e.1.2.2.2.1 ≤ z.base) ∧ T'.heap = t.heap ∧ T'.vm = t.vm ∧ jXC e.1 (jres e K ls st' (nc + mc) (ns + ms)) E q st₀ t ∧ t.heap[q]? = some ce ∧ ce.vm = .none ∧ s.vm.findClass E = some ce.cls ∧
      Steps p.tables ev below (T.setTop (F0 m pc lsM st0)) ((T'.setTop (F0 m pc lsM (st'.map (jtv e.1)))).pushFrame (.throwing q))))
    (hmc : mc0 ≤ mc) (hms : ms0 ≤ ms) (hk : jMW e p ev R s m args below meth c nL Qm (pc + len) K) (hls : ∀ v, some v ∈ ls → jokv v) (hs : ∀ v ∈ st', jokv v) (hlo : ∀ z ∈ locs, e.1.2.2.2.1 ≤ z.base) (hL : jLR e.1 nL ls lsM) : W p e.1.1 ev R s m args below meth c H locs nc ns Qm (F0 m pc lsM st0) := by
  intro T hT X
  rcases hrun T hT X with ⟨v, st₀, t, T', L, h0, X', hL', e1, e2, ⟨r, h', hq, hv, hok, hR⟩, st⟩ | ⟨q, st₀, t, T', L, E, ce, h0, X', hLx, e1, e2, ⟨a, h', hq, hqa, hja, h4, hR⟩, hce, hcv, hcl, st⟩
  · have hv : v = r.map (jtv e.1) := by cases hv; rfl
    subst hv
    have hR' : jHR e.1 s h' T'.heap := by
      rw [e1]
      exact jHR.moved (by rw [← e2]; exact X'.warmed.alike.symm) hR
    have hlo' : ∀ z ∈ locs ++ L, e.1.2.2.2.1 ≤ z.base := fun z hz => (List.mem_append.mp hz).elim (hlo z) (hL' z)
    cases r with
    | none =>
      obtain ⟨t2, a1, b1⟩ := W.widen (Nat.add_le_add_left hmc nc) (Nat.add_le_add_left hms ns) (hk ls st' h' _ _ hq hls hs T'.heap _ lsM hR' hlo' hL) T' rfl X'
      exact ⟨t2, st t2 a1, b1⟩
    | some w =>
      obtain ⟨t2, a1, b1⟩ := W.widen (Nat.add_le_add_left hmc nc) (Nat.add_le_add_left hms ns) (hk ls (w :: st') h' _ _ hq hls (jcons (hok w rfl) hs) T'.heap _ lsM hR' hlo' hL) T' rfl X'
      exact ⟨t2, st t2 a1, b1⟩
  · have hR' : jHR e.1 s h' T'.heap := by
      rw [e1]
      exact jHR.moved (by rw [← e2]; exact X'.warmed.alike.symm) hR
    have hlo' : ∀ z ∈ locs ++ L, e.1.2.2.2.1 ≤ z.base := fun z hz => (List.mem_append.mp hz).elim (hlo z) (hLx z)
    subst hqa
    obtain ⟨t2, a1, b1⟩ := vx_widen (Nat.add_le_add_left hmc nc) (Nat.add_le_add_left hms ns) (hX.2.2.2.2.2.2.2 pc lsM (st'.map (jtv e.1)) T'.heap (locs ++ L) _ _ a h' hq hja h4 hR' hlo') T' rfl X'
    exact ⟨t2, st.trans a1, b1⟩
theorem j_room (hX : jX e p ev R s m args below meth c cc nL own Qm) {d0 mc0 ms0 maxL nc ns mc ms : Nat} (hd : d0 ≤ e.2.1) (hm : maxL ≤ 40) (h1 : mc0 ≤ mc) (h2 : ms0 ≤ ms) (h3 : nc + mc ≤ e.2.2.1) (h4 : ns + ms ≤ e.2.2.2.1) : (d0 + 1 ≤ R.frames ∧ 8 + (maxL + 11) + 60 * d0 ≤ R.locals) ∧ (nc + mc0 ≤ R.cells ∧ ns + ms0 ≤ R.slots) := by
  obtain ⟨q1, q2, q3, q4⟩ := hX.2.2.2.2.2.2.1
  exact ⟨⟨by omega, by omega⟩, by omega, by omega⟩
def ji_callV (e : jjE) (M : jjM) (ci : Int) (n : Nat) (K : jjP) : jjP := fun ls st h nc ns => match jpop n st [] with
  | some (.inr (.inr a) :: as, st') => jok h.2 a ci ∧ jwt st' ≤ 8 ∧ ∃ mc ms : Nat, (nc + mc ≤ e.2.2.1 ∧ ns + ms ≤ e.2.2.2.1) ∧ jmet e.1 e.2.1 mc ms M (vR a :: as) h (jres e K ls st' (nc + mc) (ns + ms))
  | _ => False
def ji_callS (e : jjE) (M : jjM) (n : Nat) (K : jjP) : jjP := fun ls st h nc ns => match jpop n st [] with
  | some (as, st') => jwt st' ≤ 8 ∧ ∃ mc ms : Nat, (nc + mc ≤ e.2.2.1 ∧ ns + ms ≤ e.2.2.2.1) ∧ jmet e.1 e.2.1 mc ms M as h (jres e K ls st' (nc + mc) (ns + ms))
  | _ => False
def ji_callI (e : jjE) (M : jjM) (n : Nat) (K : jjP) : jjP := fun ls st h nc ns => match jpop n st [] with
  | some (.inr (.inr a) :: as, st') => 0 < a ∧ jwt st' ≤ 8 ∧ ∃ mc ms : Nat, (nc + mc ≤ e.2.2.1 ∧ ns + ms ≤ e.2.2.2.1) ∧ jmet e.1 e.2.1 mc ms M (vR a :: as) h (jres e K ls st' (nc + mc) (ns + ms))
  | _ => False
/-- through an interface: the receiver's class tells the method -/
def ji_callF (e : jjE) (l : List (Int × jjM)) (n : Nat) (K : jjP) : jjP := fun ls st h nc ns => match jpop n st [] with
  | some (.inr (.inr a) :: as, st') => jwt st' ≤ 8 ∧ ∃ q ∈ l, jok h.2 a q.1 ∧ ∃ mc ms : Nat, (nc + mc ≤ e.2.2.1 ∧ ns + ms ≤ e.2.2.2.1) ∧ jmet e.1 e.2.1 mc ms q.2 (vR a :: as) h (jres e K ls st' (nc + mc) (ns + ms))
  | _ => False
theorem j_stack {g : jjG} {xs st' as : List jjV} (h : as = xs.reverse) : (xs ++ st').map (jtv g) = (as.map (jtv g)).reverse ++ st'.map (jtv g) := by
  subst h
  rw [List.map_append, List.map_reverse, List.reverse_reverse]
theorem j_popok {xs st' as : List jjV} (hs : ∀ v ∈ xs ++ st', jokv v) (h : as = xs.reverse) : (∀ v ∈ as, jokv v) ∧ ∀ v ∈ st', jokv v := by
  subst h
  exact ⟨fun v hv => hs v (List.mem_append_left _ (List.mem_reverse.mp hv)), fun v hv => hs v (List.mem_append_right _ hv)⟩
theorem j_monR {g : jjG} {lsM : Array Slot} {st : List Value} {st' : List jjV} (h : jwt st' ≤ 8) : 2 * (F0 m pc lsM st).monitorRoom + ((st'.map (jtv g)).map fun v => v.category).sum ≤ 8 := by
  exact lv_room (st := st'.map (jtv g)) (rest := st) (by rw [jwt_cat]; exact h)


theorem js_callV (hX : jX e p ev R s m args below meth c cc nL own Qm) (M : jjM) {ci index n : Nat} (r : vw_C) (hr : jclR[ci]? = some r) (hC : r.1 = M.1.cls) (hG : GoodIn lw_all (wsV own index r.1 M.1 (ws_ M.1 M.2.1 M.2.2.1 M.2.2.2))) (hpd : M.1.cls ≠ "java/lang/invoke/MethodHandle" ∧ M.1.cls ≠ "java/lang/invoke/VarHandle" ∧ (parseMethodDescriptor M.1.desc).map (fun d => d.parameters.length) = some n) (hd : decode cc pc = .ok (.invokevirtual index, 3)) (hk : jMW e p ev R s m args below meth c nL Qm (pc + 3) K) : jMW e p ev R s m args below meth c nL Qm (pc) (ji_callV e M ci (n + 1) K) := by
  intro ls st h nc ns hK
  unfold ji_callV at hK
  split at hK
  · rename_i a as st' hpop
    intro hls hs H locs lsM hH hlo hL
    obtain ⟨xs, h1, h2, h3⟩ := jpop_spec _ _ _ _ _ hpop
    rw [List.append_nil] at h2
    subst h1
    obtain ⟨ha, hw, mc, ms, ⟨hmc, hms⟩, d0, mc0, ms0, hd0, hmc0, hms0, hm40, hM⟩ := hK
    obtain ⟨oka, oks⟩ := j_popok hs h2
    obtain ⟨hR1, hR2⟩ := j_room hX hd0 hm40 hmc0 hms0 hmc hms
    have hst : (xs ++ st').map (jtv e.1) = (as.map (jtv e.1)).reverse ++ .ref (jadr e.1 a) :: st'.map (jtv e.1) := by
      have q : jtv e.1 (vR a) = .ref (jadr e.1 a) := jrv_ne ha.1
      rw [j_stack h2, List.map_cons, q]
      simp
    refine js_after hX (mc0 := mc0) (ms0 := ms0) (mc := mc) (ms := ms) (len := 3) (vx_runV (As := as.map (jtv e.1)) (C := r.1) ⟨hX.1, hX.2.1, hX.2.2.1, hX.2.2.2.1, hX.2.2.2.2.1⟩ hM (cwV n hX.2.2.2.2.1 hG rfl rfl rfl ⟨hC.symm, hpd⟩ hR1) ⟨jPc_blind _ _ _, hH.recv hX.2.2.2.2.2.1.1 ha hr, fun U hU hW => ⟨?_, oka, ?_, jGK.moved hW hX.2.2.2.2.2.1⟩⟩ rfl ?_ hL.1 hst (j_monR hw) hd hR2) hmc0 hms0 hk hls oks hlo hL
    · have q : jtv e.1 (vR a) = .ref (jadr e.1 a) := jrv_ne ha.1
      rw [List.map_cons, q]
    · rw [hU]; exact jHR.moved hW.alike hH
    · have := congrArg List.length h2
      simp at this ⊢
      omega
  · exact hK.elim
theorem js_callS (hX : jX e p ev R s m args below meth c cc nL own Qm) (M : jjM) {index n : Nat} (hG : GoodIn lw_all (va_wsS own index M.1 (ws_ M.1 M.2.1 M.2.2.1 M.2.2.2))) (hpd : M.1.cls ≠ "java/lang/invoke/MethodHandle" ∧ M.1.cls ≠ "java/lang/invoke/VarHandle" ∧ (parseMethodDescriptor M.1.desc).map (fun d => d.parameters.length) = some n) (hd : decode cc pc = .ok (.invokestatic index, 3)) (hk : jMW e p ev R s m args below meth c nL Qm (pc + 3) K) : jMW e p ev R s m args below meth c nL Qm (pc) (ji_callS e M n K) := by
  intro ls st h nc ns hK
  unfold ji_callS at hK
  split at hK
  · rename_i as st' hpop
    intro hls hs H locs lsM hH hlo hL
    obtain ⟨xs, h1, h2, h3⟩ := jpop_spec _ _ _ _ _ hpop
    rw [List.append_nil] at h2
    subst h1
    obtain ⟨hw, mc, ms, ⟨hmc, hms⟩, d0, mc0, ms0, hd0, hmc0, hms0, hm40, hM⟩ := hK
    obtain ⟨oka, oks⟩ := j_popok hs h2
    obtain ⟨hR1, hR2⟩ := j_room hX hd0 hm40 hmc0 hms0 hmc hms
    have hst : (xs ++ st').map (jtv e.1) = (as.map (jtv e.1)).reverse ++ st'.map (jtv e.1) := j_stack h2
    refine js_after hX (mc0 := mc0) (ms0 := ms0) (mc := mc) (ms := ms) (len := 3) (vx_runS (As := as.map (jtv e.1)) ⟨hX.1, hX.2.1, hX.2.2.1, hX.2.2.2.1, hX.2.2.2.2.1⟩ hM (va_cwS n hX.2.2.2.2.1 hG rfl rfl rfl hpd hR1) ⟨jPc_blind _ _ _, fun U hU hW => ⟨rfl, oka, ?_, jGK.moved hW hX.2.2.2.2.2.1⟩⟩ rfl ?_ hL.1 hst (j_monR hw) hd hR2) hmc0 hms0 hk hls oks hlo hL
    · rw [hU]; exact jHR.moved hW.alike hH
    · rw [List.length_map, h2, List.length_reverse]; exact h3
  · exact hK.elim
/-- a static method of a nest mate -/
theorem js_callSN (hX : jX e p ev R s m args below meth c cc nL own Qm) (M : jjM) {index n : Nat} {host : String} (hl : Cond.methodLinkNest own index M.1 host ∈ lw_tbl) (hst0 : Cond.static M.1 ∈ lw_all) (hini : Cond.initialized M.1.cls ∈ lw_all) (hG : GoodIn lw_all (ws_ M.1 M.2.1 M.2.2.1 M.2.2.2)) (hpd : M.1.cls ≠ "java/lang/invoke/MethodHandle" ∧ M.1.cls ≠ "java/lang/invoke/VarHandle" ∧ (parseMethodDescriptor M.1.desc).map (fun d => d.parameters.length) = some n) (hd : decode cc pc = .ok (.invokestatic index, 3)) (hk : jMW e p ev R s m args below meth c nL Qm (pc + 3) K) : jMW e p ev R s m args below meth c nL Qm (pc) (ji_callS e M n K) := by
  intro ls st h nc ns hK
  unfold ji_callS at hK
  split at hK
  · rename_i as st' hpop
    intro hls hs H locs lsM hH hlo hL
    obtain ⟨xs, h1, h2, h3⟩ := jpop_spec _ _ _ _ _ hpop
    rw [List.append_nil] at h2
    subst h1
    obtain ⟨hw, mc, ms, ⟨hmc, hms⟩, d0, mc0, ms0, hd0, hmc0, hms0, hm40, hM⟩ := hK
    obtain ⟨oka, oks⟩ := j_popok hs h2
    obtain ⟨hR1, hR2⟩ := j_room hX hd0 hm40 hmc0 hms0 hmc hms
    have hst : (xs ++ st').map (jtv e.1) = (as.map (jtv e.1)).reverse ++ st'.map (jtv e.1) := j_stack h2
    refine js_after hX (mc0 := mc0) (ms0 := ms0) (mc := mc) (ms := ms) (len := 3) (vx_runSN (As := as.map (jtv e.1)) (host := host) ⟨hX.1, hX.2.1, hX.2.2.1, hX.2.2.2.1, hX.2.2.2.2.1⟩ hM ⟨va_cnB n hX.2.2.2.2.1 hG rfl rfl rfl (hX.2.2.2.2.2.1.2.2.1 _ hl rfl) (hX.2.2.2.2.1 _ hini) hpd hR1, hX.2.2.2.2.1 _ hst0, trivial⟩ ⟨jPc_blind _ _ _, fun U hU hW => ⟨rfl, oka, ?_, jGK.moved hW hX.2.2.2.2.2.1⟩⟩ rfl ?_ hL.1 hst (j_monR hw) hd hR2) hmc0 hms0 hk hls oks hlo hL
    · rw [hU]; exact jHR.moved hW.alike hH
    · rw [List.length_map, h2, List.length_reverse]; exact h3
  · exact hK.elim
theorem js_callI (hX : jX e p ev R s m args below meth c cc nL own Qm) (M : jjM) {index n : Nat} (hl : Cond.methodLink own index M.1 ∈ lw_all) (hin : Cond.instanceMethod M.1 ∈ lw_all) (hini : Cond.initialized M.1.cls ∈ lw_all) (hG : GoodIn lw_all (ws_ M.1 M.2.1 M.2.2.1 M.2.2.2)) (hret : M.2.2.2 = none) (hnm : M.1.name = "<init>") (hpd : M.1.cls ≠ "java/lang/invoke/MethodHandle" ∧ M.1.cls ≠ "java/lang/invoke/VarHandle" ∧ (parseMethodDescriptor M.1.desc).map (fun d => d.parameters.length) = some n) (hd : decode cc pc = .ok (.invokespecial index, 3)) (hk : jMW e p ev R s m args below meth c nL Qm (pc + 3) K) : jMW e p ev R s m args below meth c nL Qm (pc) (ji_callI e M (n + 1) K) := by
  intro ls st h nc ns hK
  unfold ji_callI at hK
  split at hK
  · rename_i a as st' hpop
    intro hls hs H locs lsM hH hlo hL
    obtain ⟨xs, h1, h2, h3⟩ := jpop_spec _ _ _ _ _ hpop
    rw [List.append_nil] at h2
    subst h1
    obtain ⟨ha, hw, mc, ms, ⟨hmc, hms⟩, d0, mc0, ms0, hd0, hmc0, hms0, hm40, hM⟩ := hK
    obtain ⟨oka, oks⟩ := j_popok hs h2
    obtain ⟨hR1, hR2⟩ := j_room hX hd0 hm40 hmc0 hms0 hmc hms
    obtain ⟨y, bytes, maxL, ret⟩ := M
    dsimp only at hret hM hG hl hin hini hnm hpd
    subst hret
    have q : jtv e.1 (vR a) = .ref (jadr e.1 a) := jrv_ne ha
    have hst : (xs ++ st').map (jtv e.1) = (as.map (jtv e.1)).reverse ++ .ref (jadr e.1 a) :: st'.map (jtv e.1) := by
      rw [j_stack h2, List.map_cons, q]
      simp
    refine js_after hX (mc0 := mc0) (ms0 := ms0) (mc := mc) (ms := ms) (len := 3) (vx_runI (As := as.map (jtv e.1)) ⟨hX.1, hX.2.1, hX.2.2.1, hX.2.2.2.1, hX.2.2.2.2.1⟩ hM (cwI n hX.2.2.2.2.1 hG rfl rfl rfl (hX.2.2.2.2.1 _ hini) (hX.2.2.2.2.1 _ hl) (hX.2.2.2.2.1 _ hin) hnm hpd hR1) ⟨jPc_blind _ _ _, fun U hU hW => ⟨?_, oka, ?_, jGK.moved hW hX.2.2.2.2.2.1⟩⟩ rfl ?_ hL.1 hst (j_monR hw) hd hR2) hmc0 hms0 hk hls oks hlo hL
    · rw [List.map_cons, q]
    · rw [hU]; exact jHR.moved hW.alike hH
    · have := congrArg List.length h2
      simp at this ⊢
      omega
  · exact hK.elim
/-- a private constructor of a nest mate -/
theorem js_callIN (hX : jX e p ev R s m args below meth c cc nL own Qm) (M : jjM) {index n : Nat} {host : String} (hl : Cond.methodLinkNest own index M.1 host ∈ lw_tbl) (hin : Cond.instanceMethod M.1 ∈ lw_all) (hini : Cond.initialized M.1.cls ∈ lw_all) (hG : GoodIn lw_all (ws_ M.1 M.2.1 M.2.2.1 M.2.2.2)) (hret : M.2.2.2 = none) (hnm : M.1.name = "<init>") (hpd : M.1.cls ≠ "java/lang/invoke/MethodHandle" ∧ M.1.cls ≠ "java/lang/invoke/VarHandle" ∧ (parseMethodDescriptor M.1.desc).map (fun d => d.parameters.length) = some n) (hd : decode cc pc = .ok (.invokespecial index, 3)) (hk : jMW e p ev R s m args below meth c nL Qm (pc + 3) K) : jMW e p ev R s m args below meth c nL Qm (pc) (ji_callI e M (n + 1) K) := by
  intro ls st h nc ns hK
  unfold ji_callI at hK
  split at hK
  · rename_i a as st' hpop
    intro hls hs H locs lsM hH hlo hL
    obtain ⟨xs, h1, h2, h3⟩ := jpop_spec _ _ _ _ _ hpop
    rw [List.append_nil] at h2
    subst h1
    obtain ⟨ha, hw, mc, ms, ⟨hmc, hms⟩, d0, mc0, ms0, hd0, hmc0, hms0, hm40, hM⟩ := hK
    obtain ⟨oka, oks⟩ := j_popok hs h2
    obtain ⟨hR1, hR2⟩ := j_room hX hd0 hm40 hmc0 hms0 hmc hms
    obtain ⟨y, bytes, maxL, ret⟩ := M
    dsimp only at hret hM hG hl hin hini hnm hpd
    subst hret
    have q : jtv e.1 (vR a) = .ref (jadr e.1 a) := jrv_ne ha
    have hst : (xs ++ st').map (jtv e.1) = (as.map (jtv e.1)).reverse ++ .ref (jadr e.1 a) :: st'.map (jtv e.1) := by
      rw [j_stack h2, List.map_cons, q]
      simp
    refine js_after hX (mc0 := mc0) (ms0 := ms0) (mc := mc) (ms := ms) (len := 3) (vx_runIN (As := as.map (jtv e.1)) (host := host) ⟨hX.1, hX.2.1, hX.2.2.1, hX.2.2.2.1, hX.2.2.2.2.1⟩ hM ⟨va_cnB n hX.2.2.2.2.1 hG rfl rfl rfl (hX.2.2.2.2.2.1.2.2.1 _ hl rfl) (hX.2.2.2.2.1 _ hini) hpd hR1, hnm, hX.2.2.2.2.1 _ hin⟩ ⟨jPc_blind _ _ _, fun U hU hW => ⟨?_, oka, ?_, jGK.moved hW hX.2.2.2.2.2.1⟩⟩ rfl ?_ hL.1 hst (j_monR hw) hd hR2) hmc0 hms0 hk hls oks hlo hL
    · rw [List.map_cons, q]
    · rw [hU]; exact jHR.moved hW.alike hH
    · have := congrArg List.length h2
      simp at this ⊢
      omega
  · exact hK.elim
theorem js_callF (hX : jX e p ev R s m args below meth c cc nL own Qm) (x : MethodName) {index n count : Nat} {l : List (Nat × jjM)} (hl : ∀ q ∈ l, ∃ (r : vw_C), jcl[q.1]? = some r ∧ GoodIn lw_all (va_wsF own index r.1 x q.2.1 (ws_ q.2.1 q.2.2.1 q.2.2.2.1 q.2.2.2.2)) ∧ (r.1, x, q.2.1) ∈ jnI) (hpd : x.cls ≠ "java/lang/invoke/MethodHandle" ∧ x.cls ≠ "java/lang/invoke/VarHandle" ∧ (parseMethodDescriptor x.desc).map (fun d => d.parameters.length) = some n) (hd : decode cc pc = .ok (.invokeinterface index count, 5)) (hk : jMW e p ev R s m args below meth c nL Qm (pc + 5) K) : jMW e p ev R s m args below meth c nL Qm (pc) (ji_callF e (l.map fun q => ((q.1 : Int), q.2)) (n + 1) K) := by
  intro ls st h nc ns hK
  unfold ji_callF at hK
  split at hK
  · rename_i a as st' hpop
    intro hls hs H locs lsM hH hlo hL
    obtain ⟨xs, h1, h2, h3⟩ := jpop_spec _ _ _ _ _ hpop
    rw [List.append_nil] at h2
    subst h1
    obtain ⟨hw, q0, hq0, ha, mc, ms, ⟨hmc, hms⟩, d0, mc0, ms0, hd0, hmc0, hms0, hm40, hM⟩ := hK
    obtain ⟨q1, hq1, rfl⟩ := List.mem_map.mp hq0
    obtain ⟨r, hr, hG, hnI⟩ := hl q1 hq1
    obtain ⟨oka, oks⟩ := j_popok hs h2
    obtain ⟨hR1, hR2⟩ := j_room hX hd0 hm40 hmc0 hms0 hmc hms
    have q : jtv e.1 (vR a) = .ref (jadr e.1 a) := jrv_ne ha.1
    have hst : (xs ++ st').map (jtv e.1) = (as.map (jtv e.1)).reverse ++ .ref (jadr e.1 a) :: st'.map (jtv e.1) := by
      rw [j_stack h2, List.map_cons, q]
      simp
    refine js_after hX (mc0 := mc0) (ms0 := ms0) (mc := mc) (ms := ms) (len := 5) (vx_runF (As := as.map (jtv e.1)) (C := r.1) (hX.2.2.2.2.2.1.1.1 _ _ hr).2 ⟨hX.1, hX.2.1, hX.2.2.1, hX.2.2.2.1, hX.2.2.2.2.1⟩ hM (va_cwF n hX.2.2.2.2.1 hG rfl rfl rfl (hX.2.2.2.2.2.1.2.2.2.1 _ hnI) hpd hR1) ⟨jPc_blind _ _ _, hH.recv hX.2.2.2.2.2.1.1 ha (jcl_R hr), fun U hU hW => ⟨?_, oka, ?_, jGK.moved hW hX.2.2.2.2.2.1⟩⟩ rfl ?_ hL.1 hst (j_monR hw) hd hR2) hmc0 hms0 hk hls oks hlo hL
    · rw [List.map_cons, q]
    · rw [hU]; exact jHR.moved hW.alike hH
    · have := congrArg List.length h2
      simp at this ⊢
      omega
  · exact hK.elim
/-! returns -/
def ji_ireturn (e : jjE) : jjP := fun ls st h nc ns => match st with
  | [.inl z] => jend e (.inl (some (vI z))) h nc ns
  | _ => False
def ji_zreturn (e : jjE) : jjP := fun ls st h nc ns => match st with
  | [.inl z] => (0 ≤ z ∧ z ≤ 1) ∧ jend e (.inl (some (vI z))) h nc ns
  | _ => False
def ji_nreturn (e : jjE) (ty : FieldType) : jjP := fun ls st h nc ns => match st with
  | [.inl z] => jokf ty z ∧ jend e (.inl (some (vI z))) h nc ns
  | _ => False
def ji_lreturn (e : jjE) : jjP := fun ls st h nc ns => match st with
  | [.inr (.inl z)] => jend e (.inl (some (vL z))) h nc ns
  | _ => False
def ji_areturn (e : jjE) : jjP := fun ls st h nc ns => match st with
  | [.inr (.inr z)] => jend e (.inl (some (vR z))) h nc ns
  | _ => False
def ji_return (e : jjE) : jjP := fun ls st h nc ns => match st with
  | [] => jend e (.inl none) h nc ns
  | _ => False
def ji_athrow (e : jjE) : jjP := fun ls st h nc ns => match st with
  | .inr (.inr a) :: _ => (jok h.2 a 5 ∧ 400 ≤ a) ∧ jend e (.inr a) h nc ns
  | _ => False

theorem js_ireturn (hX : jX e p ev R s m args below meth c cc nL own (jQm e below args s)) (hr : meth.sig.returnType = some .int) (hlk : meth.locks = false) (hd : decode cc pc = .ok (.ireturn, 1)) : jMW e p ev R s m args below meth c nL (jQm e below args s) pc (ji_ireturn e) := by
  intro ls st h nc ns hK
  unfold ji_ireturn at hK
  split at hK
  · rename_i z
    intro hls hs H locs lsM hH hlo hL
    have hq := hK
    refine W.widen hq.1 hq.2.1 (vx_ret ?_)
    exact W.iret (v := Int32.ofInt z) hX.1 hX.2.1 hr (fun t ht hW => ⟨some (vI z), h, hq.2.2, rfl, (fun w q => by cases q; exact jhd hs), by rw [ht]; exact jHR.moved hW.alike hH⟩) hlo hd hlk
  · exact hK.elim
theorem js_zreturn (hX : jX e p ev R s m args below meth c cc nL own (jQm e below args s)) (hr : meth.sig.returnType = some .boolean) (hlk : meth.locks = false) (hd : decode cc pc = .ok (.ireturn, 1)) : jMW e p ev R s m args below meth c nL (jQm e below args s) pc (ji_zreturn e) := by
  intro ls st h nc ns hK
  unfold ji_zreturn at hK
  split at hK
  · rename_i z
    intro hls hs H locs lsM hH hlo hL
    have hq := hK.2
    refine W.widen hq.1 hq.2.1 (vx_ret ?_)
    exact W.zret (v := Int32.ofInt z) hX.1 hX.2.1 hr (j_fit (g := e.1) (ty := .boolean) hK.1 rfl).1 (fun t ht hW => ⟨some (vI z), h, hq.2.2, rfl, (fun w q => by cases q; exact jhd hs), by rw [ht]; exact jHR.moved hW.alike hH⟩) hlo hd hlk
  · exact hK.elim
theorem js_nreturn (hX : jX e p ev R s m args below meth c cc nL own (jQm e below args s)) {ty : FieldType} (hr : meth.sig.returnType = some ty) (hn : ∀ z, jokf ty z → narrow ty (.int (Int32.ofInt z)) = .int (Int32.ofInt z)) (hlk : meth.locks = false) (hd : decode cc pc = .ok (.ireturn, 1)) : jMW e p ev R s m args below meth c nL (jQm e below args s) pc (ji_nreturn e ty) := by
  intro ls st h nc ns hK
  unfold ji_nreturn at hK
  split at hK
  · rename_i z
    intro hls hs H locs lsM hH hlo hL
    have hq := hK.2
    refine W.widen hq.1 hq.2.1 (vx_ret ?_)
    exact W.zret (v := Int32.ofInt z) hX.1 hX.2.1 hr (hn z hK.1) (fun t ht hW => ⟨some (vI z), h, hq.2.2, rfl, (fun w q => by cases q; exact jhd hs), by rw [ht]; exact jHR.moved hW.alike hH⟩) hlo hd hlk
  · exact hK.elim
theorem js_lreturn (hX : jX e p ev R s m args below meth c cc nL own (jQm e below args s)) (hr : meth.sig.returnType = some .long) (hlk : meth.locks = false) (hd : decode cc pc = .ok (.lreturn, 1)) : jMW e p ev R s m args below meth c nL (jQm e below args s) pc (ji_lreturn e) := by
  intro ls st h nc ns hK
  unfold ji_lreturn at hK
  split at hK
  · rename_i z
    intro hls hs H locs lsM hH hlo hL
    have hq := hK
    refine W.widen hq.1 hq.2.1 (vx_ret ?_)
    exact W.lret (v := Int64.ofInt z) hX.1 hX.2.1 hr (fun t ht hW => ⟨some (vL z), h, hq.2.2, rfl, (fun w q => by cases q; exact jhd hs), by rw [ht]; exact jHR.moved hW.alike hH⟩) hlo hd hlk
  · exact hK.elim
theorem js_areturn (hX : jX e p ev R s m args below meth c cc nL own (jQm e below args s)) {rt : FieldType} (hr : meth.sig.returnType = some rt) (hrt : (∃ n, rt = .object n) ∨ ∃ t, rt = .array t) (hlk : meth.locks = false) (hd : decode cc pc = .ok (.areturn, 1)) : jMW e p ev R s m args below meth c nL (jQm e below args s) pc (ji_areturn e) := by
  intro ls st h nc ns hK
  unfold ji_areturn at hK
  split at hK
  · rename_i z
    intro hls hs H locs lsM hH hlo hL
    have hq := hK
    refine W.widen hq.1 hq.2.1 (vx_ret ?_)
    exact W.aret (v := jrv e.1 z) hX.1 hX.2.1 hr hrt (by rcases jrv_cases e.1 z with ⟨-, q⟩ | ⟨-, q⟩ <;> rw [q]; exact Or.inl rfl; exact Or.inr ⟨_, rfl⟩) (fun t ht hW => ⟨some (vR z), h, hq.2.2, rfl, (fun w q => by cases q; exact jhd hs), by rw [ht]; exact jHR.moved hW.alike hH⟩) hlo hd hlk
  · exact hK.elim
theorem js_return (hX : jX e p ev R s m args below meth c cc nL own (jQm e below args s)) (hr : meth.sig.returnType = none) (hlk : meth.locks = false) (hd : decode cc pc = .ok (.return_, 1)) : jMW e p ev R s m args below meth c nL (jQm e below args s) pc (ji_return e) := by
  intro ls st h nc ns hK
  unfold ji_return at hK
  split at hK
  · skip
    intro hls hs H locs lsM hH hlo hL
    have hq := hK
    refine W.widen hq.1 hq.2.1 (vx_ret ?_)
    exact W.vret hX.1 hX.2.1 hr (fun t ht hW => ⟨none, h, hq.2.2, rfl, (fun w q => by cases q), by rw [ht]; exact jHR.moved hW.alike hH⟩) hlo hd hlk
  · exact hK.elim
theorem js_athrow (hX : jX e p ev R s m args below meth c cc nL own Qm) (hd : decode cc pc = .ok (.athrow, 1)) : jMW e p ev R s m args below meth c nL Qm (pc) (ji_athrow e) := by
  intro ls st h nc ns hK
  unfold ji_athrow at hK
  split at hK
  · rename_i a st
    intro hls hs H locs lsM hH hlo hL
    show W p e.1.1 ev R s m args below meth c H locs nc ns Qm (F0 m pc lsM (jrv e.1 a :: st.map (jtv e.1)))
    rw [jrv_ne hK.1.1.1]
    exact vx_athrow hX.1 hX.2.1 hd (hX.2.2.2.2.2.2.2 pc lsM (st.map (jtv e.1)) H locs nc ns a h hK.2 hK.1.1 hK.1.2 hH hlo)
  · exact hK.elim
end JS
/-! ===== a method out of its blocks ===== -/
abbrev jjB : Type := jjE → (Nat → jjP) → Nat → jjP
/-- from block k on, the method comes to its end: the least such (P': steps may be taken under any P that holds more) -/
def jW (bl : jjB) (e : jjE) (k : Nat) : jjP := fun ls st h nc ns =>
  ∀ P : Nat → jjP, (∀ (P' : Nat → jjP) (k : Nat) (ls : List (Option jjV)) (st : List jjV) (h : jjH) (nc ns : Nat), (∀ (k : Nat) (ls : List (Option jjV)) (st : List jjV) (h : jjH) (nc ns : Nat), P' k ls st h nc ns → P k ls st h nc ns) → bl e P' k ls st h nc ns → P k ls st h nc ns) →
    (∀ (k : Nat) (ls ls' : List (Option jjV)) (st : List jjV) (h : jjH) (nc ns : Nat), jsub ls' ls → P k ls' st h nc ns → P k ls st h nc ns) → P k ls st h nc ns
theorem jW_step {bl : jjB} {e : jjE} {k : Nat} {ls : List (Option jjV)} {st : List jjV} {h : jjH} {nc ns : Nat} (hb : bl e (jW bl e) k ls st h nc ns) : jW bl e k ls st h nc ns :=
  fun P h1 h2 => h1 (jW bl e) k ls st h nc ns (fun k ls st h nc ns q => q P h1 h2) hb
theorem jW_sub {bl : jjB} {e : jjE} {k : Nat} {ls ls' : List (Option jjV)} {st : List jjV} {h : jjH} {nc ns : Nat} (hs : jsub ls' ls) (hb : jW bl e k ls' st h nc ns) : jW bl e k ls st h nc ns :=
  fun P h1 h2 => h2 k ls ls' st h nc ns hs (hb P h1 h2)
/-- the blocks tell the truth of the method's code; pcs: where they begin -/
def jSound (bl : jjB) (pcs : Nat → Nat) (M : jjM) : Prop :=
  ∀ (e : jjE) (p : Program) (ev : Env) (R : Room) (s : State) (m : MethodId) (args : Array Value) (below : List Frame) (meth : Method) (c : Code), jX e p ev R s m args below meth c M.2.1 M.2.2.1 M.1.cls (jQm e below args s) → meth.sig.returnType = M.2.2.2 → meth.name = M.1.name → meth.locks = false →
    ∀ K : Nat → jjP, (∀ k, jMW e p ev R s m args below meth c M.2.2.1 (jQm e below args s) (pcs k) (K k)) → ∀ k, jMW e p ev R s m args below meth c M.2.2.1 (jQm e below args s) (pcs k) (bl e K k)
theorem jSound.run {bl : jjB} {pcs : Nat → Nat} {e : jjE} {p : Program} {ev : Env} {R : Room} {s : State} {m : MethodId} {args : Array Value} {below : List Frame} {meth : Method} {c : Code} {nL : Nat} {Qm : State → Prop}
    (hS : ∀ K : Nat → jjP, (∀ k, jMW e p ev R s m args below meth c nL Qm (pcs k) (K k)) → ∀ k, jMW e p ev R s m args below meth c nL Qm (pcs k) (bl e K k)) (k : Nat) : jMW e p ev R s m args below meth c nL Qm (pcs k) (jW bl e k) := by
  intro ls st h nc ns hW
  refine hW (fun k => jM e p ev R s m args below meth c nL Qm (pcs k)) ?_ ?_
  · intro P' k ls st h nc ns hP hb
    exact hS P' (fun k ls st h nc ns q => hP k ls st h nc ns q) k ls st h nc ns hb
  · intro k ls ls' st h nc ns hsub hP hls hs H locs lsM hH hlo hL
    refine hP (fun v hv => ?_) hs H locs lsM hH hlo ⟨hL.1, hL.2.1, fun i v hv => hL.2.2 i v (jsub_get _ _ hsub i v hv)⟩
    obtain ⟨i, hi⟩ := List.getElem?_of_mem hv
    exact hls v (List.mem_of_getElem? (jsub_get _ _ hsub i v hi))
def jent : List jjV → List (Option jjV)
  | [] => []
  | .inr (.inl z) :: vs => some (vL z) :: none :: jent vs
  | .inl z :: vs => some (vI z) :: jent vs
  | .inr (.inr z) :: vs => some (vR z) :: jent vs
theorem jent_ok : ∀ (as : List jjV), (∀ v ∈ as, jokv v) → ∀ v, some v ∈ jent as → jokv v
  | [], _, v, h => by simp [jent] at h
  | .inr (.inl z) :: vs, hs, v, h => by
    simp only [jent, List.mem_cons, Option.some.injEq, reduceCtorEq, false_or] at h
    rcases h with rfl | h
    · exact hs _ List.mem_cons_self
    · exact jent_ok vs (fun w hw => hs w (List.mem_cons_of_mem _ hw)) v h
  | .inl z :: vs, hs, v, h => by
    simp only [jent, List.mem_cons, Option.some.injEq] at h
    rcases h with rfl | h
    · exact hs _ List.mem_cons_self
    · exact jent_ok vs (fun w hw => hs w (List.mem_cons_of_mem _ hw)) v h
  | .inr (.inr z) :: vs, hs, v, h => by
    simp only [jent, List.mem_cons, Option.some.injEq] at h
    rcases h with rfl | h
    · exact hs _ List.mem_cons_self
    · exact jent_ok vs (fun w hw => hs w (List.mem_cons_of_mem _ hw)) v h
theorem jent_args (g : jjG) : ∀ (as : List jjV) (o i : Nat) (v : jjV), (jent as)[i]? = some (some v) → (o + i, jtv g v) ∈ lv_args o (as.map (jtv g))
  | [], o, i, v, h => by simp [jent] at h
  | .inr (.inl z) :: vs, o, i, v, h => by
    show (o + i, jtv g v) ∈ (o, jtv g (vL z)) :: lv_args (o + (jtv g (vL z)).category) (vs.map (jtv g))
    cases i with
    | zero => simp [jent] at h; subst h; exact List.mem_cons_self
    | succ i =>
      cases i with
      | zero => simp [jent] at h
      | succ i =>
        have := jent_args g vs (o + 2) i v (by simpa [jent] using h)
        refine List.mem_cons_of_mem _ ?_
        rw [show o + (i + 1 + 1) = o + 2 + i by omega]
        exact this
  | .inl z :: vs, o, i, v, h => by
    show (o + i, jtv g v) ∈ (o, jtv g (vI z)) :: lv_args (o + (jtv g (vI z)).category) (vs.map (jtv g))
    cases i with
    | zero => simp [jent] at h; subst h; exact List.mem_cons_self
    | succ i =>
      have := jent_args g vs (o + 1) i v (by simpa [jent] using h)
      refine List.mem_cons_of_mem _ ?_
      rw [show o + (i + 1) = o + 1 + i by omega]
      exact this
  | .inr (.inr z) :: vs, o, i, v, h => by
    show (o + i, jtv g v) ∈ (o, jtv g (vR z)) :: lv_args (if (jtv g (vR z)).category = 2 then o + 2 else o + 1) (vs.map (jtv g))
    have hc : (jtv g (vR z)).category = 1 := jtv_cat1 (fun z' q => by cases q)
    rw [hc, if_neg (by decide)]
    cases i with
    | zero => simp [jent] at h; subst h; exact List.mem_cons_self
    | succ i =>
      have := jent_args g vs (o + 1) i v (by simpa [jent] using h)
      refine List.mem_cons_of_mem _ ?_
      rw [show o + (i + 1) = o + 1 + i by omega]
      exact this
theorem jent_len (g : jjG) : ∀ as : List jjV, (lg_sl (as.map (jtv g))).length = (jent as).length
  | [] => rfl
  | .inr (.inl z) :: vs => by
    have := jent_len g vs
    simp only [List.map_cons, lg_sl, List.flatMap_cons, List.length_append, jent, List.length_cons] at this ⊢
    rw [this]
    rw [if_pos (show (jtv g (.inr (.inl z))).category = 2 from rfl)]
    simp; omega
  | .inl z :: vs => by
    have := jent_len g vs
    simp only [List.map_cons, lg_sl, List.flatMap_cons, List.length_append, jent, List.length_cons] at this ⊢
    rw [this]
    rw [if_neg (show ¬ (jtv g (.inl z)).category = 2 by rw [show (jtv g (.inl z)).category = 1 from rfl]; decide)]
    simp; omega
  | .inr (.inr z) :: vs => by
    have := jent_len g vs
    simp only [List.map_cons, lg_sl, List.flatMap_cons, List.length_append, jent, List.length_cons] at this ⊢
    rw [this]
    rw [if_neg (show ¬ (jtv g (.inr (.inr z))).category = 2 by rw [jtv_cat1 (g := g) (fun z' q => by cases q)]; decide)]
    simp; omega
theorem jpad {xs : List (Option jjV)} {n i : Nat} {v : jjV} (h : (xs ++ List.replicate n none)[i]? = some (some v)) : xs[i]? = some (some v) := by
  by_cases hi : i < xs.length
  · rw [List.getElem?_append_left hi] at h; exact h
  · rw [List.getElem?_append_right (by omega), List.getElem?_replicate] at h
    split at h <;> simp at h
/-- a method's contract out of its blocks -/
theorem jmet_of {bl : jjB} {pcs : Nat → Nat} {M : jjM} (hS : jSound bl pcs M) (hp0 : pcs 0 = 0) (hy : plainName M.1.cls = true) (hm : M.2.2.1 ≤ 40) {g : jjG} {d mc ms : Nat} {as : List jjV} {h : jjH} {Q : jjQ} {ls : List (Option jjV)} (hls : jent as ++ List.replicate (M.2.2.1 - (jent as).length) none = ls) (hlen : (jent as).length ≤ M.2.2.1)
    (hW : jW bl (g, d, mc, ms, Q) 0 ls [] h 0 0) : jmet g (d + 1) mc ms M as h Q := by
  subst hls
  refine ⟨d + 1, mc, ms, Nat.le_refl _, Nat.le_refl _, Nat.le_refl _, hm, ?_⟩
  refine vx_ofW (cc := M.2.1) (maxL := M.2.2.1) (ret := M.2.2.2) hy rfl ?_
  intro p ev s m args below meth c s₁ B hml htab hv
  obtain ⟨rfl, hok, hHR, hGK⟩ := hv
  have hts := atoms_spec (ws := ws_ M.1 M.2.1 M.2.2.1 M.2.2.2) B.pre
  have hts : ∀ w ∈ lw_all, w.before _ s = true := fun w h => hts w (List.mem_cons_of_mem _ h)
  have hown : s.vm.findClass M.1.cls = some m.cls := findClass_of_methodNamed B.named
  have hlk := B.notSynchronized
  have hX : jX (g, d, mc, ms, Q) p ev (headSpec (ws_ M.1 M.2.1 M.2.2.1 M.2.2.2) ({ frames := d + 1, cells := mc, slots := ms, locals := 60 * (d + 1) })).room s m (as.map (jtv g)).toArray below meth c M.2.1 M.2.2.1 M.1.cls (jQm (g, d, mc, ms, Q) below (as.map (jtv g)).toArray s) := by
    refine ⟨B.exec, B.bytes, hml, hown, hts, hGK, ⟨Nat.le_refl _, Nat.le_refl _, Nat.le_refl _, Nat.le_refl _⟩, ?_⟩
    intro pc lsM st H locs nc ns a h hj ha h4 hH hlo
    obtain ⟨q1, -⟩ := hH.2.2.2.1 a h4 ha.2.1
    rw [ha.2.2] at q1
    obtain ⟨r', hr', ⟨cell, e1, e2, e3, e4⟩, -⟩ := q1 (by decide)
    have hr5 : (RX5, jT5, 2) = r' := Option.some.inj hr'
    subst hr5
    refine vx_out (E := RX5) (fun x hx => absurd (htab x hx) id) hlk e1 e3 (by rw [e2]; exact (hGK.1.1 5 _ rfl).2.1) (fun t ht hW => ⟨a, h, hj.2.2, rfl, ha, h4, by rw [ht]; exact jHR.moved hW hH⟩) hlo hj.1 hj.2.1
  have hrun := jSound.run (hS _ p ev _ s m _ below meth c hX B.returns (name_of_methodNamed B.named B.method).1 hlk) 0 _ _ _ _ _ hW
  rw [hp0] at hrun
  rw [lg_entry_eq]
  have hl := lv_entry (as.map (jtv g)) (n := M.2.2.1) (by rw [jent_len]; exact hlen)
  refine hrun (fun v hv => ?_) (fun v hv => by cases hv) s.heap [] _ hHR (fun z hz => by cases hz) ⟨hl.1, hl.2.1, fun i v hv => ?_⟩
  · rcases List.mem_append.mp hv with q | q
    · exact jent_ok as hok v q
    · have := (List.mem_replicate.mp q).2
      cases this
  · have q := jent_args g as 0 i v (jpad hv)
    rw [Nat.zero_add] at q
    exact hl.2.2 _ q

