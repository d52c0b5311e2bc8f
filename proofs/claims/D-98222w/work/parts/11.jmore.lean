/-! ===== switches, arraycopy and the like ===== -/
set_option maxRecDepth 100000
theorem jF_ws {own C : String} {idx : Nat} {x y : MethodName} (h1 : Cond.methodLink own idx x ∈ lw_all) (h2 : Cond.selects C x y ∈ lw_all) (h3 : Cond.instanceMethod y ∈ lw_all) (h4 : Cond.initialized y.cls ∈ lw_all) : ∀ w ∈ ([.methodLink own idx x, .selects C x y, .instanceMethod y, .initialized y.cls] : List Cond), w ∈ lw_all := by
  intro w hw
  simp only [List.mem_cons, List.not_mem_nil, or_false] at hw
  rcases hw with e | e | e | e <;> rw [e] <;> assumption
theorem j_narbyte : ∀ z, jokf .byte z → narrow .byte (.int (Int32.ofInt z)) = .int (Int32.ofInt z) := fun z h => (j_fit (g := ((launch0, ((fun _ => (0 : Nat)), fun _ _ => (0 : Nat)), (fun _ => (0 : Nat)), 0, (fun _ => 0), #[]) : jjG)) (ty := .byte) h rfl).1
theorem j_narchar : ∀ z, jokf .char z → narrow .char (.int (Int32.ofInt z)) = .int (Int32.ofInt z) := by
  intro z h
  have h : 0 ≤ z ∧ z < 65536 := h
  have hq := (pk_charN (q := z.toNat) (by omega)).1
  have e1 : nI z.toNat = Int32.ofInt z := by
    show Int32.ofNat z.toNat = Int32.ofInt z
    rw [← Int32.ofInt_eq_ofNat, Int.toNat_of_nonneg h.1]
  rw [e1] at hq
  exact hq
def ji_stop : jjP := fun _ _ _ _ _ => False
section JS
variable {e : jjE} {p : Program} {ev : Env} {R : Room} {s : State} {m : MethodId} {args : Array Value} {below : List Frame} {meth : Method} {c : Code} {cc : ByteArray} {nL : Nat} {own : String} {Qm : State → Prop} {pc : Nat} {K : jjP}
theorem js_stop : jMW e p ev R s m args below meth c nL Qm (pc) ji_stop := fun _ _ _ _ _ h => h.elim
def jtsw (z : Int) (ls : List (Option jjV)) (st : List jjV) (h : jjH) (nc ns : Nat) : Int → List jjP → Prop
  | _, [] => True
  | i, K :: Ks => (z = i → K ls st h nc ns) ∧ jtsw z ls st h nc ns (i + 1) Ks
theorem jtsw_get {z : Int} {ls : List (Option jjV)} {st : List jjV} {h : jjH} {nc ns : Nat} : ∀ (Ks : List jjP) (i : Int) (j : Nat) (K : jjP), jtsw z ls st h nc ns i Ks → Ks[j]? = some K → z = i + j → K ls st h nc ns
  | [], i, j, K, _, h2, _ => by simp at h2
  | K0 :: Ks, i, 0, K, h1, h2, h3 => by
    simp at h2
    subst h2
    exact h1.1 (by omega)
  | K0 :: Ks, i, j + 1, K, h1, h2, h3 => jtsw_get Ks (i + 1) j K h1.2 (by simpa using h2) (by omega)
def jswl (e : jjE) (p : Program) (ev : Env) (R : Room) (s : State) (m : MethodId) (args : Array Value) (below : List Frame) (meth : Method) (c : Code) (nL : Nat) (Qm : State → Prop) : List Nat → List jjP → Prop
  | [], [] => True
  | t :: ts, K :: Ks => jMW e p ev R s m args below meth c nL Qm t K ∧ jswl e p ev R s m args below meth c nL Qm ts Ks
  | _, _ => False
theorem jswl_nil : jswl e p ev R s m args below meth c nL Qm [] [] := trivial
theorem jswl_cons {t : Nat} {ts : List Nat} {Ks : List jjP} (h : jMW e p ev R s m args below meth c nL Qm (t) K) (hs : jswl e p ev R s m args below meth c nL Qm ts Ks) : jswl e p ev R s m args below meth c nL Qm (t :: ts) (K :: Ks) := ⟨h, hs⟩
theorem jswl_get : ∀ (ts : List Nat) (Ks : List jjP), jswl e p ev R s m args below meth c nL Qm ts Ks → ts.length = Ks.length ∧ ∀ (j t : Nat) (K : jjP), ts[j]? = some t → Ks[j]? = some K → jMW e p ev R s m args below meth c nL Qm t K
  | [], [], _ => ⟨rfl, fun j t K h _ => by simp at h⟩
  | t0 :: ts, K0 :: Ks, hs => by
    obtain ⟨h1, h2⟩ := jswl_get ts Ks hs.2
    refine ⟨by simp [h1], fun j t K ht hK => ?_⟩
    cases j with
    | zero => simp at ht hK; subst ht; subst hK; exact hs.1
    | succ j => exact h2 j t K (by simpa using ht) (by simpa using hK)
  | [], _ :: _, h => h.elim
  | _ :: _, [], h => h.elim
def ji_tsw (lo : Int) (K0 : jjP) (Ks : List jjP) : jjP := fun ls st h nc ns => match st with
  | .inl z :: st => jtsw z ls st h nc ns lo Ks ∧ ((z < lo ∨ lo + (Ks.length : Int) ≤ z) → K0 ls st h nc ns)
  | _ => False
theorem js_tsw (hX : jX e p ev R s m args below meth c cc nL own Qm) {dflt lo hi : Int} {tgt : Nat} {tgts : List Nat} {offs : Array Int} {len : Nat} {K0 : jjP} {Ks : List jjP} (hd : decode cc pc = .ok (.tableswitch dflt lo hi offs, len)) (ht : (pc : Int) + dflt = (tgt : Int)) (hc : offs.toList.map (fun o => (pc : Int) + o) = tgts.map (fun (t : Nat) => (t : Int)) ∧ hi + 1 = lo + (tgts.length : Int)) (hk0 : jMW e p ev R s m args below meth c nL Qm (tgt) K0) (hks : jswl e p ev R s m args below meth c nL Qm tgts Ks) : jMW e p ev R s m args below meth c nL Qm (pc) (ji_tsw lo K0 Ks) := by
  intro ls st h nc ns hK
  unfold ji_tsw at hK
  split at hK
  · rename_i z st
    intro hls hs H locs lsM hH hlo hL
    have kz : inI z := jhd hs
    obtain ⟨h1, h2⟩ := jswl_get tgts Ks hks
    by_cases hz : z < lo ∨ lo + (Ks.length : Int) ≤ z
    · exact lv_tableOut hX.1 hX.2.1 hd (by rw [j32_toInt kz]; rcases hz with q | q; exact Or.inl q; exact Or.inr (by omega)) ht (hk0 ls st h nc ns (hK.2 hz) hls (jtl hs) H locs lsM hH hlo hL)
    · have hlt : (z - lo).toNat < Ks.length := by omega
      obtain ⟨K1, hK1⟩ : ∃ K1, Ks[(z - lo).toNat]? = some K1 := ⟨_, List.getElem?_eq_getElem hlt⟩
      obtain ⟨t1, ht1⟩ : ∃ t1, tgts[(z - lo).toNat]? = some t1 := ⟨_, List.getElem?_eq_getElem (by omega)⟩
      have ho : (offs.toList.map (fun o => (pc : Int) + o))[(z - lo).toNat]? = some (t1 : Int) := by rw [hc.1, List.getElem?_map, ht1]; rfl
      rw [List.getElem?_map] at ho
      obtain ⟨o, ho1, ho2⟩ := Option.map_eq_some_iff.mp ho
      have w := h2 _ _ _ ht1 hK1 ls st h nc ns (jtsw_get Ks lo _ K1 hK.1 hK1 (by omega)) hls (jtl hs) H locs lsM hH hlo hL
      exact lv_tableIn hX.1 hX.2.1 hd (by rw [j32_toInt kz]; omega) (by rw [j32_toInt kz]; omega) (by rw [j32_toInt kz, ← Array.getElem?_toList]; exact ho1) ho2 w
  · exact hK.elim
def jlsw (z : Int) (ls : List (Option jjV)) (st : List jjV) (h : jjH) (nc ns : Nat) (K0 : jjP) : List (Int × jjP) → Prop
  | [] => K0 ls st h nc ns
  | q :: r => (z = q.1 → q.2 ls st h nc ns) ∧ (z ≠ q.1 → jlsw z ls st h nc ns K0 r)
def ji_lsw (K0 : jjP) (Ks : List (Int × jjP)) : jjP := fun ls st h nc ns => match st with
  | .inl z :: st => jlsw z ls st h nc ns K0 Ks
  | _ => False
theorem j_lsw_off {z : Int} {ls : List (Option jjV)} {st : List jjV} {h : jjH} {nc ns : Nat} {K0 : jjP} {dflt : Int} {tgt : Nat} (ht : (pc : Int) + dflt = (tgt : Int)) (hk0 : jMW e p ev R s m args below meth c nL Qm (tgt) K0) : ∀ (ps : List (Int × Int)) (tgts : List Nat) (Ks : List (Int × jjP)), ps.map (fun q => (pc : Int) + q.2) = tgts.map (fun (t : Nat) => (t : Int)) → ps.map (·.1) = Ks.map (·.1) → jswl e p ev R s m args below meth c nL Qm tgts (Ks.map (·.2)) → jlsw z ls st h nc ns K0 Ks →
    ∃ t : Nat, (pc : Int) + Op.lookupswitch.offset ps dflt z = (t : Int) ∧ jM e p ev R s m args below meth c nL Qm t ls st h nc ns
  | [], _, Ks, h1, h2, h3, h4 => by
    have : Ks = [] := by
      cases Ks with
      | nil => rfl
      | cons a b => simp at h2
    subst this
    exact ⟨tgt, ht, hk0 ls st h nc ns h4⟩
  | (a, o) :: ps, tgts, Ks, h1, h2, h3, h4 => by
    cases Ks with
    | nil => simp at h2
    | cons q Ks =>
      cases tgts with
      | nil => simp at h1
      | cons t tgts =>
        simp only [List.map_cons, List.cons.injEq] at h1 h2
        rw [Op.lookupswitch.offset_cons]
        by_cases hz : z = a
        · have hz2 : z = q.1 := hz.trans h2.1
          refine ⟨t, ?_, h3.1 ls st h nc ns (h4.1 hz2)⟩
          first | (rw [if_pos hz]; exact h1.1) | (rw [if_pos hz.symm]; exact h1.1)
        · obtain ⟨t', e1, e2⟩ := j_lsw_off ht hk0 ps tgts Ks h1.2 h2.2 h3.2 (h4.2 (by rw [← h2.1]; exact hz))
          refine ⟨t', ?_, e2⟩
          first | (rw [if_neg hz]; exact e1) | (rw [if_neg (fun q => hz q.symm)]; exact e1)
theorem js_lsw (hX : jX e p ev R s m args below meth c cc nL own Qm) {dflt : Int} {tgt : Nat} {tgts : List Nat} {ps : List (Int × Int)} {len : Nat} {K0 : jjP} {Ks : List (Int × jjP)} (hd : decode cc pc = .ok (.lookupswitch dflt ps.toArray, len)) (ht : (pc : Int) + dflt = (tgt : Int)) (hc : ps.map (fun q => (pc : Int) + q.2) = tgts.map (fun (t : Nat) => (t : Int))) (hp : ps.map (·.1) = Ks.map (·.1)) (hso : (ps.zip (ps.drop 1)).all (fun (a, next) => a.1 < next.1) = true) (hk0 : jMW e p ev R s m args below meth c nL Qm (tgt) K0) (hks : jswl e p ev R s m args below meth c nL Qm tgts (Ks.map (·.2))) : jMW e p ev R s m args below meth c nL Qm (pc) (ji_lsw K0 Ks) := by
  intro ls st h nc ns hK
  unfold ji_lsw at hK
  split at hK
  · rename_i z st
    intro hls hs H locs lsM hH hlo hL
    have kz : inI z := jhd hs
    obtain ⟨t, e1, e2⟩ := j_lsw_off ht hk0 ps tgts Ks hc hp hks hK
    exact lv_lookup hX.1 hX.2.1 hd (by simpa using hso) rfl (by rw [j32_toInt kz]; exact e1) (e2 hls (jtl hs) H locs lsM hH hlo hL)
  · exact hK.elim
/-! references compared: two old cells that differ by number are not known apart -/
def ji_acmp_eq (K K2 : jjP) : jjP := fun ls st h nc ns => match st with
  | .inr (.inr b) :: .inr (.inr a) :: st => (a = b ∨ ((a = 0 ∨ 400 ≤ a ∨ b = 0 ∨ 400 ≤ b) ∧ 0 ≤ a ∧ 0 ≤ b ∧ a < h.2.2 ∧ b < h.2.2)) ∧ ((a = b → K ls st h nc ns) ∧ (¬ a = b → K2 ls st h nc ns))
  | _ => False
def ji_acmp_ne (K K2 : jjP) : jjP := fun ls st h nc ns => match st with
  | .inr (.inr b) :: .inr (.inr a) :: st => (a = b ∨ ((a = 0 ∨ 400 ≤ a ∨ b = 0 ∨ 400 ≤ b) ∧ 0 ≤ a ∧ 0 ≤ b ∧ a < h.2.2 ∧ b < h.2.2)) ∧ ((¬ a = b → K ls st h nc ns) ∧ (a = b → K2 ls st h nc ns))
  | _ => False
def jro (g : jjG) (z : Int) : Option Nat := if z = 0 then none else some (jadr g z)
theorem jro_rf (g : jjG) (z : Int) : va_rf (jro g z) = jrv g z := by
  unfold jro jrv
  split <;> rfl
theorem jro_ne {g : jjG} {U : State} {h : jjH} {H : Heap} (hR : jHR g U h H) {a b : Int} (hq : (a = 0 ∨ 400 ≤ a ∨ b = 0 ∨ 400 ≤ b) ∧ 0 ≤ a ∧ 0 ≤ b ∧ a < h.2.2 ∧ b < h.2.2) : jro g a = jro g b → a = b := by
  obtain ⟨h1, h2, h3, h4, h5⟩ := hR
  intro q
  unfold jro at q
  by_cases ha : a = 0
  · by_cases hb : b = 0
    · omega
    · rw [if_pos ha, if_neg hb] at q; cases q
  · by_cases hb : b = 0
    · rw [if_neg ha, if_pos hb] at q; cases q
    · rw [if_neg ha, if_neg hb] at q
      have q : jadr g a = jadr g b := Option.some.inj q
      by_cases ha4 : a < 400
      · by_cases hb4 : b < 400
        · omega
        · have := (h5 a (by omega) ha4).2
          have := jadr_ge (g := g) (a := b) (by omega)
          omega
      · by_cases hb4 : b < 400
        · have := (h5 b (by omega) hb4).2
          have := jadr_ge (g := g) (a := a) (by omega)
          omega
        · rw [jadr_new (by omega), jadr_new (by omega)] at q
          omega
theorem js_acmp_eq (hX : jX e p ev R s m args below meth c cc nL own Qm) {K2 : jjP} {off : Int} {tgt : Nat} (hd : decode cc pc = .ok (.if_acmp .eq off, 3)) (ht : (pc : Int) + off = (tgt : Int)) (hk : jMW e p ev R s m args below meth c nL Qm (tgt) K) (hk2 : jMW e p ev R s m args below meth c nL Qm (pc + 3) K2) : jMW e p ev R s m args below meth c nL Qm (pc) (ji_acmp_eq K K2) := by
  intro ls st h nc ns hK
  unfold ji_acmp_eq at hK
  split at hK
  · rename_i b a st
    intro hls hs H locs lsM hH hlo hL
    show W p e.1.1 ev R s m args below meth c H locs nc ns Qm (F0 m pc lsM (jrv e.1 b :: jrv e.1 a :: st.map (jtv e.1)))
    rw [← jro_rf e.1 a, ← jro_rf e.1 b]
    have hne : jro e.1 a = jro e.1 b → a = b := by
      rcases hK.1 with q | q
      · exact fun _ => q
      · exact jro_ne hH q
    exact lv_acmp_eq hX.1 hX.2.1 hd ht (fun q => hk ls st h nc ns (hK.2.1 (hne q)) hls (jtl (jtl hs)) H locs lsM hH hlo hL) (fun q => hk2 ls st h nc ns (hK.2.2 (fun z => q (by rw [z]))) hls (jtl (jtl hs)) H locs lsM hH hlo hL)
  · exact hK.elim
theorem js_acmp_ne (hX : jX e p ev R s m args below meth c cc nL own Qm) {K2 : jjP} {off : Int} {tgt : Nat} (hd : decode cc pc = .ok (.if_acmp .ne off, 3)) (ht : (pc : Int) + off = (tgt : Int)) (hk : jMW e p ev R s m args below meth c nL Qm (tgt) K) (hk2 : jMW e p ev R s m args below meth c nL Qm (pc + 3) K2) : jMW e p ev R s m args below meth c nL Qm (pc) (ji_acmp_ne K K2) := by
  intro ls st h nc ns hK
  unfold ji_acmp_ne at hK
  split at hK
  · rename_i b a st
    intro hls hs H locs lsM hH hlo hL
    show W p e.1.1 ev R s m args below meth c H locs nc ns Qm (F0 m pc lsM (jrv e.1 b :: jrv e.1 a :: st.map (jtv e.1)))
    rw [← jro_rf e.1 a, ← jro_rf e.1 b]
    have hne : jro e.1 a = jro e.1 b → a = b := by
      rcases hK.1 with q | q
      · exact fun _ => q
      · exact jro_ne hH q
    exact lv_acmp_ne hX.1 hX.2.1 hd ht (fun q => hk ls st h nc ns (hK.2.1 (fun z => q (by rw [z]))) hls (jtl (jtl hs)) H locs lsM hH hlo hL) (fun q => hk2 ls st h nc ns (hK.2.2 (hne q)) hls (jtl (jtl hs)) H locs lsM hH hlo hL)
  · exact hK.elim
/-! a reference into an array -/
def ji_aast (cd : Int) (cs : List Int) (K : jjP) : jjP := fun ls st h nc ns => match st with
  | .inr (.inr z) :: .inl i :: .inr (.inr a) :: st => (jok h.2 a cd ∧ 400 ≤ a ∧ 0 ≤ i ∧ i < jln h.2 a ∧ jisA h.2 z cs) ∧ K ls st (up2 h.1 a i z, h.2) nc ns
  | _ => False
def jAS (cd : Int) (cs : List Nat) : Prop := cd < 0 ∧ -8 ≤ cd ∧ ∃ C, jcf cd = .object C ∧ ∀ ci ∈ cs, ∃ r, jcl[ci]? = some r ∧ (r.1 = C ∨ Cond.castable r.1 C ∈ lw_tbl)
theorem js_aast (hX : jX e p ev R s m args below meth c cc nL own Qm) {cd : Int} {cs : List Nat} (hAS : jAS cd cs) (hd : decode cc pc = .ok (.aastore, 1)) (hk : jMW e p ev R s m args below meth c nL Qm (pc + 1) K) : jMW e p ev R s m args below meth c nL Qm (pc) (ji_aast cd (cs.map fun (x : Nat) => (x : Int)) K) := by
  intro ls st h nc ns hK
  unfold ji_aast at hK
  split at hK
  · rename_i z i a st
    intro hl hs H locs lsM hH hlo hL
    obtain ⟨hc, h8, C, hC, hcs⟩ := hAS
    obtain ⟨⟨ha, h4, hi0, hi1, ci, hm, hz⟩, hK⟩ := hK
    obtain ⟨c0, hc0, rfl⟩ := List.mem_map.mp hm
    obtain ⟨r, hr, hcast⟩ := hcs c0 hc0
    have hi : 0 ≤ i ∧ i < jln h.2 a := ⟨hi0, hi1⟩
    have hKK := hX.2.2.2.2.2.1.1
    obtain ⟨e1, h0, h1, -, hok⟩ := (hH.2.2.2.1 a h4 ha.2.1).2 (by rw [ha.2.2]; exact hc)
    rw [ha.2.2] at e1 hok
    obtain ⟨-, hra⟩ := j_ty hKK hc h8
    rw [hC] at hra
    obtain ⟨kA, comp, k1, k2, k3, -⟩ := hra
    obtain ⟨kE, hkE, -⟩ := Vm.findClass_spec k3
    obtain ⟨cell, g1, g2, g3⟩ := hH.recv hKK hz (jcl_R hr)
    obtain ⟨kC, hkC, -⟩ := Vm.findClass_spec g3
    have hasg : s.vm.assignable cell.cls comp = true := by
      rcases hcast with q | q
      · have hcc : comp = cell.cls := Option.some.inj (by rw [← k3, ← q, g3])
        have hat := (hKK.1 _ _ hr).2
        rw [hcc]
        rw [hat.1] at g3
        rw [← Option.some.inj g3]
        exact va_assign hat
      · obtain ⟨c1, t1, f1, f2, f3⟩ := Cond.castable_spec (va_Nw.use (A := args) rfl (hX.2.2.2.2.2.1.2.2.1 _ q rfl))
        cases g3.symm.trans f1
        cases k3.symm.trans f2
        exact f3
    show W p e.1.1 ev R s m args below meth c H locs nc ns Qm (F0 m pc lsM (jrv e.1 z :: .int (Int32.ofInt i) :: jrv e.1 a :: st.map (jtv e.1)))
    rw [jrv_ne ha.1, jrv_ne hz.1]
    have hj : jln h.2 a = (h.2.1 a).2 := rfl
    have kin : inI i := ⟨by omega, by omega⟩
    refine W.aast hX.1 hX.2.1 e1 (fun q h => by cases h) (fun h => by cases h) k1 k2 rfl hkE ⟨fun q => by have := (j32_lt kin (b := 0) ⟨by omega, by omega⟩).mp q; omega, ?_⟩ g1 (fun q h => by rw [h] at g2; cases g2) hkC hasg rfl rfl hd (fun H' r1 r2 r3 => ?_)
    · show _ < (arrV _ _ _).slots.size
      rw [arrV_size, j_cl hi h1]
      show i.toNat < (jln h.2 a).toNat
      omega
    · rw [j_cl hi h1] at r1 ⊢
      rw [show Value.ref (jadr e.1 z) = jfv e.1 (jcf cd) z by rw [hC]; exact (jrv_ne hz.1).symm] at r1
      refine hk ls st _ nc ns hK hl (jtl (jtl (jtl hs))) H' _ lsM (hH.set h4 r2 r3 _ (fun b hb => up2_other hb) (jcell_st (c := cd) hc ha.2.2 hi h0 h1 h8 hok (jokf_R (by rw [hC]; rfl)) r1)) (fun x hx => ?_) hL
      rcases List.mem_append.mp hx with hx | hx
      · exact hlo x hx
      · rw [List.mem_singleton.mp hx]; exact jadr_ge h4
  · exact hK.elim
/-- the text of the signs -/
theorem js_ldcS (hX : jX e p ev R s m args below meth c cc nL "SelfSorting$Tokens" Qm) (hd : decode cc pc = .ok (.ldc 53, 2)) (hk : jMW e p ev R s m args below meth c nL Qm (pc + 2) K) : jMW e p ev R s m args below meth c nL Qm (pc) (ji_refc 8 K) := by
  intro ls st h nc ns hK hls hs H locs lsM hH hlo hL
  have w := hk ls (vR 8 :: st) h nc ns hK hls (jcons trivial hs) H locs lsM hH hlo hL
  have q : jtv e.1 (vR 8) = .ref (jadr e.1 8) := jrv_ne (by omega)
  rw [List.map_cons, q] at w
  exact va_ldcS hX.1 hX.2.1 hX.2.2.2.1 hX.2.2.2.2.2.1.2.2.2.2.1 hd w
/-! System.arraycopy -/
def jcpy (h : jjH) (a b sp dp n : Int) : jjH := (fun x k => if x = b ∧ dp ≤ k ∧ k < dp + n then h.1 a (sp + (k - dp)) else h.1 x k, h.2)
def ji_acopyI (K : jjP) : jjP := fun ls st h nc ns => match st with
  | .inl n :: .inl dp :: .inr (.inr b) :: .inl sp :: .inr (.inr a) :: st => (jok h.2 a (-1) ∧ jok h.2 b (-1) ∧ 400 ≤ a ∧ 400 ≤ b ∧ 0 ≤ sp ∧ 0 ≤ dp ∧ 0 ≤ n ∧ sp + n ≤ jln h.2 a ∧ dp + n ≤ jln h.2 b ∧ jwt st ≤ 8) ∧ K ls st (jcpy h a b sp dp n) nc ns
  | _ => False
def ji_acopyT (K : jjP) : jjP := fun ls st h nc ns => match st with
  | .inl n :: .inl dp :: .inr (.inr b) :: .inl sp :: .inr (.inr a) :: st => (jok h.2 a (-6) ∧ jok h.2 b (-6) ∧ 400 ≤ a ∧ 400 ≤ b ∧ 0 ≤ sp ∧ 0 ≤ dp ∧ 0 ≤ n ∧ sp + n ≤ jln h.2 a ∧ dp + n ≤ jln h.2 b ∧ jwt st ≤ 8 ∧ ∀ i : Int, 0 ≤ i → i < n → h.1 a (sp + i) = 0 ∨ jok h.2 (h.1 a (sp + i)) 4) ∧ K ls st (jcpy h a b sp dp n) nc ns
  | _ => False
theorem jcell_cpy {g : jjG} {h : jjH} {a b cd : Int} {sp dp n : Int} {H' : Heap} (hc : cd < 0) (h8 : -8 ≤ cd) (ha : (h.2.1 a).1 = cd) (hb : (h.2.1 b).1 = cd) (h0 : 0 ≤ (h.2.1 b).2) (h1 : (h.2.1 b).2 < 2147483648) (hsp : 0 ≤ sp) (hdp : 0 ≤ dp) (hn : 0 ≤ n) (hs : sp + n ≤ (h.2.1 a).2) (hd : dp + n ≤ (h.2.1 b).2) (oka : ∀ j : Nat, (j : Int) < (h.2.1 a).2 → jokf (jcf cd) (h.1 a j)) (okb : ∀ j : Nat, (j : Int) < (h.2.1 b).2 → jokf (jcf cd) (h.1 b j))
    (hH : H'[jadr g b]? = some (arrV (g.2.2.1 cd) (h.2.1 b).2.toNat (fun j => jfv g (jcf cd) (va_cpy (fun j : Nat => h.1 a j) (fun j : Nat => h.1 b j) sp.toNat dp.toNat n.toNat j)))) : jcell g (jcpy h a b sp dp n) b H' := by
  have key : ∀ j : Nat, va_cpy (fun j : Nat => h.1 a j) (fun j : Nat => h.1 b j) sp.toNat dp.toNat n.toNat j = (jcpy h a b sp dp n).1 b j := by
    intro j
    unfold va_cpy jcpy
    dsimp only
    by_cases hj : dp ≤ j ∧ (j : Int) < dp + n
    · rw [if_pos (by omega), if_pos ⟨rfl, hj⟩]
      rw [show ((sp.toNat + (j - dp.toNat) : Nat) : Int) = sp + (j - dp) by omega]
    · rw [if_neg (by omega), if_neg (fun q => hj q.2)]
  unfold jcell
  show (0 ≤ (h.2.1 b).1 → _) ∧ _
  rw [show ((jcpy h a b sp dp n).2.1 b) = h.2.1 b from rfl, hb]
  refine ⟨fun q => absurd q (by omega), fun _ => ⟨?_, h0, h1, h8, fun j hj => ?_⟩⟩
  · rw [hH]
    congr 2
    funext j
    rw [key]
  · rw [← key]
    unfold va_cpy
    split
    · exact oka _ (by omega)
    · exact okb _ hj
theorem j_acN : Cond.native arraycopyName ∈ lw_all := q251
theorem j_acS : Cond.static arraycopyName ∈ lw_all := q250
theorem j_acI : Cond.initialized "java/lang/System" ∈ lw_all := q155
theorem js_acopy (hX : jX e p ev R s m args below meth c cc nL own Qm) {cd : Int} {index : Nat} {ty : FieldType} (hc : cd < 0) (h8 : -8 ≤ cd) (hty : jcf cd = ty) (hl : Cond.methodLink own index arraycopyName ∈ lw_all) (hd : decode cc pc = .ok (.invokestatic index, 3))
    {h : jjH} {H : Heap} {locs : List Loc} {nc ns : Nat} {lsM : Array Slot} {a b sp dp n : Int} {st : List jjV} (hH : jHR e.1 s h H) (hlo : ∀ z ∈ locs, e.1.2.2.2.1 ≤ z.base) (hsz : lsM.size = nL) (kn : inI n) (kd : inI dp) (ks : inI sp)
    (ha : jok h.2 a cd) (hb : jok h.2 b cd) (ha4 : 400 ≤ a) (hb4 : 400 ≤ b) (hsp : 0 ≤ sp) (hdp : 0 ≤ dp) (hn : 0 ≤ n) (h4 : sp + n ≤ jln h.2 a) (h5 : dp + n ≤ jln h.2 b) (hw : jwt st ≤ 8)
    (hel : ∀ (vm' : Vm), s.vm.Alike vm' → ∀ (T : State), T.heap = H → ∀ (k : Class) (comp : ClassId), s.vm.classes[e.1.2.2.1 cd]? = some k → k.kind = .array comp ty → ∀ i : Nat, (i : Int) < n → fits ty (jfv e.1 ty (h.1 a (sp + i))) = true ∧ (T.setVm vm').takes comp (jfv e.1 ty (h.1 a (sp + i))))
    (w : ∀ (H' : Heap) (locs' : List Loc), jHR e.1 s (jcpy h a b sp dp n) H' → (∀ z ∈ locs', e.1.2.2.2.1 ≤ z.base) → W p e.1.1 ev R s m args below meth c H' locs' nc ns Qm (F0 m (pc + 3) lsM (st.map (jtv e.1)))) :
    W p e.1.1 ev R s m args below meth c H locs nc ns Qm (F0 m pc lsM (.int (Int32.ofInt n) :: .int (Int32.ofInt dp) :: .ref (jadr e.1 b) :: .int (Int32.ofInt sp) :: .ref (jadr e.1 a) :: st.map (jtv e.1))) := by
  have hts := hX.2.2.2.2.1
  have hKK := hX.2.2.2.2.2.1.1
  obtain ⟨ea, a0, a1, -, oka⟩ := (hH.2.2.2.1 a ha4 ha.2.1).2 (by rw [ha.2.2]; exact hc)
  obtain ⟨eb, b0, b1, -, okb⟩ := (hH.2.2.2.1 b hb4 hb.2.1).2 (by rw [hb.2.2]; exact hc)
  have la : jln h.2 a = (h.2.1 a).2 := rfl
  have lb : jln h.2 b = (h.2.1 b).2 := rfl
  rw [ha.2.2] at ea oka
  rw [hb.2.2] at eb okb
  obtain ⟨hAr, -⟩ := j_ty hKK hc h8
  rw [hty] at hAr ea eb
  intro T hT X
  obtain ⟨-, k0, hk0, cm0, hkk0⟩ := hAr 0 (fun _ => .null)
  have hX7 := hX.2.2.2.2.2.2.1
  have hwc : ((st.map (jtv e.1)).map fun v => v.category).sum = jwt st := jwt_cat
  obtain ⟨vm', X', step⟩ := X.arraycopy hX.1 hX.2.2.2.1 (hts _ hl) (hts _ j_acN) (hts _ j_acS) (hts _ j_acI) (src := jadr e.1 a) (dst := jadr e.1 b) (cs := arrV (e.1.2.2.1 cd) (h.2.1 a).2.toNat (fun j => jfv e.1 ty (h.1 a j))) (cd := arrV (e.1.2.2.1 cd) (h.2.1 b).2.toNat (fun j => jfv e.1 ty (h.1 b j))) (srcPos := Int32.ofInt sp) (destPos := Int32.ofInt dp) (n := Int32.ofInt n) (by rw [hT]; exact ea) (by rw [hT]; exact eb)
    (fun _ h => by cases h) (fun _ h => by cases h) (fun h => by cases h) (fun h => by cases h) hk0 hk0 hkk0 hkk0 (by simp)
    (fun q => by have := (j32_lt ks (b := 0) ⟨by omega, by omega⟩).mp q; omega) (fun q => by have := (j32_lt kd (b := 0) ⟨by omega, by omega⟩).mp q; omega) (fun q => by have := (j32_lt kn (b := 0) ⟨by omega, by omega⟩).mp q; omega)
    (by rw [j32_toInt ks, j32_toInt kn]; show ¬ _ > ((arrV _ _ _).slots.size : Int); rw [arrV_size]; omega)
    (by rw [j32_toInt kd, j32_toInt kn]; show ¬ _ > ((arrV _ _ _).slots.size : Int); rw [arrV_size]; omega)
    (fun vm₁ hal i hi => by
      rw [j32_clamp kn] at hi
      rw [j32_clamp ks]
      have e0 : (arrV (e.1.2.2.1 cd) (h.2.1 a).2.toNat (fun j => jfv e.1 ty (h.1 a j))).slots.getD (sp.toNat + i) .null = jfv e.1 ty (h.1 a (sp + i)) := by
        rw [Array.getD_eq_getD_getElem?, arrV_read _ _ (by omega)]
        show jfv e.1 ty (h.1 a ((sp.toNat + i : Nat) : Int)) = _
        rw [show ((sp.toNat + i : Nat) : Int) = sp + i by omega]
      rw [e0]
      exact hel vm₁ hal T hT k0 cm0 hk0 hkk0 i (by omega))
    (g := F0 m pc lsM (.int (Int32.ofInt n) :: .int (Int32.ofInt dp) :: .ref (jadr e.1 b) :: .int (Int32.ofInt sp) :: .ref (jadr e.1 a) :: st.map (jtv e.1))) rfl (by rw [hX.2.2.1]; exact hsz) (rest := st.map (jtv e.1)) rfl (by rw [hX.2.1]; exact hd) (by omega) (by
      rw [hwc]
      have e1 : nativeFrameWords "java/lang/System" "arraycopy" 5 = 7 := by decide
      rw [e1]
      show 2 * 0 + _ + _ ≤ _
      omega)
  have e1 : copied (arrV (e.1.2.2.1 cd) (h.2.1 a).2.toNat (fun j => jfv e.1 ty (h.1 a j))) (arrV (e.1.2.2.1 cd) (h.2.1 b).2.toNat (fun j => jfv e.1 ty (h.1 b j))) (Int32.ofInt sp) (Int32.ofInt dp) (Int32.ofInt n) = arrV (e.1.2.2.1 cd) (h.2.1 b).2.toNat (fun j => jfv e.1 ty (va_cpy (fun j : Nat => h.1 a j) (fun j : Nat => h.1 b j) sp.toNat dp.toNat n.toNat j)) := by
    have := va_copied (fun z => jfv e.1 ty z) (e.1.2.2.1 cd) (e.1.2.2.1 cd) (n0 := (h.2.1 a).2.toNat) (n1 := (h.2.1 b).2.toNat) (sp := sp.toNat) (dp := dp.toNat) (n := n.toNat) (fun j : Nat => h.1 a j) (fun j : Nat => h.1 b j) (by omega)
    rw [← j32_clamp ks, ← j32_clamp kd, ← j32_clamp kn] at this ⊢
    exact this
  rw [e1] at X' step
  have hl : jadr e.1 b < H.size := (Array.getElem?_eq_some_iff.mp eb).1
  have oq : ∀ (x : Cell) (q : Nat), q ≠ jadr e.1 b → (H.setIfInBounds (jadr e.1 b) x)[q]? = H[q]? := fun x q hq => by simp [Array.getElem?_setIfInBounds, Ne.symm hq]
  have hR' := hH.set (H' := H.setIfInBounds (jadr e.1 b) (arrV (e.1.2.2.1 cd) (h.2.1 b).2.toNat (fun j => jfv e.1 ty (va_cpy (fun j : Nat => h.1 a j) (fun j : Nat => h.1 b j) sp.toNat dp.toNat n.toNat j)))) hb4 (by simp) (oq _) (jcpy h a b sp dp n).1 (fun x hx => by funext k; exact if_neg (fun q => hx q.1)) (jcell_cpy (g := e.1) hc h8 ha.2.2 hb.2.2 b0 b1 hsp hdp hn (by omega) (by omega) oka okb (by rw [hty]; simp [Array.getElem?_setIfInBounds, hl]))
  obtain ⟨t, a1', b1'⟩ := w _ _ hR' (fun x hx => by
    rcases List.mem_append.mp hx with hx | hx
    · exact hlo x hx
    · obtain ⟨z, -, hz⟩ := List.mem_map.mp hx
      rw [← hz]
      exact jadr_ge hb4) _ (by rw [← hT]; rfl) X'
  exact ⟨t, step t a1', b1'⟩
theorem js_acopyI (hX : jX e p ev R s m args below meth c cc nL own Qm) {index : Nat} (hl : Cond.methodLink own index arraycopyName ∈ lw_all) (hd : decode cc pc = .ok (.invokestatic index, 3)) (hk : jMW e p ev R s m args below meth c nL Qm (pc + 3) K) : jMW e p ev R s m args below meth c nL Qm (pc) (ji_acopyI K) := by
  intro ls st h nc ns hK
  unfold ji_acopyI at hK
  split at hK
  · rename_i n dp b sp a st
    intro hls hs H locs lsM hH hlo hL
    obtain ⟨⟨ha, hb, ha4, hb4, hsp, hdp, hn, h4, h5, hw⟩, hK⟩ := hK
    show W p e.1.1 ev R s m args below meth c H locs nc ns Qm (F0 m pc lsM (.int (Int32.ofInt n) :: .int (Int32.ofInt dp) :: jrv e.1 b :: .int (Int32.ofInt sp) :: jrv e.1 a :: st.map (jtv e.1)))
    rw [jrv_ne ha.1, jrv_ne hb.1]
    exact js_acopy hX (cd := -1) (by decide) (by decide) rfl hl hd hH hlo hL.1 (jhd hs) (jhd (jtl hs)) (jhd (jtl (jtl (jtl hs)))) ha hb ha4 hb4 hsp hdp hn h4 h5 hw (fun _ _ _ _ _ _ _ _ _ _ => ⟨rfl, trivial⟩) (fun H' locs' hH' hlo' => hk ls st _ nc ns hK hls (jtl (jtl (jtl (jtl (jtl hs))))) H' locs' lsM hH' hlo' hL)
  · exact hK.elim
theorem js_acopyT (hX : jX e p ev R s m args below meth c cc nL own Qm) {index : Nat} (hl : Cond.methodLink own index arraycopyName ∈ lw_all) (hd : decode cc pc = .ok (.invokestatic index, 3)) (hk : jMW e p ev R s m args below meth c nL Qm (pc + 3) K) : jMW e p ev R s m args below meth c nL Qm (pc) (ji_acopyT K) := by
  intro ls st h nc ns hK
  unfold ji_acopyT at hK
  split at hK
  · rename_i n dp b sp a st
    intro hls hs H locs lsM hH hlo hL
    obtain ⟨⟨ha, hb, ha4, hb4, hsp, hdp, hn, h4, h5, hw, hel⟩, hK⟩ := hK
    show W p e.1.1 ev R s m args below meth c H locs nc ns Qm (F0 m pc lsM (.int (Int32.ofInt n) :: .int (Int32.ofInt dp) :: jrv e.1 b :: .int (Int32.ofInt sp) :: jrv e.1 a :: st.map (jtv e.1)))
    rw [jrv_ne ha.1, jrv_ne hb.1]
    refine js_acopy hX (cd := -6) (by decide) (by decide) rfl hl hd hH hlo hL.1 (jhd hs) (jhd (jtl hs)) (jhd (jtl (jtl (jtl hs)))) ha hb ha4 hb4 hsp hdp hn h4 h5 hw (fun vm' hal T hT k comp hk1 hk2 i hi => ?_) (fun H' locs' hH' hlo' => hk ls st _ nc ns hK hls (jtl (jtl (jtl (jtl (jtl hs))))) H' locs' lsM hH' hlo' hL)
    show fits (.object "SelfSorting$Text") (jrv e.1 (h.1 a (sp + i))) = true ∧ (T.setVm vm').takes comp (jrv e.1 (h.1 a (sp + i)))
    rcases hel i (by omega) hi with q | q
    · rw [q]
      exact ⟨rfl, trivial⟩
    · rw [jrv_ne q.1]
      have hKK := hX.2.2.2.2.2.1.1
      obtain ⟨cellV, g1, g2, g3⟩ := hH.recv (ci := 4) (r := (RX4, TX4, 6)) hKK q rfl
      obtain ⟨-, hra⟩ := j_ty hKK (cd := -6) (by decide) (by decide)
      obtain ⟨kA, cm, r1, r2, r3, -⟩ := (show ∃ (kA : Class) (comp : ClassId), s.vm.classes[e.1.2.2.1 (-6)]? = some kA ∧ kA.kind = .array comp (.object "SelfSorting$Text") ∧ s.vm.findClass "SelfSorting$Text" = some comp ∧ s.vm.findClass ("[" ++ (FieldType.object "SelfSorting$Text").toString) = some (e.1.2.2.1 (-6)) from hra)
      cases hk1.symm.trans r1
      cases hk2.symm.trans r2
      have g3 : s.vm.findClass "SelfSorting$Text" = some cellV.cls := g3
      have hcm : comp = cellV.cls := Option.some.inj (r3.symm.trans g3)
      obtain ⟨kC, hkC, -⟩ := Vm.findClass_spec g3
      obtain ⟨kC', hkC', -⟩ := hal.2.2 _ _ hkC
      refine ⟨rfl, cellV, (show T.heap[_]? = some cellV by rw [hT]; exact g1), (fun q h => by rw [h] at g2; cases g2), ⟨kC', hkC'⟩, ?_, ?_⟩
      · rw [hcm]; exact ⟨kC', hkC'⟩
      · show vm'.assignable _ _ = true
        rw [hal.assignable, hcm]
        have hat := (hKK.1 4 _ rfl).2
        have e4 : cellV.cls = e.1.2.1.1 4 := Option.some.inj (g3.symm.trans hat.1)
        rw [e4]
        exact va_assign hat
  · exact hK.elim
/-! grids -/
def jmulti (h : jjH) (n k : Int) : jjH := (fun a i => if a = h.2.2 then (if 0 ≤ i ∧ i < n then h.2.2 + 1 + i else 0) else if h.2.2 < a ∧ a ≤ h.2.2 + n then 0 else h.1 a i, (fun a => if a = h.2.2 then (-5, n) else if h.2.2 < a ∧ a ≤ h.2.2 + n then (-1, k) else h.2.1 a, h.2.2 + 1 + n))
def ji_multi (e : jjE) (K : jjP) : jjP := fun ls st h nc ns => match st with
  | .inl k :: .inl n :: st => (0 ≤ n ∧ n ≤ 1000 ∧ 0 ≤ k ∧ k ≤ 1000 ∧ nc + 1 + n.toNat ≤ e.2.2.1 ∧ ns + n.toNat + n.toNat * k.toNat ≤ e.2.2.2.1) ∧ K ls (vR h.2.2 :: st) (jmulti h n k) (nc + 1 + n.toNat) (ns + n.toNat + n.toNat * k.toNat)
  | _ => False
theorem j_outer (c : ClassId) (N h0 : Nat) : ∀ i, i ≤ N → Jvm.Free.Multi.outerC c N h0 i = arrV c N (fun j => if j < i then .ref (h0 + 1 + j) else .null)
  | 0, _ => by
    show ({ cls := c, slots := Array.replicate N .null, vm := .none } : Cell) = _
    rw [arrV_new]
    congr 1
  | i + 1, hi => by
    show (Jvm.Free.Multi.outerC c N h0 i).setSlot i (.ref (h0 + 1 + i)) = _
    rw [j_outer c N h0 i (by omega), arrV_store]
    congr 1
    funext j
    unfold updV
    dsimp only
    by_cases hj : j = i
    · subst hj
      rw [if_pos rfl, if_pos (by omega)]
    · rw [if_neg hj]
      by_cases h2 : j < i
      · rw [if_pos h2, if_pos (by omega)]
      · rw [if_neg h2, if_neg (by omega)]
theorem js_multi (hX : jX e p ev R s m args below meth c cc nL own Qm) {index : Nat} (hl : Cond.classLink own index "[[I" ∈ lw_all) (hov : Cond.arrayOver (.array .int) ∈ lw_tbl) (harr : Cond.arrayClass .int ∈ lw_all) (hd : decode cc pc = .ok (.multianewarray index 2, 4)) (hk : jMW e p ev R s m args below meth c nL Qm (pc + 4) K) : jMW e p ev R s m args below meth c nL Qm (pc) (ji_multi e K) := by
  intro ls st h nc ns hK
  unfold ji_multi at hK
  split at hK
  · rename_i k n st
    intro hls hs H locs lsM hH hlo hL
    obtain ⟨⟨n0, n1, k0, k1, hc1, hs1⟩, hK⟩ := hK
    have hts := hX.2.2.2.2.1
    have kn : inI n := ⟨by omega, by omega⟩
    have kk : inI k := ⟨by omega, by omega⟩
    have cn := j32_clamp kn
    have ck := j32_clamp kk
    have hX7 := hX.2.2.2.2.2.2.1
    have hsz := hH.size
    have h400 := hH.1
    have hKK := hX.2.2.2.2.2.1.1
    intro T hT X
    obtain ⟨vm₁, cA, comp, hW, hfA, hfC, hO, hI, X1, step⟩ := X.multianewarray2F hX.1 (ty := .int) hX.2.2.2.1 (hts _ hl) (hX.2.2.2.2.2.1.2.2.1 _ hov rfl) (hts _ harr) (g := F0 m pc lsM (.int (Int32.ofInt k) :: .int (Int32.ofInt n) :: st.map (jtv e.1))) rfl (by rw [hX.2.1]; exact hd) (n := Int32.ofInt n) (k := Int32.ofInt k) (rest := st.map (jtv e.1)) rfl (fun q => by have := (j32_lt kn (b := 0) ⟨by omega, by omega⟩).mp q; omega) (fun q => by have := (j32_lt kk (b := 0) ⟨by omega, by omega⟩).mp q; omega) (by rw [cn]; omega) (by rw [ck]; show k.toNat * 4 ≤ _; omega) (by rw [ck]; omega) rfl rfl (by rw [cn]; omega) (by rw [cn, ck]; have := hX7.2.2.2; omega)
    rw [cn, ck] at X1 step
    have hfA : s.vm.findClass "[[I" = some cA := hfA
    have hfC : s.vm.findClass "[I" = some comp := hfC
    have eA : cA = e.1.2.2.1 (-5) := by
      have := (j_ty hKK (cd := -5) (by decide) (by decide)).2
      have : s.vm.findClass "[[I" = some (e.1.2.2.1 (-5)) := this
      exact Option.some.inj (hfA.symm.trans this)
    have eC : comp = e.1.2.2.1 (-1) := by
      have := (j_ty hKK (cd := -1) (by decide) (by decide)).2
      have : s.vm.findClass "[I" = some (e.1.2.2.1 (-1)) := this
      exact Option.some.inj (hfC.symm.trans this)
    generalize hF : Jvm.Free.Multi.fill (T.setVm vm₁) cA comp n.toNat k.toNat (defaultValue .int) n.toNat = F at X1 step
    have hTs : (T.setVm vm₁).heap = H := hT
    obtain ⟨f1, f2, -, -⟩ := Jvm.Free.Multi.fill_facts (T.setVm vm₁) cA comp n.toNat k.toNat (defaultValue .int) n.toNat
    have f3 : ∀ q : Nat, q < H.size → F.heap[q]? = H[q]? := fun q hq => by
      rw [← hF, ← hTs]
      exact Jvm.Free.Multi.fill_old _ cA comp n.toNat k.toNat (defaultValue .int) (by rw [hTs]; exact hq) n.toNat
    have f4 : ∀ j : Nat, j < n.toNat → F.heap[H.size + 1 + j]? = some (arrV comp k.toNat (fun _ => .int 0)) := fun j hj => by
      rw [← hF, ← hTs]
      rw [Jvm.Free.Multi.fill_inner _ cA comp n.toNat k.toNat (defaultValue .int) n.toNat j hj]
      exact congrArg some (arrV_new _ _ _)
    rw [hF, hTs] at f1 f2
    rw [j_outer _ _ _ _ (Nat.le_refl _)] at f2
    have hR' : jHR e.1 s (jmulti h n k) F.heap := by
      obtain ⟨h1, h2, h3, h4, h5⟩ := hH
      refine ⟨by show 400 ≤ h.2.2 + 1 + n; omega, by rw [f1, h2]; show _ = _ + (h.2.2 + 1 + n - 400).toNat; omega, fun q hq => by rw [f3 q (by omega)]; exact h3 q hq, fun b hb hb' => ?_, fun b hb hb' => ?_⟩
      · have hb' : b < h.2.2 + 1 + n := hb'
        by_cases q1 : b = h.2.2
        · subst q1
          unfold jcell
          have eT : (jmulti h n k).2.1 h.2.2 = (-5, n) := if_pos rfl
          rw [eT]
          refine ⟨fun q => absurd q (show ¬ (0 : Int) ≤ -5 by decide), fun _ => ⟨?_, n0, by show n < _; omega, (show (-8 : Int) ≤ -5 by decide), fun j hj => trivial⟩⟩
          rw [hsz, f2, eA]
          congr 2
          funext j
          have ev : (jmulti h n k).1 h.2.2 j = if 0 ≤ (j : Int) ∧ (j : Int) < n then h.2.2 + 1 + j else 0 := if_pos rfl
          show _ = jrv e.1 _
          rw [ev]
          by_cases hj : j < n.toNat
          · have hj0 : 0 ≤ (j : Int) ∧ (j : Int) < n := by omega
            rw [if_pos hj, if_pos hj0, jrv_ne (by omega), jadr_new (by omega), h2]
            show Value.ref (e.1.2.2.2.1 + (h.2.2 - 400).toNat + 1 + j) = Value.ref (e.1.2.2.2.1 + (h.2.2 + 1 + j - 400).toNat)
            rw [show (h.2.2 + 1 + (j : Int) - 400).toNat = (h.2.2 - 400).toNat + 1 + j by omega]
            simp only [Nat.add_assoc]
          · rw [if_neg hj, if_neg (by omega)]
            rfl
        · by_cases q2 : h.2.2 < b ∧ b ≤ h.2.2 + n
          · unfold jcell
            have eT : (jmulti h n k).2.1 b = (-1, k) := by
              show (if b = h.2.2 then _ else if _ then _ else _) = _
              rw [if_neg q1, if_pos q2]
            rw [eT]
            have ev : ∀ j : Int, (jmulti h n k).1 b j = 0 := fun j => by
              show (if b = h.2.2 then _ else if _ then _ else _) = _
              rw [if_neg q1, if_pos q2]
            refine ⟨fun q => absurd q (show ¬ (0 : Int) ≤ -1 by decide), fun _ => ⟨?_, k0, by show k < _; omega, (show (-8 : Int) ≤ -1 by decide), fun j hj => by rw [ev]; exact (j_def (g := e.1) (ty := .int) rfl).2⟩⟩
            have ea : jadr e.1 b = H.size + 1 + (b - h.2.2 - 1).toNat := by rw [jadr_new (by omega), h2]; omega
            rw [ea, f4 _ (by omega), eC]
            congr 2
            funext j
            rw [ev]
            rfl
          · refine jcell_kept (v := h.1) (T := h.2) (T' := (jmulti h n k).2) (h4 b hb (by omega)) ?_ ?_ (f3 _ ?_)
            · funext j
              show (if b = h.2.2 then _ else if _ then _ else _) = _
              rw [if_neg q1, if_neg q2]
            · show (if b = h.2.2 then _ else if _ then _ else _) = _
              rw [if_neg q1, if_neg q2]
            · rw [jadr_new hb]; omega
      · obtain ⟨q1, q2⟩ := h5 b hb hb'
        refine ⟨?_, q2⟩
        unfold jroc at q1 ⊢
        have eT : (jmulti h n k).2.1 b = h.2.1 b := by
          show (if b = h.2.2 then _ else if _ then _ else _) = _
          rw [if_neg (by omega), if_neg (by omega)]
        have ev : (jmulti h n k).1 b = h.1 b := by
          funext j
          show (if b = h.2.2 then _ else if _ then _ else _) = _
          rw [if_neg (by omega), if_neg (by omega)]
        rw [eT, ev]
        exact q1
    have w := hk ls (vR h.2.2 :: st) (jmulti h n k) _ _ hK hls (jcons trivial (jtl (jtl hs))) F.heap locs lsM hR' hlo hL
    have q : jtv e.1 (vR h.2.2) = .ref (jadr e.1 h.2.2) := jrv_ne (by omega)
    rw [List.map_cons, q, hsz, ← hT] at w
    obtain ⟨t, a1, b1⟩ := w F rfl X1
    exact ⟨t, step t a1, b1⟩
  · exact hK.elim
/-! a static of which nothing is known but that it holds a reference or null -/
def ji_any (z : Int) (K : jjP) : jjP := fun ls st h nc ns => K ls (vR z :: st) h nc ns ∧ K ls (vR 0 :: st) h nc ns
theorem js_getsU (hX : jX e p ev R s m args below meth c cc nL own Qm) {index : Nat} (hl : Cond.fieldLink own index "jdk/internal/util/Preconditions" "SIOOBE_FORMATTER" "Ljava/util/function/BiFunction;" ∈ lw_all) (hd : decode cc pc = .ok (.getstatic index, 3)) (hk : jMW e p ev R s m args below meth c nL Qm (pc + 3) K) : jMW e p ev R s m args below meth c nL Qm (pc) (ji_any 9 K) := by
  intro ls st h nc ns hK hls hs H locs lsM hH hlo hL
  rcases hX.2.2.2.2.2.1.2.2.2.2.2.2 with ⟨cf, kf, fi, f, a, cell, e1, e2, e3, e4, e5, e6, e7, e8⟩ | ⟨cf, kf, fi, f, a, cell, e1, e2, e3, e4, e5, e6, e7, e8⟩
  · have e8 : a < e.1.2.2.2.1 := Nat.not_le.mp e8
    exact W.gets hX.1 hX.2.1 hX.2.2.2.1 (hX.2.2.2.2.1 _ hl) e1 e2 e3 e4 (by rw [hH.2.2.1 _ e8]; exact e5) (fun q => by rw [q] at e6; cases e6) e7 rfl hd (hk ls (vR 0 :: st) h nc ns hK.2 hls (jcons trivial hs) H locs lsM hH hlo hL)
  · have e8 : a < e.1.2.2.2.1 := Nat.not_le.mp e8
    have w := hk ls (vR 9 :: st) h nc ns hK.1 hls (jcons trivial hs) H locs lsM hH hlo hL
    have q : jtv e.1 (vR 9) = .ref (jadr e.1 9) := jrv_ne (by omega)
    rw [List.map_cons, q] at w
    exact W.gets hX.1 hX.2.1 hX.2.2.2.1 (hX.2.2.2.2.1 _ hl) e1 e2 e3 e4 (by rw [hH.2.2.1 _ e8]; exact e5) (fun q => by rw [q] at e6; cases e6) e7 rfl hd w
end JS

