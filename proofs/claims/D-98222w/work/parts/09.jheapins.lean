/-! ===== instructions that read and write the heap ===== -/
set_option maxRecDepth 100000
def jft (ty : FieldType) : Bool := match ty with
  | .short => false
  | .char => false
  | .float => false
  | .double => false
  | _ => true
theorem j_bool {z : Int} (h : 0 ≤ z ∧ z ≤ 1) : z = 0 ∨ z = 1 := by omega
theorem j_fit {g : jjG} {ty : FieldType} {z : Int} (h : jokf ty z) (ht : jft ty = true) : narrow ty (jfv g ty z) = jfv g ty z ∧ fits ty (jfv g ty z) = true := by
  have hr : ∀ z, ∀ n : String, fits (.object n) (jrv g z) = true := fun z n => by
    rcases jrv_cases g z with ⟨-, q⟩ | ⟨-, q⟩ <;> rw [q] <;> rfl
  have hr2 : ∀ z, ∀ n : FieldType, fits (.array n) (jrv g z) = true := fun z n => by
    rcases jrv_cases g z with ⟨-, q⟩ | ⟨-, q⟩ <;> rw [q] <;> rfl
  cases ty with
  | int => exact ⟨rfl, rfl⟩
  | long => exact ⟨rfl, rfl⟩
  | boolean =>
    rcases j_bool h with q | q <;> subst q <;> exact ⟨rfl, rfl⟩
  | byte =>
    have h : -128 ≤ z ∧ z ≤ 127 := h
    have hz : inI z := ⟨by omega, by omega⟩
    have e : (Int32.ofInt z).toInt8.toInt32 = Int32.ofInt z := by
      rw [← Int32.toInt_inj, Int8.toInt_toInt32, Int32.toInt_toInt8, j32_toInt hz]
      exact Int.bmod_eq_of_le (by omega) (by omega)
    refine ⟨congrArg Value.int e, ?_⟩
    have a1 : (-128 : Int32) ≤ Int32.ofInt z := (j32_le (a := -128) ⟨by omega, by omega⟩ hz).mpr h.1
    have a2 : Int32.ofInt z ≤ (127 : Int32) := (j32_le (b := 127) hz ⟨by omega, by omega⟩).mpr h.2
    show (decide ((-128 : Int32) ≤ Int32.ofInt z) && decide (Int32.ofInt z ≤ 127)) = true
    simp [a1, a2]
  | short => cases ht
  | char => cases ht
  | float => cases ht
  | double => cases ht
  | object n => exact ⟨by show narrow (.object n) (jrv g z) = jrv g z; rcases jrv_cases g z with ⟨-, q⟩ | ⟨-, q⟩ <;> rw [q] <;> rfl, hr z n⟩
  | array n => exact ⟨by show narrow (.array n) (jrv g z) = jrv g z; rcases jrv_cases g z with ⟨-, q⟩ | ⟨-, q⟩ <;> rw [q] <;> rfl, hr2 z n⟩
theorem j_def {g : jjG} {ty : FieldType} (ht : jft ty = true) : defaultValue ty = jfv g ty 0 ∧ jokf ty 0 := by
  cases ty <;> first | (cases ht; done) | exact ⟨rfl, trivial⟩ | exact ⟨rfl, by unfold jokf; (try unfold inI); (try unfold inL); omega⟩
theorem up2_other {v : Int → Int → Int} {a k z b : Int} (h : b ≠ a) : up2 v a k z b = v b := by
  funext j
  unfold up2
  rw [if_neg (fun q => h q.1)]
theorem up2_at {v : Int → Int → Int} {a k z : Int} {j : Int} : up2 v a k z a j = if j = k then z else v a j := by
  unfold up2
  by_cases h : j = k
  · rw [if_pos ⟨rfl, h⟩, if_pos h]
  · rw [if_neg (fun q => h q.2), if_neg h]
/-- the cell of an object behind a store -/
theorem jcell_put {g : jjG} {U : State} {args : Array Value} {v : Int → Int → Int} {T : jjT} {a : Int} {ci : Nat} {r : vw_C} {k : Nat} {z : Int} {H H' : Heap} {cell : Cell} (hK : va_K g.2.1 jcl (jtys g) U) (hts : ∀ w ∈ lw_all, w.before args U = true)
    (hT : (T.1 a).1 = (ci : Int)) (hr : jcl[ci]? = some r) (hk : k < r.2.2) (e0 : cell.cls = g.2.1.1 ci) (e1 : cell.vm = .none) (e2 : ∀ k, k < r.2.2 → cell.slots[g.2.1.2 ci k]? = some (jfv g (jtyf ci k) (v a k))) (hok : ∀ k : Nat, k < r.2.2 → jokf (jtyf ci k) (v a k)) (hz : jokf (jtyf ci k) z) (hH : H'[jadr g a]? = some (cell.setSlot (g.2.1.2 ci k) (jfv g (jtyf ci k) z))) : jcell g (up2 v a k z, T) a H' := by
  have hin := jin0 ci (jcl_lt hr) r hr
  obtain ⟨hty, hnm⟩ := jty0 ci (jcl_lt hr) r hr
  have hap := va_apart (own := "") hts hin (jtyf ci) hty hnm hK hr
  unfold jcell
  dsimp only
  rw [hT]
  refine ⟨fun _ => ⟨r, by rw [Int.toNat_natCast]; exact hr, ?_, ?_⟩, fun q => absurd q (by omega)⟩
  · rw [Int.toNat_natCast]
    have hb := t_set e2 hap hk (jfv g (jtyf ci k) z)
    refine ⟨_, hH, e0, e1, fun j hj => ?_⟩
    rw [hb j hj]
    unfold updV
    by_cases hjk : j = k
    · subst hjk
      rw [if_pos rfl]
      show some _ = some (jfv g (jtyf ci j) (up2 v a j z a j))
      rw [up2_at, if_pos rfl]
    · rw [if_neg hjk]
      show some _ = some (jfv g (jtyf ci j) (up2 v a k z a j))
      rw [up2_at, if_neg (by omega)]
  · intro j hj
    by_cases hjk : j = k
    · subst hjk
      rw [up2_at, if_pos rfl]; exact hz
    · rw [up2_at, if_neg (by omega)]; exact hok j hj
section JS
variable {e : jjE} {p : Program} {ev : Env} {R : Room} {s : State} {m : MethodId} {args : Array Value} {below : List Frame} {meth : Method} {c : Code} {cc : ByteArray} {nL : Nat} {own : String} {Qm : State → Prop} {pc : Nat} {K : jjP}
/-- a field's link: its own class's or a nest mate's -/
def jlk (own : String) (index : Nat) (ref n d : String) : Prop := Cond.fieldLink own index ref n d ∈ lw_all ∨ ∃ host, Cond.fieldLinkNest own index ref n d host ∈ lw_tbl
theorem js_getf (hX : jX e p ev R s m args below meth c cc nL own Qm) {ci : Nat} {r : vw_C} {k index : Nat} {ref : String} (hr : jclR[ci]? = some r) (hk : k < r.2.2) (hlink : jlk own index ref (r.2.1 k).2.1 (r.2.1 k).2.2.1) (hsame : ∀ x, s.fieldFound? (r.2.1 k).1 (r.2.1 k).2.1 (r.2.1 k).2.2.1 = some x → s.fieldFound? ref (r.2.1 k).2.1 (r.2.1 k).2.2.1 = some x) (hd : decode cc pc = .ok (.getfield index, 3))
    {h : jjH} {H : Heap} {a : Int} {locs : List Loc} {nc ns : Nat} {lsM : Array Slot} {rest : List Value} (hH : jHR e.1 s h H) (ha : jok h.2 a (ci : Int))
    (w : jokf (jtyf ci k) (h.1 a k) → W p e.1.1 ev R s m args below meth c H locs nc ns Qm (F0 m (pc + 3) lsM (jfv e.1 (jtyf ci k) (h.1 a k) :: rest))) : W p e.1.1 ev R s m args below meth c H locs nc ns Qm (F0 m pc lsM (jrv e.1 a :: rest)) := by
  obtain ⟨⟨cf, kf, i, f, cell, e1, e2, e3, e4, e5⟩, hok⟩ := hH.getf hX.2.2.2.2.2.1.1 hX.2.2.2.2.1 ha (Int.natCast_nonneg ci) (by rw [Int.toNat_natCast]; exact hr) hk
  rw [jrv_ne ha.1]
  rcases hlink with q | ⟨host, q⟩
  · exact W.getf hX.1 hX.2.1 hX.2.2.2.1 (hX.2.2.2.2.1 _ q) (hsame _ e1) e2 e3 e4 e5 rfl rfl hd (w hok)
  · exact va_Wgetf hX.1 hX.2.1 hX.2.2.2.1 (va_Nw.use rfl (hX.2.2.2.2.2.1.2.2.1 _ q rfl)) (hsame _ e1) e2 e3 e4 e5 rfl rfl hd (w hok)

def ji_getfI (ci k : Int) (K : jjP) : jjP := fun ls st h nc ns => match st with
  | .inr (.inr a) :: st => jok h.2 a ci ∧ K ls (vI (h.1 a k) :: st) h nc ns
  | _ => False
theorem js_getfI (hX : jX e p ev R s m args below meth c cc nL own Qm) {ci : Nat} (r : vw_C) {k index : Nat} {ref : String} (hr : jclR[ci]? = some r) (hk : k < r.2.2) (hty : jfk (jtyf ci k) = 0) (hlink : jlk own index ref (r.2.1 k).2.1 (r.2.1 k).2.2.1) (hsame : ∀ x, s.fieldFound? (r.2.1 k).1 (r.2.1 k).2.1 (r.2.1 k).2.2.1 = some x → s.fieldFound? ref (r.2.1 k).2.1 (r.2.1 k).2.2.1 = some x) (hd : decode cc pc = .ok (.getfield index, 3)) (hkk : jMW e p ev R s m args below meth c nL Qm (pc + 3) K) : jMW e p ev R s m args below meth c nL Qm (pc) (ji_getfI ci k K) := by
  intro ls st h nc ns hK
  unfold ji_getfI at hK
  split at hK
  · rename_i a st
    intro hl hs H locs lsM hH hlo hL
    refine js_getf hX hr hk hlink hsame hd hH hK.1 (fun hok => ?_)
    have w := hkk ls (vI (h.1 a k) :: st) h nc ns hK.2 hl (jcons (jokf_I hok hty) (jtl hs)) H locs lsM hH hlo hL
    rw [jfv_I hty]
    exact w
  · exact hK.elim
def ji_getfL (ci k : Int) (K : jjP) : jjP := fun ls st h nc ns => match st with
  | .inr (.inr a) :: st => jok h.2 a ci ∧ K ls (vL (h.1 a k) :: st) h nc ns
  | _ => False
theorem js_getfL (hX : jX e p ev R s m args below meth c cc nL own Qm) {ci : Nat} (r : vw_C) {k index : Nat} {ref : String} (hr : jclR[ci]? = some r) (hk : k < r.2.2) (hty : jfk (jtyf ci k) = 1) (hlink : jlk own index ref (r.2.1 k).2.1 (r.2.1 k).2.2.1) (hsame : ∀ x, s.fieldFound? (r.2.1 k).1 (r.2.1 k).2.1 (r.2.1 k).2.2.1 = some x → s.fieldFound? ref (r.2.1 k).2.1 (r.2.1 k).2.2.1 = some x) (hd : decode cc pc = .ok (.getfield index, 3)) (hkk : jMW e p ev R s m args below meth c nL Qm (pc + 3) K) : jMW e p ev R s m args below meth c nL Qm (pc) (ji_getfL ci k K) := by
  intro ls st h nc ns hK
  unfold ji_getfL at hK
  split at hK
  · rename_i a st
    intro hl hs H locs lsM hH hlo hL
    refine js_getf hX hr hk hlink hsame hd hH hK.1 (fun hok => ?_)
    have w := hkk ls (vL (h.1 a k) :: st) h nc ns hK.2 hl (jcons (jokf_L hok hty) (jtl hs)) H locs lsM hH hlo hL
    rw [jfv_L hty]
    exact w
  · exact hK.elim
def ji_getfR (ci k : Int) (K : jjP) : jjP := fun ls st h nc ns => match st with
  | .inr (.inr a) :: st => jok h.2 a ci ∧ K ls (vR (h.1 a k) :: st) h nc ns
  | _ => False
theorem js_getfR (hX : jX e p ev R s m args below meth c cc nL own Qm) {ci : Nat} (r : vw_C) {k index : Nat} {ref : String} (hr : jclR[ci]? = some r) (hk : k < r.2.2) (hty : jfk (jtyf ci k) = 2) (hlink : jlk own index ref (r.2.1 k).2.1 (r.2.1 k).2.2.1) (hsame : ∀ x, s.fieldFound? (r.2.1 k).1 (r.2.1 k).2.1 (r.2.1 k).2.2.1 = some x → s.fieldFound? ref (r.2.1 k).2.1 (r.2.1 k).2.2.1 = some x) (hd : decode cc pc = .ok (.getfield index, 3)) (hkk : jMW e p ev R s m args below meth c nL Qm (pc + 3) K) : jMW e p ev R s m args below meth c nL Qm (pc) (ji_getfR ci k K) := by
  intro ls st h nc ns hK
  unfold ji_getfR at hK
  split at hK
  · rename_i a st
    intro hl hs H locs lsM hH hlo hL
    refine js_getf hX hr hk hlink hsame hd hH hK.1 (fun hok => ?_)
    have w := hkk ls (vR (h.1 a k) :: st) h nc ns hK.2 hl (jcons trivial (jtl hs)) H locs lsM hH hlo hL
    rw [jfv_R hty]
    exact w
  · exact hK.elim
/-- a store into a field, not a final one, or in a constructor a final one of its own -/
theorem js_putf (hX : jX e p ev R s m args below meth c cc nL own Qm) {ci : Nat} {r : vw_C} {k index : Nat} {ref : String} (hr : jcl[ci]? = some r) (hk : k < r.2.2) (hlink : jlk own index ref (r.2.1 k).2.1 (r.2.1 k).2.2.1) (hsame : ∀ x, s.fieldFound? (r.2.1 k).1 (r.2.1 k).2.1 (r.2.1 k).2.2.1 = some x → s.fieldFound? ref (r.2.1 k).2.1 (r.2.1 k).2.2.1 = some x)
    (hfin : (r.2.1 k).2.2.2 = false ∨ ((r.2.1 k).2.2.2 = true ∧ meth.name = "<init>" ∧ (r.2.1 k).1 = own ∧ Cond.fieldLink own index ref (r.2.1 k).2.1 (r.2.1 k).2.2.1 ∈ lw_all)) (hft : jft (jtyf ci k) = true) (hd : decode cc pc = .ok (.putfield index, 3))
    {h : jjH} {H : Heap} {a z : Int} {locs : List Loc} {nc ns : Nat} {lsM : Array Slot} {rest : List Value} (hH : jHR e.1 s h H) (ha : jok h.2 a (ci : Int)) (h4 : 400 ≤ a) (hz : jokf (jtyf ci k) z) (hlo : ∀ z ∈ locs, e.1.2.2.2.1 ≤ z.base)
    (w : ∀ (H' : Heap) (locs' : List Loc), jHR e.1 s (up2 h.1 a k z, h.2) H' → (∀ z ∈ locs', e.1.2.2.2.1 ≤ z.base) → W p e.1.1 ev R s m args below meth c H' locs' nc ns Qm (F0 m (pc + 3) lsM rest)) : W p e.1.1 ev R s m args below meth c H locs nc ns Qm (F0 m pc lsM (jfv e.1 (jtyf ci k) z :: jrv e.1 a :: rest)) := by
  have hK := hX.2.2.2.2.2.1.1
  have hts := hX.2.2.2.2.1
  have hcl := hH.2.2.2.1 a h4 ha.2.1
  obtain ⟨r', hr', ⟨cell, e1, e2, e3, e4⟩, hok⟩ := hcl.1 (by rw [ha.2.2]; exact Int.natCast_nonneg ci)
  rw [ha.2.2, Int.toNat_natCast] at hr' e2 e4
  rw [ha.2.2] at hok
  have hrr : r' = r := Option.some.inj (hr'.symm.trans hr)
  subst hrr
  obtain ⟨hS, hfc, kC, hkC, hkind⟩ := hK.1 _ _ hr
  obtain ⟨cf, kf, fi, f, hi, hsl⟩ := hS k hk
  have hin := jin0 ci (jcl_lt hr) r' hr
  obtain ⟨hty, hnm⟩ := jty0 ci (jcl_lt hr) r' hr
  have hlay := hts _ (hin _ (u_in_lay hk))
  have hst := (u_facts hfc hkC (jlay hts hr hk) hi).1
  obtain ⟨hna, hfi⟩ := j_fit (g := e.1) hz hft
  have done : ∀ H' : Heap, H'[jadr e.1 a]? = some (cell.setSlot f.slot (jfv e.1 (jtyf ci k) z)) → H'.size = H.size → (∀ q, q ≠ jadr e.1 a → H'[q]? = H[q]?) → W p e.1.1 ev R s m args below meth c H' (locs ++ [⟨jadr e.1 a, f.slot⟩]) nc ns Qm (F0 m (pc + 3) lsM rest) := by
    intro H' q1 q2 q3
    refine w H' _ (hH.set h4 q2 q3 _ (fun b hb => up2_other hb) ?_) ?_
    · rw [hsl] at q1
      exact jcell_put (H := H) hK hts ha.2.2 hr hk e2 e3 e4 hok hz q1
    · intro x hx
      rcases List.mem_append.mp hx with hx | hx
      · exact hlo x hx
      · rw [List.mem_singleton.mp hx]; exact jadr_ge h4
  rw [jrv_ne ha.1]
  unfold u_lay at hlay
  rcases hfin with hfin | ⟨hfin, hname, hdecl, q⟩
  · rw [if_neg (by rw [hfin]; decide)] at hlay
    have h6 := u_store hfc hkC hkind hlay hi (hty k hk) hna hfi
    rcases hlink with q | ⟨host, q⟩
    · exact W.putK hX.1 hX.2.1 (f := f) ⟨hX.2.2.2.1, hts _ q, ⟨_, _, _, hsame _ hi⟩, hst⟩ (by rw [e2]; exact h6) e1 e3 (by rw [hsl]; exact k2_hasslot (e4 k hk)) rfl rfl hd done
    · exact va_WputK hX.1 hX.2.1 hX.2.2.2.1 (va_Nw.use rfl (hX.2.2.2.2.2.1.2.2.1 _ q rfl)) (hsame _ hi) hst (by rw [e2]; exact h6) e1 e3 (by rw [hsl]; exact k2_hasslot (e4 k hk)) rfl rfl hd done
  · rw [if_pos hfin] at hlay
    have hcf : m.cls = cf := by
      obtain ⟨_, _, c', _, _, _, -, -, hf', -, -, -, hown2, -⟩ := Cond.laysFinal_spec hlay
      have e1 : c' = cf := by have := hi.symm.trans hf'; simp at this; exact this.1.symm
      rw [hdecl] at hown2
      rw [← e1]; exact Option.some.inj (hX.2.2.2.1.symm.trans hown2)
    have h6 := u_fits hfc hkC hkind (Or.inr hlay) hi (hty k hk) hna hfi
    exact W.putFinK hX.1 hX.2.1 hX.2.2.2.1 (hts _ q) (hsame _ hi) hst hcf hname (by rw [e2]; exact h6) e1 e3 (by rw [hsl]; exact k2_hasslot (e4 k hk)) rfl rfl hd done

def ji_putfI (ci k : Int) (K : jjP) : jjP := fun ls st h nc ns => match st with
  | .inl z :: .inr (.inr a) :: st => jok h.2 a ci ∧ 400 ≤ a ∧ K ls st (up2 h.1 a k z, h.2) nc ns
  | _ => False
theorem js_putfI (hX : jX e p ev R s m args below meth c cc nL own Qm) {ci : Nat} (r : vw_C) {k index : Nat} {ref : String} (hr : jcl[ci]? = some r) (hk : k < r.2.2) (hty : jtyf ci k = .int) (hlink : jlk own index ref (r.2.1 k).2.1 (r.2.1 k).2.2.1) (hsame : ∀ x, s.fieldFound? (r.2.1 k).1 (r.2.1 k).2.1 (r.2.1 k).2.2.1 = some x → s.fieldFound? ref (r.2.1 k).2.1 (r.2.1 k).2.2.1 = some x) (hfin : (r.2.1 k).2.2.2 = false ∨ ((r.2.1 k).2.2.2 = true ∧ meth.name = "<init>" ∧ (r.2.1 k).1 = own ∧ Cond.fieldLink own index ref (r.2.1 k).2.1 (r.2.1 k).2.2.1 ∈ lw_all)) (hd : decode cc pc = .ok (.putfield index, 3)) (hkk : jMW e p ev R s m args below meth c nL Qm (pc + 3) K) : jMW e p ev R s m args below meth c nL Qm (pc) (ji_putfI ci k K) := by
  intro ls st h nc ns hK
  unfold ji_putfI at hK
  split at hK
  · rename_i z a st
    intro hl hs H locs lsM hH hlo hL
    show W p e.1.1 ev R s m args below meth c H locs nc ns Qm (F0 m pc lsM (.int (Int32.ofInt z) :: jrv e.1 a :: st.map (jtv e.1)))
    rw [← jfv_I (g := e.1) (ty := jtyf ci k) (z := z) (by rw [hty]; rfl)]
    exact js_putf hX hr hk hlink hsame hfin (by rw [hty]; rfl) hd hH hK.1 hK.2.1 (by rw [hty]; exact jhd hs) hlo (fun H' locs' hH' hlo' => hkk ls st _ nc ns hK.2.2 hl (jtl (jtl hs)) H' locs' lsM hH' hlo' hL)
  · exact hK.elim
def ji_putfZ (ci k : Int) (K : jjP) : jjP := fun ls st h nc ns => match st with
  | .inl z :: .inr (.inr a) :: st => jok h.2 a ci ∧ 400 ≤ a ∧ (0 ≤ z ∧ z ≤ 1) ∧ K ls st (up2 h.1 a k z, h.2) nc ns
  | _ => False
theorem js_putfZ (hX : jX e p ev R s m args below meth c cc nL own Qm) {ci : Nat} (r : vw_C) {k index : Nat} {ref : String} (hr : jcl[ci]? = some r) (hk : k < r.2.2) (hty : jtyf ci k = .boolean) (hlink : jlk own index ref (r.2.1 k).2.1 (r.2.1 k).2.2.1) (hsame : ∀ x, s.fieldFound? (r.2.1 k).1 (r.2.1 k).2.1 (r.2.1 k).2.2.1 = some x → s.fieldFound? ref (r.2.1 k).2.1 (r.2.1 k).2.2.1 = some x) (hfin : (r.2.1 k).2.2.2 = false ∨ ((r.2.1 k).2.2.2 = true ∧ meth.name = "<init>" ∧ (r.2.1 k).1 = own ∧ Cond.fieldLink own index ref (r.2.1 k).2.1 (r.2.1 k).2.2.1 ∈ lw_all)) (hd : decode cc pc = .ok (.putfield index, 3)) (hkk : jMW e p ev R s m args below meth c nL Qm (pc + 3) K) : jMW e p ev R s m args below meth c nL Qm (pc) (ji_putfZ ci k K) := by
  intro ls st h nc ns hK
  unfold ji_putfZ at hK
  split at hK
  · rename_i z a st
    intro hl hs H locs lsM hH hlo hL
    show W p e.1.1 ev R s m args below meth c H locs nc ns Qm (F0 m pc lsM (.int (Int32.ofInt z) :: jrv e.1 a :: st.map (jtv e.1)))
    rw [← jfv_I (g := e.1) (ty := jtyf ci k) (z := z) (by rw [hty]; rfl)]
    exact js_putf hX hr hk hlink hsame hfin (by rw [hty]; rfl) hd hH hK.1 hK.2.1 (by rw [hty]; exact hK.2.2.1) hlo (fun H' locs' hH' hlo' => hkk ls st _ nc ns hK.2.2.2 hl (jtl (jtl hs)) H' locs' lsM hH' hlo' hL)
  · exact hK.elim
def ji_putfL (ci k : Int) (K : jjP) : jjP := fun ls st h nc ns => match st with
  | .inr (.inl z) :: .inr (.inr a) :: st => jok h.2 a ci ∧ 400 ≤ a ∧ K ls st (up2 h.1 a k z, h.2) nc ns
  | _ => False
theorem js_putfL (hX : jX e p ev R s m args below meth c cc nL own Qm) {ci : Nat} (r : vw_C) {k index : Nat} {ref : String} (hr : jcl[ci]? = some r) (hk : k < r.2.2) (hty : jtyf ci k = .long) (hlink : jlk own index ref (r.2.1 k).2.1 (r.2.1 k).2.2.1) (hsame : ∀ x, s.fieldFound? (r.2.1 k).1 (r.2.1 k).2.1 (r.2.1 k).2.2.1 = some x → s.fieldFound? ref (r.2.1 k).2.1 (r.2.1 k).2.2.1 = some x) (hfin : (r.2.1 k).2.2.2 = false ∨ ((r.2.1 k).2.2.2 = true ∧ meth.name = "<init>" ∧ (r.2.1 k).1 = own ∧ Cond.fieldLink own index ref (r.2.1 k).2.1 (r.2.1 k).2.2.1 ∈ lw_all)) (hd : decode cc pc = .ok (.putfield index, 3)) (hkk : jMW e p ev R s m args below meth c nL Qm (pc + 3) K) : jMW e p ev R s m args below meth c nL Qm (pc) (ji_putfL ci k K) := by
  intro ls st h nc ns hK
  unfold ji_putfL at hK
  split at hK
  · rename_i z a st
    intro hl hs H locs lsM hH hlo hL
    show W p e.1.1 ev R s m args below meth c H locs nc ns Qm (F0 m pc lsM (.long (Int64.ofInt z) :: jrv e.1 a :: st.map (jtv e.1)))
    rw [← jfv_L (g := e.1) (ty := jtyf ci k) (z := z) (by rw [hty]; rfl)]
    exact js_putf hX hr hk hlink hsame hfin (by rw [hty]; rfl) hd hH hK.1 hK.2.1 (by rw [hty]; exact jhd hs) hlo (fun H' locs' hH' hlo' => hkk ls st _ nc ns hK.2.2 hl (jtl (jtl hs)) H' locs' lsM hH' hlo' hL)
  · exact hK.elim
def ji_putfR (ci k : Int) (K : jjP) : jjP := fun ls st h nc ns => match st with
  | .inr (.inr z) :: .inr (.inr a) :: st => jok h.2 a ci ∧ 400 ≤ a ∧ K ls st (up2 h.1 a k z, h.2) nc ns
  | _ => False
theorem js_putfR (hX : jX e p ev R s m args below meth c cc nL own Qm) {ci : Nat} (r : vw_C) {k index : Nat} {ref : String} (hr : jcl[ci]? = some r) (hk : k < r.2.2) (hty : jfk (jtyf ci k) = 2) (hft : jft (jtyf ci k) = true) (hlink : jlk own index ref (r.2.1 k).2.1 (r.2.1 k).2.2.1) (hsame : ∀ x, s.fieldFound? (r.2.1 k).1 (r.2.1 k).2.1 (r.2.1 k).2.2.1 = some x → s.fieldFound? ref (r.2.1 k).2.1 (r.2.1 k).2.2.1 = some x) (hfin : (r.2.1 k).2.2.2 = false ∨ ((r.2.1 k).2.2.2 = true ∧ meth.name = "<init>" ∧ (r.2.1 k).1 = own ∧ Cond.fieldLink own index ref (r.2.1 k).2.1 (r.2.1 k).2.2.1 ∈ lw_all)) (hd : decode cc pc = .ok (.putfield index, 3)) (hkk : jMW e p ev R s m args below meth c nL Qm (pc + 3) K) : jMW e p ev R s m args below meth c nL Qm (pc) (ji_putfR ci k K) := by
  intro ls st h nc ns hK
  unfold ji_putfR at hK
  split at hK
  · rename_i z a st
    intro hl hs H locs lsM hH hlo hL
    show W p e.1.1 ev R s m args below meth c H locs nc ns Qm (F0 m pc lsM (jrv e.1 z :: jrv e.1 a :: st.map (jtv e.1)))
    rw [← jfv_R (g := e.1) (ty := jtyf ci k) (z := z) hty]
    exact js_putf hX hr hk hlink hsame hfin hft hd hH hK.1 hK.2.1 (jokf_R hty) hlo (fun H' locs' hH' hlo' => hkk ls st _ nc ns hK.2.2 hl (jtl (jtl hs)) H' locs' lsM hH' hlo' hL)
  · exact hK.elim
theorem j_ix {i n : Int} {cell : Cell} (hi : 0 ≤ i ∧ i < n) (hn : n < 2147483648) (hs : n.toNat ≤ cell.slots.size) : ¬ (Int32.ofInt i < 0 ∨ cell.slots.size ≤ (Int32.ofInt i).toNatClampNeg) := by
  have ki : inI i := ⟨by omega, by omega⟩
  rw [j32_clamp ki]
  intro q
  rcases q with q | q
  · have := (j32_lt ki (b := 0) ⟨by omega, by omega⟩).mp q
    omega
  · omega
theorem j_cl {i n : Int} (hi : 0 ≤ i ∧ i < n) (hn : n < 2147483648) : (Int32.ofInt i).toNatClampNeg = i.toNat := j32_clamp ⟨by omega, by omega⟩
/-- the cell of an array behind a store -/
theorem jcell_st {g : jjG} {v : Int → Int → Int} {T : jjT} {a c : Int} {i z : Int} {H' : Heap} (hc : c < 0) (hT : (T.1 a).1 = c) (hi : 0 ≤ i ∧ i < (T.1 a).2) (h0 : 0 ≤ (T.1 a).2) (h1 : (T.1 a).2 < 2147483648) (h8 : -8 ≤ c) (hok : ∀ j : Nat, (j : Int) < (T.1 a).2 → jokf (jcf c) (v a j)) (hz : jokf (jcf c) z)
    (hH : H'[jadr g a]? = some ((arrV (g.2.2.1 c) (T.1 a).2.toNat (fun j => jfv g (jcf c) (v a j))).setSlot i.toNat (jfv g (jcf c) z))) : jcell g (up2 v a i z, T) a H' := by
  unfold jcell
  dsimp only
  rw [hT]
  refine ⟨fun q => absurd q (by omega), fun _ => ⟨?_, h0, h1, h8, ?_⟩⟩
  · rw [hH, arrV_store]
    congr 2
    funext j
    unfold updV
    by_cases hj : j = i.toNat
    · subst hj
      rw [if_pos rfl, up2_at, if_pos (by omega)]
    · rw [if_neg hj, up2_at, if_neg (by omega)]
  · intro j hj
    rw [up2_at]
    split
    · exact hz
    · exact hok j hj
def ji_iald (K : jjP) : jjP := fun ls st h nc ns => match st with
  | .inl i :: .inr (.inr a) :: st => (jok h.2 a (-1) ∧ 0 ≤ i ∧ i < jln h.2 a) ∧ K ls (vI (h.1 a i) :: st) h nc ns
  | _ => False
theorem js_iald (hX : jX e p ev R s m args below meth c cc nL own Qm) (hd : decode cc pc = .ok (.iaload, 1)) (hk : jMW e p ev R s m args below meth c nL Qm (pc + 1) K) : jMW e p ev R s m args below meth c nL Qm (pc) (ji_iald K) := by
  intro ls st h nc ns hK
  unfold ji_iald at hK
  split at hK
  · rename_i i a st
    intro hl hs H locs lsM hH hlo hL
    obtain ⟨⟨cell, q1, q2, q3, q4, q5, q6⟩, h0, h1, hok⟩ := hH.arr hX.2.2.2.2.2.1.1 hK.1.1 (by omega)
    have hi := hK.1.2
    have en : ((i.toNat : Nat) : Int) = i := Int.toNat_of_nonneg hi.1
    have o := hok i.toNat (by rw [en]; exact hi.2)
    have v := q6 i.toNat (by rw [en]; exact hi.2)
    rw [en] at o v
    have w := hk ls (vI (h.1 a i) :: st) h nc ns hK.2 hl (jcons (jokf_I o rfl) (jtl (jtl hs))) H locs lsM hH hlo hL
    show W p e.1.1 ev R s m args below meth c H locs nc ns Qm (F0 m pc lsM (.int (Int32.ofInt i) :: jrv e.1 a :: st.map (jtv e.1)))
    rw [jrv_ne hK.1.1.1]
    exact W.iald hX.1 hX.2.1 q1 q2 q3 (j_ix hi h1 q4) (by rw [j_cl hi h1]; exact v) rfl rfl hd w
  · exact hK.elim
def ji_bald (K : jjP) : jjP := fun ls st h nc ns => match st with
  | .inl i :: .inr (.inr a) :: st => (jok h.2 a (-2) ∧ 0 ≤ i ∧ i < jln h.2 a) ∧ K ls (vI (h.1 a i) :: st) h nc ns
  | _ => False
theorem js_bald (hX : jX e p ev R s m args below meth c cc nL own Qm) (hd : decode cc pc = .ok (.baload, 1)) (hk : jMW e p ev R s m args below meth c nL Qm (pc + 1) K) : jMW e p ev R s m args below meth c nL Qm (pc) (ji_bald K) := by
  intro ls st h nc ns hK
  unfold ji_bald at hK
  split at hK
  · rename_i i a st
    intro hl hs H locs lsM hH hlo hL
    obtain ⟨⟨cell, q1, q2, q3, q4, q5, q6⟩, h0, h1, hok⟩ := hH.arr hX.2.2.2.2.2.1.1 hK.1.1 (by omega)
    have hi := hK.1.2
    have en : ((i.toNat : Nat) : Int) = i := Int.toNat_of_nonneg hi.1
    have o := hok i.toNat (by rw [en]; exact hi.2)
    have v := q6 i.toNat (by rw [en]; exact hi.2)
    rw [en] at o v
    have w := hk ls (vI (h.1 a i) :: st) h nc ns hK.2 hl (jcons (jokf_I o rfl) (jtl (jtl hs))) H locs lsM hH hlo hL
    show W p e.1.1 ev R s m args below meth c H locs nc ns Qm (F0 m pc lsM (.int (Int32.ofInt i) :: jrv e.1 a :: st.map (jtv e.1)))
    rw [jrv_ne hK.1.1.1]
    exact W.bald hX.1 hX.2.1 q1 q2 q3 (j_ix hi h1 q4) (by rw [j_cl hi h1]; exact v) rfl rfl hd w
  · exact hK.elim
def ji_zald (K : jjP) : jjP := fun ls st h nc ns => match st with
  | .inl i :: .inr (.inr a) :: st => (jok h.2 a (-4) ∧ 0 ≤ i ∧ i < jln h.2 a) ∧ K ls (vI (h.1 a i) :: st) h nc ns
  | _ => False
theorem js_zald (hX : jX e p ev R s m args below meth c cc nL own Qm) (hd : decode cc pc = .ok (.baload, 1)) (hk : jMW e p ev R s m args below meth c nL Qm (pc + 1) K) : jMW e p ev R s m args below meth c nL Qm (pc) (ji_zald K) := by
  intro ls st h nc ns hK
  unfold ji_zald at hK
  split at hK
  · rename_i i a st
    intro hl hs H locs lsM hH hlo hL
    obtain ⟨⟨cell, q1, q2, q3, q4, q5, q6⟩, h0, h1, hok⟩ := hH.arr hX.2.2.2.2.2.1.1 hK.1.1 (by omega)
    have hi := hK.1.2
    have en : ((i.toNat : Nat) : Int) = i := Int.toNat_of_nonneg hi.1
    have o := hok i.toNat (by rw [en]; exact hi.2)
    have v := q6 i.toNat (by rw [en]; exact hi.2)
    rw [en] at o v
    have w := hk ls (vI (h.1 a i) :: st) h nc ns hK.2 hl (jcons (jokf_I o rfl) (jtl (jtl hs))) H locs lsM hH hlo hL
    show W p e.1.1 ev R s m args below meth c H locs nc ns Qm (F0 m pc lsM (.int (Int32.ofInt i) :: jrv e.1 a :: st.map (jtv e.1)))
    rw [jrv_ne hK.1.1.1]
    exact W.zald hX.1 hX.2.1 q1 q2 q3 (j_ix hi h1 q4) (by rw [j_cl hi h1]; exact v) rfl rfl hd w
  · exact hK.elim
def ji_lald (K : jjP) : jjP := fun ls st h nc ns => match st with
  | .inl i :: .inr (.inr a) :: st => (jok h.2 a (-3) ∧ 0 ≤ i ∧ i < jln h.2 a) ∧ K ls (vL (h.1 a i) :: st) h nc ns
  | _ => False
theorem js_lald (hX : jX e p ev R s m args below meth c cc nL own Qm) (hd : decode cc pc = .ok (.laload, 1)) (hk : jMW e p ev R s m args below meth c nL Qm (pc + 1) K) : jMW e p ev R s m args below meth c nL Qm (pc) (ji_lald K) := by
  intro ls st h nc ns hK
  unfold ji_lald at hK
  split at hK
  · rename_i i a st
    intro hl hs H locs lsM hH hlo hL
    obtain ⟨⟨cell, q1, q2, q3, q4, q5, q6⟩, h0, h1, hok⟩ := hH.arr hX.2.2.2.2.2.1.1 hK.1.1 (by omega)
    have hi := hK.1.2
    have en : ((i.toNat : Nat) : Int) = i := Int.toNat_of_nonneg hi.1
    have o := hok i.toNat (by rw [en]; exact hi.2)
    have v := q6 i.toNat (by rw [en]; exact hi.2)
    rw [en] at o v
    have w := hk ls (vL (h.1 a i) :: st) h nc ns hK.2 hl (jcons (jokf_L o rfl) (jtl (jtl hs))) H locs lsM hH hlo hL
    show W p e.1.1 ev R s m args below meth c H locs nc ns Qm (F0 m pc lsM (.int (Int32.ofInt i) :: jrv e.1 a :: st.map (jtv e.1)))
    rw [jrv_ne hK.1.1.1]
    exact W.lald hX.1 hX.2.1 q1 q2 q3 (j_ix hi h1 q4) (by rw [j_cl hi h1]; exact v) rfl rfl hd w
  · exact hK.elim
def ji_aald (cd : Int) (K : jjP) : jjP := fun ls st h nc ns => match st with
  | .inl i :: .inr (.inr a) :: st => (jok h.2 a cd ∧ 0 ≤ i ∧ i < jln h.2 a) ∧ K ls (vR (h.1 a i) :: st) h nc ns
  | _ => False
theorem js_aald (hX : jX e p ev R s m args below meth c cc nL own Qm) {cd : Int} (hc : cd < 0) (hty : jfk (jcf cd) = 2) (hrf : (jcf cd).isReference = true) (hd : decode cc pc = .ok (.aaload, 1)) (hk : jMW e p ev R s m args below meth c nL Qm (pc + 1) K) : jMW e p ev R s m args below meth c nL Qm (pc) (ji_aald cd K) := by
  intro ls st h nc ns hK
  unfold ji_aald at hK
  split at hK
  · rename_i i a st
    intro hl hs H locs lsM hH hlo hL
    obtain ⟨⟨cell, q1, q2, q3, q4, q5, q6⟩, h0, h1, hok⟩ := hH.arr hX.2.2.2.2.2.1.1 hK.1.1 hc
    have hi := hK.1.2
    have en : ((i.toNat : Nat) : Int) = i := Int.toNat_of_nonneg hi.1
    have v := q6 i.toNat (by rw [en]; exact hi.2)
    rw [en, jfv_R hty] at v
    have w := hk ls (vR (h.1 a i) :: st) h nc ns hK.2 hl (jcons trivial (jtl (jtl hs))) H locs lsM hH hlo hL
    show W p e.1.1 ev R s m args below meth c H locs nc ns Qm (F0 m pc lsM (.int (Int32.ofInt i) :: jrv e.1 a :: st.map (jtv e.1)))
    rw [jrv_ne hK.1.1.1]
    exact W.aald hX.1 hX.2.1 q1 q2 hrf q3 (j_ix hi h1 q4) (by rw [j_cl hi h1]; exact v) rfl rfl hd w
  · exact hK.elim
def ji_iast (K : jjP) : jjP := fun ls st h nc ns => match st with
  | .inl z :: .inl i :: .inr (.inr a) :: st => (jok h.2 a (-1) ∧ 400 ≤ a ∧ 0 ≤ i ∧ i < jln h.2 a) ∧ K ls st (up2 h.1 a i z, h.2) nc ns
  | _ => False
theorem js_iast (hX : jX e p ev R s m args below meth c cc nL own Qm) (hd : decode cc pc = .ok (.iastore, 1)) (hk : jMW e p ev R s m args below meth c nL Qm (pc + 1) K) : jMW e p ev R s m args below meth c nL Qm (pc) (ji_iast K) := by
  intro ls st h nc ns hK
  unfold ji_iast at hK
  split at hK
  · rename_i z i a st
    intro hl hs H locs lsM hH hlo hL
    have ha := hK.1.1
    have h4 := hK.1.2.1
    have hi : 0 ≤ i ∧ i < jln h.2 a := ⟨hK.1.2.2.1, hK.1.2.2.2⟩
    have hz : jokf .int z := jhd hs
    obtain ⟨e1, h0, h1, h8, hok⟩ := (hH.2.2.2.1 a h4 ha.2.1).2 (by rw [ha.2.2]; decide)
    rw [ha.2.2] at e1 h8 hok
    show W p e.1.1 ev R s m args below meth c H locs nc ns Qm (F0 m pc lsM (.int (Int32.ofInt z) :: .int (Int32.ofInt i) :: jrv e.1 a :: st.map (jtv e.1)))
    rw [jrv_ne ha.1]
    obtain ⟨⟨cell, q1, q2, q3, q4, -, -⟩, -, -, -⟩ := hH.arr hX.2.2.2.2.2.1.1 ha (by omega)
    cases e1.symm.trans q1
    refine W.iast hX.1 hX.2.1 q1 q2 q3 (j_ix hi h1 q4) rfl rfl hd (fun H' r1 r2 r3 => ?_)
    rw [j_cl hi h1] at r1 ⊢
    
    refine hk ls st _ nc ns hK.2 hl (jtl (jtl (jtl hs))) H' _ lsM (hH.set h4 r2 r3 _ (fun b hb => up2_other hb) (jcell_st (c := (-1)) (by decide) ha.2.2 hi h0 h1 h8 hok hz r1)) (fun x hx => ?_) hL
    rcases List.mem_append.mp hx with hx | hx
    · exact hlo x hx
    · rw [List.mem_singleton.mp hx]; exact jadr_ge h4
  · exact hK.elim
def ji_bast (K : jjP) : jjP := fun ls st h nc ns => match st with
  | .inl z :: .inl i :: .inr (.inr a) :: st => (jok h.2 a (-2) ∧ 400 ≤ a ∧ 0 ≤ i ∧ i < jln h.2 a ∧ (-128 ≤ z ∧ z ≤ 127)) ∧ K ls st (up2 h.1 a i z, h.2) nc ns
  | _ => False
theorem js_bast (hX : jX e p ev R s m args below meth c cc nL own Qm) (hd : decode cc pc = .ok (.bastore, 1)) (hk : jMW e p ev R s m args below meth c nL Qm (pc + 1) K) : jMW e p ev R s m args below meth c nL Qm (pc) (ji_bast K) := by
  intro ls st h nc ns hK
  unfold ji_bast at hK
  split at hK
  · rename_i z i a st
    intro hl hs H locs lsM hH hlo hL
    have ha := hK.1.1
    have h4 := hK.1.2.1
    have hi : 0 ≤ i ∧ i < jln h.2 a := ⟨hK.1.2.2.1, hK.1.2.2.2.1⟩
    have hz : jokf .byte z := hK.1.2.2.2.2
    obtain ⟨e1, h0, h1, h8, hok⟩ := (hH.2.2.2.1 a h4 ha.2.1).2 (by rw [ha.2.2]; decide)
    rw [ha.2.2] at e1 h8 hok
    show W p e.1.1 ev R s m args below meth c H locs nc ns Qm (F0 m pc lsM (.int (Int32.ofInt z) :: .int (Int32.ofInt i) :: jrv e.1 a :: st.map (jtv e.1)))
    rw [jrv_ne ha.1]
    obtain ⟨⟨cell, q1, q2, q3, q4, -, -⟩, -, -, -⟩ := hH.arr hX.2.2.2.2.2.1.1 ha (by omega)
    cases e1.symm.trans q1
    refine W.bast hX.1 hX.2.1 q1 q2 q3 (j_ix hi h1 q4) rfl rfl hd (fun H' r1 r2 r3 => ?_)
    rw [j_cl hi h1] at r1 ⊢
    rw [show narrow .byte (.int (Int32.ofInt z)) = .int (Int32.ofInt z) from (j_fit (g := e.1) hz rfl).1] at r1
    refine hk ls st _ nc ns hK.2 hl (jtl (jtl (jtl hs))) H' _ lsM (hH.set h4 r2 r3 _ (fun b hb => up2_other hb) (jcell_st (c := (-2)) (by decide) ha.2.2 hi h0 h1 h8 hok hz r1)) (fun x hx => ?_) hL
    rcases List.mem_append.mp hx with hx | hx
    · exact hlo x hx
    · rw [List.mem_singleton.mp hx]; exact jadr_ge h4
  · exact hK.elim
def ji_zast (K : jjP) : jjP := fun ls st h nc ns => match st with
  | .inl z :: .inl i :: .inr (.inr a) :: st => (jok h.2 a (-4) ∧ 400 ≤ a ∧ 0 ≤ i ∧ i < jln h.2 a ∧ (0 ≤ z ∧ z ≤ 1)) ∧ K ls st (up2 h.1 a i z, h.2) nc ns
  | _ => False
theorem js_zast (hX : jX e p ev R s m args below meth c cc nL own Qm) (hd : decode cc pc = .ok (.bastore, 1)) (hk : jMW e p ev R s m args below meth c nL Qm (pc + 1) K) : jMW e p ev R s m args below meth c nL Qm (pc) (ji_zast K) := by
  intro ls st h nc ns hK
  unfold ji_zast at hK
  split at hK
  · rename_i z i a st
    intro hl hs H locs lsM hH hlo hL
    have ha := hK.1.1
    have h4 := hK.1.2.1
    have hi : 0 ≤ i ∧ i < jln h.2 a := ⟨hK.1.2.2.1, hK.1.2.2.2.1⟩
    have hz : jokf .boolean z := hK.1.2.2.2.2
    obtain ⟨e1, h0, h1, h8, hok⟩ := (hH.2.2.2.1 a h4 ha.2.1).2 (by rw [ha.2.2]; decide)
    rw [ha.2.2] at e1 h8 hok
    show W p e.1.1 ev R s m args below meth c H locs nc ns Qm (F0 m pc lsM (.int (Int32.ofInt z) :: .int (Int32.ofInt i) :: jrv e.1 a :: st.map (jtv e.1)))
    rw [jrv_ne ha.1]
    obtain ⟨⟨cell, q1, q2, q3, q4, -, -⟩, -, -, -⟩ := hH.arr hX.2.2.2.2.2.1.1 ha (by omega)
    cases e1.symm.trans q1
    refine W.zast hX.1 hX.2.1 q1 q2 q3 (j_ix hi h1 q4) rfl rfl hd (fun H' r1 r2 r3 => ?_)
    rw [j_cl hi h1] at r1 ⊢
    rw [show narrow .boolean (.int (Int32.ofInt z)) = .int (Int32.ofInt z) from (j_fit (g := e.1) hz rfl).1] at r1
    refine hk ls st _ nc ns hK.2 hl (jtl (jtl (jtl hs))) H' _ lsM (hH.set h4 r2 r3 _ (fun b hb => up2_other hb) (jcell_st (c := (-4)) (by decide) ha.2.2 hi h0 h1 h8 hok hz r1)) (fun x hx => ?_) hL
    rcases List.mem_append.mp hx with hx | hx
    · exact hlo x hx
    · rw [List.mem_singleton.mp hx]; exact jadr_ge h4
  · exact hK.elim
def ji_last (K : jjP) : jjP := fun ls st h nc ns => match st with
  | .inr (.inl z) :: .inl i :: .inr (.inr a) :: st => (jok h.2 a (-3) ∧ 400 ≤ a ∧ 0 ≤ i ∧ i < jln h.2 a) ∧ K ls st (up2 h.1 a i z, h.2) nc ns
  | _ => False
theorem js_last (hX : jX e p ev R s m args below meth c cc nL own Qm) (hd : decode cc pc = .ok (.lastore, 1)) (hk : jMW e p ev R s m args below meth c nL Qm (pc + 1) K) : jMW e p ev R s m args below meth c nL Qm (pc) (ji_last K) := by
  intro ls st h nc ns hK
  unfold ji_last at hK
  split at hK
  · rename_i z i a st
    intro hl hs H locs lsM hH hlo hL
    have ha := hK.1.1
    have h4 := hK.1.2.1
    have hi : 0 ≤ i ∧ i < jln h.2 a := ⟨hK.1.2.2.1, hK.1.2.2.2⟩
    have hz : jokf .long z := jhd hs
    obtain ⟨e1, h0, h1, h8, hok⟩ := (hH.2.2.2.1 a h4 ha.2.1).2 (by rw [ha.2.2]; decide)
    rw [ha.2.2] at e1 h8 hok
    show W p e.1.1 ev R s m args below meth c H locs nc ns Qm (F0 m pc lsM (.long (Int64.ofInt z) :: .int (Int32.ofInt i) :: jrv e.1 a :: st.map (jtv e.1)))
    rw [jrv_ne ha.1]
    obtain ⟨⟨cell, q1, q2, q3, q4, -, -⟩, -, -, -⟩ := hH.arr hX.2.2.2.2.2.1.1 ha (by omega)
    cases e1.symm.trans q1
    refine W.last hX.1 hX.2.1 q1 q2 q3 (j_ix hi h1 q4) rfl rfl hd (fun H' r1 r2 r3 => ?_)
    rw [j_cl hi h1] at r1 ⊢
    
    refine hk ls st _ nc ns hK.2 hl (jtl (jtl (jtl hs))) H' _ lsM (hH.set h4 r2 r3 _ (fun b hb => up2_other hb) (jcell_st (c := (-3)) (by decide) ha.2.2 hi h0 h1 h8 hok hz r1)) (fun x hx => ?_) hL
    rcases List.mem_append.mp hx with hx | hx
    · exact hlo x hx
    · rw [List.mem_singleton.mp hx]; exact jadr_ge h4
  · exact hK.elim
def ji_alen (cd : Int) (K : jjP) : jjP := fun ls st h nc ns => match st with
  | .inr (.inr a) :: st => jok h.2 a cd ∧ K ls (vI (jln h.2 a) :: st) h nc ns
  | _ => False
theorem js_alen (hX : jX e p ev R s m args below meth c cc nL own Qm) {cd : Int} (hc : cd < 0) (hd : decode cc pc = .ok (.arraylength, 1)) (hk : jMW e p ev R s m args below meth c nL Qm (pc + 1) K) : jMW e p ev R s m args below meth c nL Qm (pc) (ji_alen cd K) := by
  intro ls st h nc ns hK
  unfold ji_alen at hK
  split at hK
  · rename_i a st
    intro hl hs H locs lsM hH hlo hL
    obtain ⟨⟨cell, q1, q2, q3, q4, q5, q6⟩, h0, h1, hok⟩ := hH.arr hX.2.2.2.2.2.1.1 hK.1 hc
    have w := hk ls (vI (jln h.2 a) :: st) h nc ns hK.2 hl (jcons (j_in0 h0 h1) (jtl hs)) H locs lsM hH hlo hL
    show W p e.1.1 ev R s m args below meth c H locs nc ns Qm (F0 m pc lsM (jrv e.1 a :: st.map (jtv e.1)))
    rw [jrv_ne hK.1.1]
    exact W.alen hX.1 hX.2.1 q1 q2 q5 rfl rfl hd w
  · exact hK.elim
def jnew (h : jjH) (c n : Int) : jjH := (fun a k => if a = h.2.2 then 0 else h.1 a k, (fun a => if a = h.2.2 then (c, n) else h.2.1 a, h.2.2 + 1))
def ji_new (e : jjE) (ci : Int) (N : Nat) (K : jjP) : jjP := fun ls st h nc ns => (nc + 1 ≤ e.2.2.1 ∧ ns + N ≤ e.2.2.2.1) ∧ K ls (vR h.2.2 :: st) (jnew h ci N) (nc + 1) (ns + N)
theorem js_new (hX : jX e p ev R s m args below meth c cc nL own Qm) {ci : Nat} (r : vw_C) {N index : Nat} (hr : jcl[ci]? = some r) (hft : ∀ k, k < r.2.2 → jft (jtyf ci k) = true) (hl : Cond.classLink own index r.1 ∈ lw_all) (hin : Cond.instantiable r.1 N ∈ lw_all) (hini : Cond.initialized r.1 ∈ lw_all) (hd : decode cc pc = .ok (.new index, 3)) (hk : jMW e p ev R s m args below meth c nL Qm (pc + 3) K) : jMW e p ev R s m args below meth c nL Qm (pc) (ji_new e ci N K) := by
  intro ls st h nc ns hK
  unfold ji_new at hK
  intro hls hs H locs lsM hH hlo hL
  have hts := hX.2.2.2.2.1
  have hKn := hX.2.2.2.2.2.1.1.1 _ _ hr
  refine W.newcK hX.1 hX.2.1 hX.2.2.2.1 (hts _ hl) (hts _ hin) (hts _ hini) rfl hd (by have := hX.2.2.2.2.2.2.1.2.2.1; have := hK.1.1; omega) (by have := hX.2.2.2.2.2.2.1.2.2.2; have := hK.1.2; omega) hKn.2.1 rfl (fun H' kC q1 q2 q3 q4 => ?_)
  have hsz := hH.size
  have h400 := hH.1
  have w := hk ls (vR h.2.2 :: st) (jnew h ci N) (nc + 1) (ns + N) hK.2 hls (jcons trivial hs) H' locs lsM ?_ hlo hL
  · rw [← hsz]
    have q : jtv e.1 (vR h.2.2) = .ref (jadr e.1 h.2.2) := jrv_ne (by omega)
    rw [List.map_cons, q] at w
    exact w
  · refine hH.new q3 q4 _ (fun b hb => by funext k; exact if_neg hb) _ (fun b hb => if_neg hb) ?_
    unfold jcell
    dsimp only
    rw [if_pos rfl]
    refine ⟨fun _ => ⟨r, by rw [Int.toNat_natCast]; exact hr, ?_, fun k hk2 => ?_⟩, fun q => absurd q (by show ¬ ((ci : Int) < 0); omega)⟩
    · rw [Int.toNat_natCast, hsz]
      have hb := u_born (jtyf ci) hts (jin0 ci (jcl_lt hr) r hr) hKn q1 q2 (jty0 ci (jcl_lt hr) r hr).1
      refine hb.to (fun k hk2 => ?_)
      simp only [if_true]
      exact (j_def (hft k hk2)).1
    · simp only [if_true]
      exact (j_def (g := e.1) (hft k hk2)).2
def ji_newarr (e : jjE) (cd : Int) (K : jjP) : jjP := fun ls st h nc ns => match st with
  | .inl n :: st => (0 ≤ n ∧ n ≤ 60000000 ∧ nc + 1 ≤ e.2.2.1 ∧ ns + n.toNat ≤ e.2.2.2.1) ∧ K ls (vR h.2.2 :: st) (jnew h cd n) (nc + 1) (ns + n.toNat)
  | _ => False
theorem j_arr_new {g : jjG} {U : State} {h : jjH} {H H' : Heap} {cd n : Int} (hH : jHR g U h H) (hc : cd < 0) (h8 : -8 ≤ cd) (hft : jft (jcf cd) = true) (hn0 : 0 ≤ n) (hn1 : n < 2147483648) (q1 : H'[H.size]? = some (arrV (g.2.2.1 cd) n.toNat (fun _ => defaultValue (jcf cd)))) (q2 : H'.size = H.size + 1) (q3 : ∀ q, q < H.size → H'[q]? = H[q]?) : jHR g U (jnew h cd n) H' := by
  have hsz := hH.size
  refine hH.new q2 q3 _ (fun b hb => by funext k; exact if_neg hb) _ (fun b hb => if_neg hb) ?_
  unfold jcell
  dsimp only
  rw [if_pos rfl]
  refine ⟨fun q => absurd q (by show ¬ (0 ≤ cd); omega), fun _ => ⟨?_, hn0, hn1, h8, fun j _ => ?_⟩⟩
  · rw [hsz, q1]
    congr 2
    funext j
    simp only [if_true]
    exact (j_def hft).1
  · simp only [if_true]
    exact (j_def (g := g) hft).2
theorem j_ty {g : jjG} {U : State} (hK : va_K g.2.1 jcl (jtys g) U) {cd : Int} (hc : cd < 0) (h8 : -8 ≤ cd) : ArrOfT U (g.2.2.1 cd) (jcf cd) ∧ va_RA U (g.2.2.1 cd) (jcf cd) := by
  have hk : (jtys g)[(-1 - cd).toNat]? = some (g.2.2.1 cd, jcf cd) := by
    unfold jtys
    rw [List.getElem?_map, List.getElem?_range (by omega)]
    have e : (-1 - ((-1 - cd).toNat : Int)) = cd := by omega
    show some (g.2.2.1 (-1 - ((-1 - cd).toNat : Int)), _) = _
    rw [e]
    rfl
  exact hK.2 _ _ hk
theorem js_newarr (hX : jX e p ev R s m args below meth c cc nL own Qm) {cd : Int} {atype : ArrayType} (hc : cd < 0) (h8 : -8 ≤ cd) (hat : newarray.typeOf atype = jcf cd) (hft : jft (jcf cd) = true) (hra : ∀ U cA, va_RA U cA (jcf cd) → U.vm.findClass ("[" ++ (jcf cd).toString) = some cA) (hcb : componentBytes (jcf cd) ≤ 8) (hw : Cond.arrayClass (newarray.typeOf atype) ∈ lw_all) (hd : decode cc pc = .ok (.newarray atype, 2)) (hk : jMW e p ev R s m args below meth c nL Qm (pc + 2) K) : jMW e p ev R s m args below meth c nL Qm (pc) (ji_newarr e cd K) := by
  intro ls st h nc ns hK
  unfold ji_newarr at hK
  split at hK
  · rename_i n st
    intro hls hs H locs lsM hH hlo hL
    obtain ⟨⟨n0, n1, hc1, hs1⟩, hK⟩ := hK
    have kn : inI n := ⟨by omega, by omega⟩
    have hX7 := hX.2.2.2.2.2.2.1
    refine va_newaK hX.1 hX.2.1 (hX.2.2.2.2.1 _ hw) (g := F0 m pc lsM (.int (Int32.ofInt n) :: st.map (jtv e.1))) rfl hd rfl (fun q => by have := (j32_lt kn (b := 0) ⟨by omega, by omega⟩).mp q; omega) (j32_clamp kn) (by rw [hat]; have := Nat.mul_le_mul (show n.toNat ≤ 60000000 by omega) hcb; omega) (by have := hX7.2.2.1; omega) (by have := hX7.2.2.2; omega) rfl (fun H' cA q1 q2 q3 q4 q5 => ?_)
    have hsz := hH.size
    have h400 := hH.1
    rw [hat] at q1 q5
    have hra1 := hra _ _ (j_ty hX.2.2.2.2.2.1.1 hc h8).2
    have ecA : cA = e.1.2.2.1 cd := Option.some.inj (q5.symm.trans hra1)
    rw [ecA] at q1
    have w := hk ls (vR h.2.2 :: st) (jnew h cd n) (nc + 1) (ns + n.toNat) hK hls (jcons trivial (jtl hs)) H' locs lsM (j_arr_new hH hc h8 hft n0 (by omega) q1 q2 q3) hlo hL
    rw [← hsz]
    have q : jtv e.1 (vR h.2.2) = .ref (jadr e.1 h.2.2) := jrv_ne (by omega)
    rw [List.map_cons, q] at w
    exact w
  · exact hK.elim
theorem js_anew (hX : jX e p ev R s m args below meth c cc nL own Qm) {cd : Int} {C : String} {index : Nat} (hc : cd < 0) (h8 : -8 ≤ cd) (hat : jcf cd = .object C) (hl : Cond.classLink own index C ∈ lw_all) (hov : Cond.arrayOver (.object C) ∈ lw_tbl) (hd : decode cc pc = .ok (.anewarray index, 3)) (hk : jMW e p ev R s m args below meth c nL Qm (pc + 3) K) : jMW e p ev R s m args below meth c nL Qm (pc) (ji_newarr e cd K) := by
  intro ls st h nc ns hK
  unfold ji_newarr at hK
  split at hK
  · rename_i n st
    intro hls hs H locs lsM hH hlo hL
    obtain ⟨⟨n0, n1, hc1, hs1⟩, hK⟩ := hK
    have kn : inI n := ⟨by omega, by omega⟩
    have hX7 := hX.2.2.2.2.2.2.1
    have hcl := j32_clamp kn
    refine W.anew hX.1 hX.2.1 hX.2.2.2.1 (hX.2.2.2.2.1 _ hl) (va_AO.use (C := C) (hX.2.2.2.2.2.1.2.2.1 _ hov rfl)) (g := F0 m pc lsM (.int (Int32.ofInt n) :: st.map (jtv e.1))) rfl hd rfl (fun q => by have := (j32_lt kn (b := 0) ⟨by omega, by omega⟩).mp q; omega) (by rw [hcl]; omega) (by have := hX7.2.2.1; omega) (by rw [hcl]; have := hX7.2.2.2; omega) (fun cA kA comp q1 q2 q3 q4 => ?_)
    have hsz := hH.size
    have h400 := hH.1
    obtain ⟨-, hra⟩ := j_ty hX.2.2.2.2.2.1.1 hc h8
    rw [hat] at hra
    obtain ⟨_, _, -, -, -, hra⟩ := hra
    have ecA : cA = e.1.2.2.1 cd := Option.some.inj (q1.symm.trans hra)
    rw [hcl, ecA]
    have w := hk ls (vR h.2.2 :: st) (jnew h cd n) (nc + 1) (ns + n.toNat) hK hls (jcons trivial (jtl hs)) _ locs lsM (j_arr_new (H' := H.push { cls := e.1.2.2.1 cd, slots := Array.replicate n.toNat .null, vm := .none }) hH hc h8 (by rw [hat]; rfl) n0 (by omega) (by rw [hat, arrV_new]; simp [defaultValue]) (by simp) (fun q hq => by rw [Array.getElem?_push, if_neg (Nat.ne_of_lt hq)])) hlo hL
    show W p e.1.1 ev R s m args below meth c _ locs _ _ Qm (F0 m (pc + 3) lsM (.ref H.size :: st.map (jtv e.1)))
    rw [← hsz]
    have q : jtv e.1 (vR h.2.2) = .ref (jadr e.1 h.2.2) := jrv_ne (by omega)
    rw [List.map_cons, q] at w
    exact w
  · exact hK.elim
/-- what is a thing of the class ci, for the calls and casts -/
theorem jHR.recv {g : jjG} {U : State} {h : jjH} {H : Heap} {a : Int} {ci : Nat} {r : vw_C} (hR : jHR g U h H) (hK : va_K g.2.1 jcl (jtys g) U) (ha : jok h.2 a (ci : Int)) (hr : jclR[ci]? = some r) : ∃ cell : Cell, H[jadr g a]? = some cell ∧ cell.vm.isStatics = false ∧ U.vm.findClass r.1 = some cell.cls := by
  obtain ⟨h1, h2, h3, h4, h5⟩ := hR
  obtain ⟨ha0, ha1, ha2⟩ := ha
  by_cases ho : a < 400
  · obtain ⟨⟨q1, -⟩, q3⟩ := h5 a ha0 ho
    rw [ha2] at q1
    obtain ⟨⟨cell, e1, e2, e3, -⟩, -⟩ := q1 (Int.natCast_nonneg ci) r (by rw [Int.toNat_natCast]; exact hr)
    exact ⟨cell, by rw [h3 _ q3]; exact e1, e2, e3⟩
  · obtain ⟨q1, -⟩ := h4 a (by omega) ha1
    rw [ha2] at q1
    obtain ⟨r', hr', ⟨cell, e1, e2, e3, e4⟩, hok⟩ := q1 (Int.natCast_nonneg ci)
    rw [Int.toNat_natCast] at hr' e2
    have hrr : r' = r := Option.some.inj ((jcl_R hr').symm.trans hr)
    subst hrr
    exact ⟨cell, e1, by rw [e3]; rfl, by rw [e2]; exact (hK.1 _ _ hr').2.1⟩
def jisA (T : jjT) (a : Int) (cs : List Int) : Prop := ∃ ci ∈ cs, jok T a ci
def ji_cast (cs : List Int) (K : jjP) : jjP := fun ls st h nc ns => match st with
  | .inr (.inr a) :: st => (a = 0 ∨ jisA h.2 a cs) ∧ K ls (vR a :: st) h nc ns
  | _ => False
theorem js_cast (hX : jX e p ev R s m args below meth c cc nL own Qm) {cs : List Nat} {nm : String} {index : Nat} (hl : Cond.classLink own index nm ∈ lw_all) (hcs : ∀ ci ∈ cs, ∃ r, jclR[ci]? = some r ∧ ((jcl[ci]? = some r ∧ r.1 = nm) ∨ Cond.castable r.1 nm ∈ lw_tbl)) (hd : decode cc pc = .ok (.checkcast index, 3)) (hk : jMW e p ev R s m args below meth c nL Qm (pc + 3) K) : jMW e p ev R s m args below meth c nL Qm (pc) (ji_cast (cs.map fun (x : Nat) => (x : Int)) K) := by
  intro ls st h nc ns hK
  unfold ji_cast at hK
  split at hK
  · rename_i a st
    intro hls hs H locs lsM hH hlo hL
    have w := hk ls (vR a :: st) h nc ns hK.2 hls hs H locs lsM hH hlo hL
    have w : W p e.1.1 ev R s m args below meth c H locs nc ns Qm (F0 m (pc + 3) lsM (jrv e.1 a :: st.map (jtv e.1))) := w
    show W p e.1.1 ev R s m args below meth c H locs nc ns Qm (F0 m pc lsM (jrv e.1 a :: st.map (jtv e.1)))
    rcases hK.1 with q | ⟨ci, hm, ha⟩
    · subst q
      exact lv_castN hX.1 hX.2.1 hd w
    · obtain ⟨c0, hc0, rfl⟩ := List.mem_map.mp hm
      obtain ⟨r, hr, hw⟩ := hcs c0 hc0
      rw [jrv_ne ha.1] at w ⊢
      rcases hw with ⟨hr0, hw⟩ | hw
      · subst hw
        exact va_castS hX.1 hX.2.1 hX.2.2.2.1 (hX.2.2.2.2.1 _ hl) (hX.2.2.2.2.2.1.1.1 _ _ hr0).2 (hH.recv hX.2.2.2.2.2.1.1 ha hr) hd w
      exact va_castY hX.1 hX.2.1 hX.2.2.2.1 (hX.2.2.2.2.1 _ hl) (hX.2.2.2.2.2.1.2.2.1 _ hw rfl) (hH.recv hX.2.2.2.2.2.1.1 ha hr) hd w
  · exact hK.elim
/-- statics that are known -/
theorem js_gets (hX : jX e p ev R s m args below meth c cc nL own Qm) {C n d ref : String} {v : Value} {index : Nat} (hz : (C, n, d, v) ∈ jst e.1) (hl : Cond.fieldLink own index ref n d ∈ lw_all) (hsame : ∀ x, s.fieldFound? C n d = some x → s.fieldFound? ref n d = some x) (hd : decode cc pc = .ok (.getstatic index, 3)) {h : jjH} {H : Heap} {locs : List Loc} {nc ns : Nat} {lsM : Array Slot} {rest : List Value} (hH : jHR e.1 s h H)
    (w : W p e.1.1 ev R s m args below meth c H locs nc ns Qm (F0 m (pc + 3) lsM (v :: rest))) : W p e.1.1 ev R s m args below meth c H locs nc ns Qm (F0 m pc lsM rest) := by
  obtain ⟨cf, kf, fi, f, a, cell, e1, e2, e3, e4, e5, e6, e7, e8⟩ := hX.2.2.2.2.2.1.2.1 _ hz
  have e8 : a < e.1.2.2.2.1 := Nat.not_le.mp e8
  exact W.gets hX.1 hX.2.1 hX.2.2.2.1 (hX.2.2.2.2.1 _ hl) (hsame _ e1) e2 e3 e4 (by rw [hH.2.2.1 _ e8]; exact e5) (fun q => by rw [q] at e6; cases e6) e7 rfl hd w
def ji_refc (z : Int) (K : jjP) : jjP := fun ls st h nc ns => K ls (vR z :: st) h nc ns
theorem js_getsR (hX : jX e p ev R s m args below meth c cc nL own Qm) {z : Int} (hz0 : 0 < z) {C n d ref : String} {index : Nat} (hz : (C, n, d, Value.ref (jadr e.1 z)) ∈ jst e.1) (hl : Cond.fieldLink own index ref n d ∈ lw_all) (hsame : ∀ x, s.fieldFound? C n d = some x → s.fieldFound? ref n d = some x) (hd : decode cc pc = .ok (.getstatic index, 3)) (hk : jMW e p ev R s m args below meth c nL Qm (pc + 3) K) : jMW e p ev R s m args below meth c nL Qm (pc) (ji_refc z K) := by
  intro ls st h nc ns hK hls hs H locs lsM hH hlo hL
  have w := hk ls (vR z :: st) h nc ns hK hls (jcons trivial hs) H locs lsM hH hlo hL
  have q : jtv e.1 (vR z) = .ref (jadr e.1 z) := jrv_ne hz0
  rw [List.map_cons, q] at w
  exact js_gets hX hz hl hsame hd hH w
theorem js_getsI (hX : jX e p ev R s m args below meth c cc nL own Qm) {z : Int} (hz0 : inI z) {C n d ref : String} {index : Nat} (hz : (C, n, d, Value.int (Int32.ofInt z)) ∈ jst e.1) (hl : Cond.fieldLink own index ref n d ∈ lw_all) (hsame : ∀ x, s.fieldFound? C n d = some x → s.fieldFound? ref n d = some x) (hd : decode cc pc = .ok (.getstatic index, 3)) (hk : jMW e p ev R s m args below meth c nL Qm (pc + 3) K) : jMW e p ev R s m args below meth c nL Qm (pc) (ji_const z K) := by
  intro ls st h nc ns hK hls hs H locs lsM hH hlo hL
  exact js_gets hX hz hl hsame hd hH (hk ls (vI z :: st) h nc ns hK hls (jcons hz0 hs) H locs lsM hH hlo hL)
end JS

