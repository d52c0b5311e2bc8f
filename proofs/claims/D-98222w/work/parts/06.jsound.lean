/-! ===== numbers ===== -/
set_option maxRecDepth 100000
theorem j32_toInt {a : Int} (h : inI a) : (Int32.ofInt a).toInt = a := Int32.toInt_ofInt_of_le (by have := h.1; omega) (by have := h.2; omega)
theorem j32_inj {a b : Int} (ha : inI a) (hb : inI b) : Int32.ofInt a = Int32.ofInt b ↔ a = b := by
  rw [← Int32.toInt_inj, j32_toInt ha, j32_toInt hb]
theorem j32_lt {a b : Int} (ha : inI a) (hb : inI b) : Int32.ofInt a < Int32.ofInt b ↔ a < b := by
  rw [Int32.lt_iff_toInt_lt, j32_toInt ha, j32_toInt hb]
theorem j32_le {a b : Int} (ha : inI a) (hb : inI b) : Int32.ofInt a ≤ Int32.ofInt b ↔ a ≤ b := by
  rw [Int32.le_iff_toInt_le, j32_toInt ha, j32_toInt hb]
theorem j32_ok (x : Int32) : inI x.toInt := ⟨by have := Int32.le_toInt x; omega, by have := Int32.toInt_lt x; omega⟩
theorem j32_clamp {a : Int} (h : inI a) : (Int32.ofInt a).toNatClampNeg = a.toNat := by
  show (Int32.ofInt a).toInt.toNat = a.toNat
  rw [j32_toInt h]
theorem j64_toInt {a : Int} (h : inL a) : (Int64.ofInt a).toInt = a := Int64.toInt_ofInt_of_le (by have := h.1; omega) (by have := h.2; omega)
theorem j64_inj {a b : Int} (ha : inL a) (hb : inL b) : Int64.ofInt a = Int64.ofInt b ↔ a = b := by
  rw [← Int64.toInt_inj, j64_toInt ha, j64_toInt hb]
theorem j64_lt {a b : Int} (ha : inL a) (hb : inL b) : Int64.ofInt a < Int64.ofInt b ↔ a < b := by
  rw [Int64.lt_iff_toInt_lt, j64_toInt ha, j64_toInt hb]
theorem j64_ok (x : Int64) : inL x.toInt := ⟨by have := Int64.le_toInt x; omega, by have := Int64.toInt_lt x; omega⟩
theorem j_in0 {a : Int} (h0 : 0 ≤ a) (h : a < 2147483648) : inI a := ⟨by omega, h⟩
/-! ===== locals ===== -/
def jclr (ls : List (Option jjV)) (j : Nat) : List (Option jjV) := match ls[j]? with
  | some (some (.inr (.inl _))) => ls.set j none
  | _ => ls
def jset1 (ls : List (Option jjV)) (i : Nat) (v : jjV) : List (Option jjV) := match i with
  | 0 => ls.set 0 (some v)
  | j + 1 => (jclr ls j).set (j + 1) (some v)
def jset2 (ls : List (Option jjV)) (i : Nat) (v : jjV) : List (Option jjV) := (jset1 ls i v).set (i + 1) none
def jLR (g : jjG) (nL : Nat) (ls : List (Option jjV)) (lsM : Array Slot) : Prop := lsM.size = nL ∧ lv_wf lsM ∧ ∀ (i : Nat) (v : jjV), ls[i]? = some (some v) → lsM[i]? = some (.val (jtv g v))
def jtoL (g : jjG) (ls : List (Option jjV)) : List (Nat × Value) := (List.range ls.length).filterMap fun i => (ls[i]?.join).map fun v => (i, jtv g v)
theorem jtoL_mem {g : jjG} {ls : List (Option jjV)} {i : Nat} {v : jjV} (h : ls[i]? = some (some v)) : (i, jtv g v) ∈ jtoL g ls := by
  refine List.mem_filterMap.mpr ⟨i, List.mem_range.mpr (List.getElem?_eq_some_iff.mp h).1, ?_⟩
  simp [h]
theorem jtoL_of {g : jjG} {ls : List (Option jjV)} {q : Nat × Value} (h : q ∈ jtoL g ls) : ∃ v, ls[q.1]? = some (some v) ∧ q.2 = jtv g v := by
  obtain ⟨i, -, hi⟩ := List.mem_filterMap.mp h
  cases hl : ls[i]? with
  | none => simp [hl] at hi
  | some o =>
    cases o with
    | none => simp [hl] at hi
    | some v =>
      simp [hl] at hi
      subst hi
      exact ⟨v, hl, rfl⟩
theorem jLR.has {g : jjG} {nL : Nat} {ls : List (Option jjV)} {lsM : Array Slot} (h : jLR g nL ls lsM) : lv_has lsM nL (jtoL g ls) := by
  refine ⟨h.1, h.2.1, fun q hq => ?_⟩
  obtain ⟨v, h1, h2⟩ := jtoL_of hq
  rw [h2]
  exact h.2.2 _ _ h1
theorem jclr_sub {ls : List (Option jjV)} {j i : Nat} {v : jjV} (h : (jclr ls j)[i]? = some (some v)) : ls[i]? = some (some v) ∧ (i = j → ∀ z, v ≠ .inr (.inl z)) := by
  unfold jclr at h
  split at h
  · rename_i z hz
    by_cases hij : i = j
    · subst hij
      rw [List.getElem?_set_self (List.getElem?_eq_some_iff.mp hz).1] at h
      cases h
    · rw [List.getElem?_set_ne (fun q => hij q.symm)] at h
      exact ⟨h, fun q => absurd q hij⟩
  · rename_i hz
    refine ⟨h, fun q z e => ?_⟩
    subst q; subst e
    exact hz z h
theorem jset1_sub {ls : List (Option jjV)} {i j : Nat} {v w : jjV} (h : (jset1 ls i v)[j]? = some (some w)) : (j = i ∧ w = v) ∨ (j ≠ i ∧ ls[j]? = some (some w) ∧ (j + 1 = i → ∀ z, w ≠ .inr (.inl z))) := by
  cases i with
  | zero =>
    simp only [jset1] at h
    by_cases hj : j = 0
    · subst hj
      rw [List.getElem?_set] at h
      simp only [if_true] at h
      split at h
      · cases h; exact Or.inl ⟨rfl, rfl⟩
      · cases h
    · rw [List.getElem?_set_ne (fun q => hj q.symm)] at h
      exact Or.inr ⟨hj, h, fun q => absurd q (by omega)⟩
  | succ i =>
    simp only [jset1] at h
    by_cases hj : j = i + 1
    · subst hj
      rw [List.getElem?_set] at h
      simp only [if_true] at h
      split at h
      · cases h; exact Or.inl ⟨rfl, rfl⟩
      · cases h
    · rw [List.getElem?_set_ne (fun q => hj q.symm)] at h
      obtain ⟨h1, h2⟩ := jclr_sub h
      exact Or.inr ⟨hj, h1, fun q => h2 (by omega)⟩
theorem jtv_cat1 {g : jjG} {w : jjV} (h : ∀ z, w ≠ .inr (.inl z)) : (jtv g w).category = 1 := by
  match w, h with
  | .inl z, _ => rfl
  | .inr (.inl z), h => exact absurd rfl (h z)
  | .inr (.inr z), _ =>
    show (jrv g z).category = 1
    unfold jrv
    split <;> rfl
theorem jLR.store1 {g : jjG} {nL : Nat} {ls : List (Option jjV)} {lsM : Array Slot} {i : Nat} {v : jjV} {x : Value} (hx : x = jtv g v) (h : lv_has lsM nL ((i, x) :: (jtoL g ls).filter (fun q => !(q.1 == i) && !(q.1 + 1 == i && q.2.category == 2)))) : jLR g nL (jset1 ls i v) lsM := by
  refine ⟨h.1, h.2.1, fun j w hw => ?_⟩
  rcases jset1_sub hw with ⟨rfl, rfl⟩ | ⟨h1, h2, h3⟩
  · rw [← hx]; exact h.2.2 (j, x) List.mem_cons_self
  · refine h.2.2 (j, jtv g w) (List.mem_cons_of_mem _ (List.mem_filter.mpr ⟨jtoL_mem h2, ?_⟩))
    by_cases hj : j + 1 = i
    · have := jtv_cat1 (g := g) (h3 hj)
      simp [h1, this]
    · simp [h1, hj]
theorem jLR.store2 {g : jjG} {nL : Nat} {ls : List (Option jjV)} {lsM : Array Slot} {i : Nat} {v : jjV} {x : Value} (hx : x = jtv g v) (h : lv_has lsM nL ((i, x) :: (jtoL g ls).filter (fun q => !(q.1 == i) && (!(q.1 == i + 1) && !(q.1 + 1 == i && q.2.category == 2))))) : jLR g nL (jset2 ls i v) lsM := by
  refine ⟨h.1, h.2.1, fun j w hw => ?_⟩
  unfold jset2 at hw
  have hne : j ≠ i + 1 := by
    intro q
    subst q
    rw [List.getElem?_set] at hw
    simp only [if_true] at hw
    split at hw <;> cases hw
  rw [List.getElem?_set_ne (fun q => hne q.symm)] at hw
  rcases jset1_sub hw with ⟨rfl, rfl⟩ | ⟨h1, h2, h3⟩
  · rw [← hx]; exact h.2.2 (j, x) List.mem_cons_self
  · refine h.2.2 (j, jtv g w) (List.mem_cons_of_mem _ (List.mem_filter.mpr ⟨jtoL_mem h2, ?_⟩))
    by_cases hj : j + 1 = i
    · have := jtv_cat1 (g := g) (h3 hj)
      simp [h1, hne, this]
    · simp [h1, hne, hj]
theorem jset1_ok {ls : List (Option jjV)} {i : Nat} {v : jjV} (h : ∀ w, some w ∈ ls → jokv w) (hv : jokv v) : ∀ w, some w ∈ jset1 ls i v → jokv w := by
  intro w hw
  obtain ⟨j, hj⟩ := List.getElem?_of_mem hw
  rcases jset1_sub hj with ⟨-, rfl⟩ | ⟨-, h2, -⟩
  · exact hv
  · exact h w (List.mem_of_getElem? h2)
theorem jset2_ok {ls : List (Option jjV)} {i : Nat} {v : jjV} (h : ∀ w, some w ∈ ls → jokv w) (hv : jokv v) : ∀ w, some w ∈ jset2 ls i v → jokv w := by
  intro w hw
  rcases List.mem_or_eq_of_mem_set hw with h1 | h1
  · exact jset1_ok h hv w h1
  · cases h1
/-- fewer locals known -/
def jsub : List (Option jjV) → List (Option jjV) → Prop
  | [], _ => True
  | none :: xs, [] => jsub xs []
  | none :: xs, _ :: ys => jsub xs ys
  | some _ :: _, [] => False
  | some v :: xs, y :: ys => y = some v ∧ jsub xs ys
theorem jsub_get : ∀ (xs ys : List (Option jjV)), jsub xs ys → ∀ (i : Nat) (v : jjV), xs[i]? = some (some v) → ys[i]? = some (some v)
  | [], _, _, i, v, h => by simp at h
  | none :: xs, [], hs, i, v, h => by
    cases i with
    | zero => simp at h
    | succ i =>
      have := jsub_get xs [] hs i v (by simpa using h)
      simp at this
  | none :: xs, y :: ys, hs, i, v, h => by
    cases i with
    | zero => simp at h
    | succ i => simpa using jsub_get xs ys hs i v (by simpa using h)
  | some w :: xs, [], hs, i, v, h => absurd hs id
  | some w :: xs, y :: ys, hs, i, v, h => by
    cases i with
    | zero =>
      simp at h
      subst h
      simp [hs.1]
    | succ i => simpa using jsub_get xs ys hs.2 i v (by simpa using h)
/-! ===== the tables' facts that a run keeps ===== -/
def jsel (w : Cond) : Bool := match w with
  | .fieldLinkNest .. => true
  | .methodLinkNest .. => true
  | .castable .. => true
  | .arrayOver _ => true
  | .declares _ => true
  | _ => false
def jnI : List (String × MethodName × MethodName) := [("SelfSorting$Plain", ⟨"SelfSorting$Sum", "of", "([I)J"⟩, ⟨"SelfSorting$Plain", "of", "([I)J"⟩), ("SelfSorting$Name", ⟨"SelfSorting$Sum", "of", "([I)J"⟩, ⟨"SelfSorting$Name", "of", "([I)J"⟩), ("SelfSorting$Minus", ⟨"SelfSorting$Sum", "of", "([I)J"⟩, ⟨"SelfSorting$Minus", "of", "([I)J"⟩), ("SelfSorting$Chain", ⟨"SelfSorting$Sum", "of", "([I)J"⟩, ⟨"SelfSorting$Chain", "of", "([I)J"⟩), ("SelfSorting$Compared", ⟨"SelfSorting$Asked", "is", "([I)Z"⟩, ⟨"SelfSorting$Compared", "is", "([I)Z"⟩), ("SelfSorting$Not", ⟨"SelfSorting$Asked", "is", "([I)Z"⟩, ⟨"SelfSorting$Not", "is", "([I)Z"⟩), ("SelfSorting$All", ⟨"SelfSorting$Asked", "is", "([I)Z"⟩, ⟨"SelfSorting$All", "is", "([I)Z"⟩)]
theorem jnI_mh : ∀ x ∈ jnI, x.2.1.cls ≠ "java/lang/invoke/MethodHandle" ∧ x.2.1.cls ≠ "java/lang/invoke/VarHandle" := by decide +kernel
def jGK (g : jjG) (U : State) : Prop := va_K g.2.1 jcl (jtys g) U ∧ (∀ x ∈ jst g, va_Z x.1 x.2.1 x.2.2.1 x.2.2.2 (fun q => g.2.2.2.1 ≤ q) U g.2.2.2.2.2) ∧ (∀ w ∈ lw_tbl, jsel w = true → va_Nw w U) ∧ (∀ x ∈ jnI, va_Fw x.1 x.2.1 x.2.2 U) ∧ vk_R "SelfSorting$Tokens" 53 "<>=#+-*/();" (jadr g 8) U ∧ g.2.2.2.2.2.size = g.2.2.2.1 ∧ (va_Z "jdk/internal/util/Preconditions" "SIOOBE_FORMATTER" "Ljava/util/function/BiFunction;" .null (fun q => g.2.2.2.1 ≤ q) U g.2.2.2.2.2 ∨ va_Z "jdk/internal/util/Preconditions" "SIOOBE_FORMATTER" "Ljava/util/function/BiFunction;" (.ref (jadr g 9)) (fun q => g.2.2.2.1 ≤ q) U g.2.2.2.2.2)
theorem jAO_moved {ty : FieldType} {u U : State} (hvm : u.vm.Alike U.vm) (h : va_Nw (.arrayOver ty) u) : va_Nw (.arrayOver ty) U := by
  have hidx : ∀ comp : ClassId, (U.vm.classes.findIdx? fun (x : Class) => match x.kind with | .array component _ => component == comp | _ => false) = (u.vm.classes.findIdx? fun (x : Class) => match x.kind with | .array component _ => component == comp | _ => false) := by
    intro comp
    have e3 : U.vm.bare = u.vm.bare := by first | exact hvm.bare_eq | exact hvm.bare_eq.symm
    have e1 := va_idx_bare U.vm comp
    rw [e3] at e1
    exact e1.symm.trans (va_idx_bare u.vm comp)
  unfold va_Nw Cond.before Cond.holds at h ⊢
  cases ty
  all_goals simp only [Cond.value, beq_iff_eq, Option.bind_eq_some_iff, Option.map_eq_some_iff, hidx, hvm.findClass] at h ⊢
  case object n =>
    obtain ⟨comp, h1, c, h2, k, h3, h4⟩ := h
    obtain ⟨k', hk', he⟩ := hvm.2.2 _ _ h3
    have e : k'.kind = k.kind := by rw [he]
    exact ⟨comp, h1, c, (hidx comp).trans h2, k', hk', by rw [e]; exact h4⟩
  case array t =>
    obtain ⟨comp, h1, c, h2, k, h3, h4⟩ := h
    obtain ⟨k', hk', he⟩ := hvm.2.2 _ _ h3
    have e : k'.kind = k.kind := by rw [he]
    exact ⟨comp, h1, c, (hidx comp).trans h2, k', hk', by rw [e]; exact h4⟩
  all_goals
    obtain ⟨comp, h1, -⟩ := h
    exact nomatch h1
theorem jnw_moved {w : Cond} (hw : jsel w = true) {u U : State} (hW : u.WarmedH U.vm) (h : va_Nw w u) : va_Nw w U := by
  cases w <;> simp only [jsel, Bool.false_eq_true] at hw
  case fieldLinkNest => exact va_Nw.warmF hW h
  case methodLinkNest => exact va_Nw.warmM hW h
  case castable => exact va_Nw.warmC hW h
  case arrayOver => exact jAO_moved hW.alike h
  case declares => exact va_Nw.warmD hW h
theorem jGK.moved {g : jjG} {u U : State} (hW : u.WarmedH U.vm) (h : jGK g u) : jGK g U := by
  obtain ⟨h1, h2, h3, h4, h5, h6, h7⟩ := h
  exact ⟨va_K.moved hW.alike h1, fun x hx => va_Z.moved hW.alike (h2 x hx), fun w hw hs => jnw_moved hs hW (h3 w hw hs), fun x hx => va_Fw.moved (jnI_mh x hx) hW.alike (h4 x hx), h5.warm hW, h6, h7.imp (va_Z.moved hW.alike) (va_Z.moved hW.alike)⟩
