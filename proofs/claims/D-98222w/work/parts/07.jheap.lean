/-! ===== the heap as it is pictured: reading ===== -/
set_option maxRecDepth 100000
theorem jHR.moved {g : jjG} {u U : State} {h : jjH} {H : Heap} (hvm : u.vm.Alike U.vm) (hR : jHR g u h H) : jHR g U h H := by
  obtain ⟨h1, h2, h3, h4, h5⟩ := hR
  refine ⟨h1, h2, h3, h4, fun a ha ha' => ?_⟩
  obtain ⟨⟨q1, q2⟩, q3⟩ := h5 a ha ha'
  exact ⟨⟨fun hc r hr => ⟨va_O.moved hvm (q1 hc r hr).1, fun k hk => ⟨va_OF.moved hvm ((q1 hc r hr).2 k hk).1, ((q1 hc r hr).2 k hk).2⟩⟩, fun hc => ⟨va_T.moved hvm (q2 hc).1, (q2 hc).2⟩⟩, q3⟩
theorem jadr_new {g : jjG} {a : Int} (h : 400 ≤ a) : jadr g a = g.2.2.2.1 + (a - 400).toNat := by
  unfold jadr; rw [if_neg (by omega)]
theorem jadr_ne {g : jjG} {a b : Int} (ha : 400 ≤ a) (hb : 400 ≤ b) (h : a ≠ b) : jadr g a ≠ jadr g b := by
  rw [jadr_new ha, jadr_new hb]; omega
theorem jadr_ge {g : jjG} {a : Int} (ha : 400 ≤ a) : g.2.2.2.1 ≤ jadr g a := by
  rw [jadr_new ha]; omega
theorem jcl_R {c : Nat} {r : vw_C} (h : jcl[c]? = some r) : jclR[c]? = some r := by
  have hl := (List.getElem?_eq_some_iff.mp h).1
  show (jcl ++ [("java/lang/String", jT16, 2)])[c]? = some r
  rw [List.getElem?_append_left hl]; exact h
/-- 0 int-like, 1 long, 2 reference, 3 none -/
def jfk (ty : FieldType) : Nat := match ty with
  | .long => 1
  | .object _ => 2
  | .array _ => 2
  | .float => 3
  | .double => 3
  | _ => 0
theorem jcl_lt {c : Nat} {r : vw_C} (h : jcl[c]? = some r) : c < 16 := (List.getElem?_eq_some_iff.mp h).1
theorem jin_5 : ∀ w ∈ u_ws RX5 jT5 2, w ∈ lw_all := lw_in (u_ws RX5 jT5 2) [666, 668] (by decide +kernel) (by decide +kernel)
theorem jin0 : ∀ c : Nat, c < 16 → ∀ r : vw_C, jcl[c]? = some r → (∀ w ∈ u_ws r.1 r.2.1 r.2.2, w ∈ lw_all) := by
  intro c hc r hr
  rcases (show c = 0 ∨ c = 1 ∨ c = 2 ∨ c = 3 ∨ c = 4 ∨ c = 5 ∨ c = 6 ∨ c = 7 ∨ c = 8 ∨ c = 9 ∨ c = 10 ∨ c = 11 ∨ c = 12 ∨ c = 13 ∨ c = 14 ∨ c = 15 by omega) with rfl | rfl | rfl | rfl | rfl | rfl | rfl | rfl | rfl | rfl | rfl | rfl | rfl | rfl | rfl | rfl
  · cases hr; exact in_X0
  · cases hr; exact in_X1
  · cases hr; exact in_X2
  · cases hr; exact in_X3
  · cases hr; exact in_X4
  · cases hr; exact jin_5
  · cases hr; exact in_X6
  · cases hr; exact in_X7
  · cases hr; exact in_X8
  · cases hr; exact in_X9
  · cases hr; exact in_X10
  · cases hr; exact in_X11
  · cases hr; exact in_X12
  · cases hr; exact in_X13
  · cases hr; exact in_J6
  · cases hr; exact in_J14
theorem jty0 : ∀ c : Nat, c < 16 → ∀ r : vw_C, jcl[c]? = some r → (∀ k, k < r.2.2 → parseFieldDescriptor (r.2.1 k).2.2.1 = some (jtyf (c : Int) k)) ∧ (∀ a, a < r.2.2 → ∀ b, b < r.2.2 → a ≠ b → (r.2.1 a).2.1 ≠ (r.2.1 b).2.1) := by
  intro c hc r hr
  rcases (show c = 0 ∨ c = 1 ∨ c = 2 ∨ c = 3 ∨ c = 4 ∨ c = 5 ∨ c = 6 ∨ c = 7 ∨ c = 8 ∨ c = 9 ∨ c = 10 ∨ c = 11 ∨ c = 12 ∨ c = 13 ∨ c = 14 ∨ c = 15 by omega) with rfl | rfl | rfl | rfl | rfl | rfl | rfl | rfl | rfl | rfl | rfl | rfl | rfl | rfl | rfl | rfl
  · cases hr; exact ⟨tyX0_ok, nmX0⟩
  · cases hr; exact ⟨tyX1_ok, nmX1⟩
  · cases hr; exact ⟨tyX2_ok, nmX2⟩
  · cases hr; exact ⟨tyX3_ok, nmX3⟩
  · cases hr; exact ⟨tyX4_ok, nmX4⟩
  · cases hr; exact ⟨by decide +kernel, by decide +kernel⟩
  · cases hr; exact ⟨tyX6_ok, nmX6⟩
  · cases hr; exact ⟨tyX7_ok, nmX7⟩
  · cases hr; exact ⟨tyX8_ok, nmX8⟩
  · cases hr; exact ⟨tyX9_ok, nmX9⟩
  · cases hr; exact ⟨tyX10_ok, nmX10⟩
  · cases hr; exact ⟨tyX11_ok, nmX11⟩
  · cases hr; exact ⟨tyX12_ok, nmX12⟩
  · cases hr; exact ⟨tyX13_ok, nmX13⟩
  · cases hr; exact ⟨tyJ6_ok, nmJ6⟩
  · cases hr; exact ⟨tyJ14_ok, nmJ14⟩
theorem jlay {args : Array Value} {s : State} (hts : ∀ w ∈ lw_all, w.before args s = true) {c : Nat} {r : vw_C} (hr : jcl[c]? = some r) {k : Nat} (hk : k < r.2.2) : (Cond.lays r.1 (r.2.1 k).1 (r.2.1 k).2.1 (r.2.1 k).2.2.1).before args s = true ∨ (Cond.laysFinal r.1 (r.2.1 k).1 (r.2.1 k).2.1 (r.2.1 k).2.2.1).before args s = true := u_lays hts (jin0 c (jcl_lt hr) r hr) hk
/-- the field k of the thing at a -/
theorem jHR.getf {g : jjG} {U : State} {h : jjH} {H : Heap} {a : Int} {ci : Int} {r : vw_C} {k : Nat} {args : Array Value} (hR : jHR g U h H) (hK : va_K g.2.1 jcl (jtys g) U) (hts : ∀ w ∈ lw_all, w.before args U = true) (ha : jok h.2 a ci) (hc : 0 ≤ ci) (hr : jclR[ci.toNat]? = some r) (hk : k < r.2.2) :
    (∃ (cf : ClassId) (kf : Class) (i : Nat) (f : Field) (cell : Cell), U.fieldFound? (r.2.1 k).1 (r.2.1 k).2.1 (r.2.1 k).2.2.1 = some (cf, kf, i, f) ∧ f.isStatic = false ∧ H[jadr g a]? = some cell ∧ cell.vm ≠ .unknown ∧ cell.slots[f.slot]? = some (jfv g (jtyf ci k) (h.1 a k))) ∧ jokf (jtyf ci k) (h.1 a k) := by
  obtain ⟨h1, h2, h3, h4, h5⟩ := hR
  obtain ⟨ha0, ha1, ha2⟩ := ha
  subst ha2
  by_cases ho : a < 400
  · obtain ⟨⟨q1, -⟩, q3⟩ := h5 a ha0 ho
    obtain ⟨⟨cf, kf, i, f, cell, e1, e2, e3, e4, e5, -⟩, hok⟩ := (q1 hc r hr).2 k hk
    exact ⟨⟨cf, kf, i, f, cell, e1, e2, by rw [h3 _ q3]; exact e3, e4, e5⟩, hok⟩
  · obtain ⟨q1, -⟩ := h4 a (by omega) ha1
    obtain ⟨r', hr', ⟨cell, e1, e2, e3, e4⟩, hok⟩ := q1 hc
    have hrr : r' = r := Option.some.inj ((jcl_R hr').symm.trans hr)
    subst hrr
    obtain ⟨hS, hfc, kC, hkC, hkind⟩ := hK.1 _ _ hr'
    obtain ⟨cf, kf, fi, f, hi, hsl⟩ := hS k hk
    refine ⟨⟨cf, kf, fi, f, cell, hi, ?_, e1, (by rw [e3]; exact fun q => (by cases q)), (by rw [hsl]; exact e4 k hk)⟩, hok k hk⟩
    exact (u_facts hfc hkC (jlay hts hr' hk) hi).1


theorem jokf_I {ty : FieldType} {z : Int} (h : jokf ty z) (hk : jfk ty = 0) : inI z := by
  cases ty <;> simp [jfk] at hk <;> simp only [jokf, inI] at h ⊢ <;> omega
theorem jfv_I {g : jjG} {ty : FieldType} {z : Int} (hk : jfk ty = 0) : jfv g ty z = .int (Int32.ofInt z) := by
  cases ty <;> simp [jfk] at hk <;> rfl
theorem jokf_L {ty : FieldType} {z : Int} (h : jokf ty z) (hk : jfk ty = 1) : inL z := by
  cases ty <;> simp [jfk] at hk
  exact h
theorem jfv_L {g : jjG} {ty : FieldType} {z : Int} (hk : jfk ty = 1) : jfv g ty z = .long (Int64.ofInt z) := by
  cases ty <;> simp [jfk] at hk
  rfl
theorem jfv_R {g : jjG} {ty : FieldType} {z : Int} (hk : jfk ty = 2) : jfv g ty z = jrv g z := by
  cases ty <;> simp [jfk] at hk <;> rfl
theorem jokf_R {ty : FieldType} {z : Int} (hk : jfk ty = 2) : jokf ty z := by
  cases ty <;> simp [jfk] at hk <;> trivial
/-- an array at a -/
theorem jHR.arr {g : jjG} {U : State} {h : jjH} {H : Heap} {a c : Int} (hR : jHR g U h H) (hK : va_K g.2.1 jcl (jtys g) U) (ha : jok h.2 a c) (hc : c < 0) :
    (∃ cell : Cell, H[jadr g a]? = some cell ∧ U.isArrayOf cell (jcf c) ∧ cell.vm ≠ .unknown ∧ (jln h.2 a).toNat ≤ cell.slots.size ∧ cell.slots.size.toInt32 = Int32.ofInt (jln h.2 a) ∧ ∀ j : Nat, (j : Int) < jln h.2 a → cell.slots[j]? = some (jfv g (jcf c) (h.1 a j))) ∧ 0 ≤ jln h.2 a ∧ jln h.2 a < 2147483648 ∧ ∀ j : Nat, (j : Int) < jln h.2 a → jokf (jcf c) (h.1 a j) := by
  obtain ⟨h1, h2, h3, h4, h5⟩ := hR
  obtain ⟨ha0, ha1, ha2⟩ := ha
  subst ha2
  by_cases ho : a < 400
  · obtain ⟨⟨-, q2⟩, q3⟩ := h5 a ha0 ho
    obtain ⟨⟨cell, e1, e2, e3, e4, e5, e6, -⟩, hl0, hl1, hok⟩ := q2 hc
    refine ⟨⟨cell, by rw [h3 _ q3]; exact e1, e2, e3, e4, ?_, fun j hj => e6 j (by show j < (jln h.2 a).toNat; omega)⟩, hl0, hl1, hok⟩
    rw [e5]
    show Int32.ofNat (jln h.2 a).toNat = Int32.ofInt (jln h.2 a)
    rw [← Int32.ofInt_eq_ofNat, Int.toNat_of_nonneg (show 0 ≤ jln h.2 a from hl0)]
  · obtain ⟨-, q2⟩ := h4 a (by omega) ha1
    obtain ⟨e1, hl0, hl1, hc8, hok⟩ := q2 hc
    refine ⟨⟨_, e1, ?_, (fun q => by cases q), ?_, ?_, ?_⟩, hl0, hl1, hok⟩
    · have hk : (jtys g)[(-1 - (h.2.1 a).1).toNat]? = some (g.2.2.1 (h.2.1 a).1, jcf (h.2.1 a).1) := by
        unfold jtys
        rw [List.getElem?_map, List.getElem?_range (by omega)]
        have e : (-1 - ((-1 - (h.2.1 a).1).toNat : Int)) = (h.2.1 a).1 := by omega
        show some (g.2.2.1 (-1 - ((-1 - (h.2.1 a).1).toNat : Int)), _) = _
        rw [e]
        rfl
      exact (hK.2 _ _ hk).1 _ _
    · rw [arrV_size]; exact Nat.le_refl _
    · rw [arrV_size]
      show Int32.ofNat (jln h.2 a).toNat = Int32.ofInt (jln h.2 a)
      rw [← Int32.ofInt_eq_ofNat, Int.toNat_of_nonneg (show 0 ≤ jln h.2 a from hl0)]
    · intro j hj
      exact arrV_read _ _ (show j < (jln h.2 a).toNat by omega)
theorem jcell_kept {g : jjG} {v v' : Int → Int → Int} {T T' : jjT} {b : Int} {H H' : Heap} (h : jcell g (v, T) b H) (hv : v' b = v b) (hT : T'.1 b = T.1 b) (hH : H'[jadr g b]? = H[jadr g b]?) : jcell g (v', T') b H' := by
  unfold jcell at h ⊢
  dsimp only at h ⊢
  rw [hv, hT]
  refine ⟨fun hc => ?_, fun hc => ?_⟩
  · obtain ⟨r, h1, h2, h3⟩ := h.1 hc
    exact ⟨r, h1, h2.kept hH, h3⟩
  · obtain ⟨h1, h2⟩ := h.2 hc
    exact ⟨hH.trans h1, h2⟩
theorem jHR.set {g : jjG} {U : State} {v : Int → Int → Int} {T : jjT} {H H' : Heap} {a : Int} (hR : jHR g U (v, T) H) (ha : 400 ≤ a) (hz : H'.size = H.size) (ho : ∀ q, q ≠ jadr g a → H'[q]? = H[q]?) (v' : Int → Int → Int) (hv : ∀ b, b ≠ a → v' b = v b) (hc : jcell g (v', T) a H') : jHR g U (v', T) H' := by
  obtain ⟨h1, h2, h3, h4, h5⟩ := hR
  refine ⟨h1, hz.trans h2, fun q hq => ?_, fun b hb hb' => ?_, fun b hb hb' => ?_⟩
  · rw [ho q (fun e => by have := jadr_ge (g := g) ha; omega)]; exact h3 q hq
  · by_cases hba : b = a
    · subst hba; exact hc
    · exact jcell_kept (h4 b hb hb') (hv b hba) rfl (ho _ (jadr_ne hb ha hba))
  · obtain ⟨q1, q2⟩ := h5 b hb hb'
    refine ⟨?_, q2⟩
    unfold jroc at q1 ⊢
    dsimp only at q1 ⊢
    rw [hv b (by omega)]
    exact q1
/-- a new cell -/
theorem jHR.new {g : jjG} {U : State} {v : Int → Int → Int} {T : jjT} {H H' : Heap} (hR : jHR g U (v, T) H) (hz : H'.size = H.size + 1) (ho : ∀ q, q < H.size → H'[q]? = H[q]?) (v' : Int → Int → Int) (hv : ∀ b, b ≠ T.2 → v' b = v b) (T' : Int → Int × Int) (hT : ∀ b, b ≠ T.2 → T' b = T.1 b) (hc : jcell g (v', (T', T.2 + 1)) T.2 H') : jHR g U (v', (T', T.2 + 1)) H' := by
  obtain ⟨h1, h2, h3, h4, h5⟩ := hR
  dsimp only at h1 h2 h4
  refine ⟨by dsimp only; omega, by dsimp only; omega, fun q hq => ?_, fun b hb hb' => ?_, fun b hb hb' => ?_⟩
  · rw [ho q (by omega)]; exact h3 q hq
  · by_cases hba : b = T.2
    · subst hba; exact hc
    · dsimp only at hb'
      refine jcell_kept (h4 b hb (by omega)) (hv b hba) (hT b hba) (ho _ ?_)
      rw [jadr_new hb]; omega
  · obtain ⟨q1, q2⟩ := h5 b hb hb'
    refine ⟨?_, q2⟩
    unfold jroc at q1 ⊢
    dsimp only at q1 ⊢
    rw [hv b (by omega), hT b (by omega)]
    exact q1
theorem jHR.size {g : jjG} {U : State} {h : jjH} {H : Heap} (hR : jHR g U h H) : jadr g h.2.2 = H.size := by
  rw [jadr_new hR.1]; exact hR.2.1.symm
