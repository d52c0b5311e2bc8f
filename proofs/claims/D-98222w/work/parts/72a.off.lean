/-! ===== methods of classes with rows of natives, that have none themselves ===== -/
set_option maxRecDepth 100000
section BodiesF
variable {l : Launch}
theorem vx_ofWF {y : MethodName} {ws ws' : List Cond} {rm : Room} {Pc : Array Value → State → Prop} {Qc : Array Value → State → Outcome → State → Prop} {XC : String → Addr → State → State → Prop} {mc ms : Nat} {free : Addr → Prop} {cc : ByteArray} {maxL : Nat} {ret : Option FieldType}
    (hy : plainFor y = true) (hw : ws = Cond.code y cc maxL ret :: ws')
    (body : ∀ p e s m args below meth c s₁, BodyLoose p l y (headSpec ws rm) cc maxL ret e s m args below meth c s₁ → c.maxLocals = maxL → (∀ x ∈ c.exceptionTable.toList, False) → Pc args s →
      W p l e (headSpec ws rm).room s m args below meth c s.heap [] 0 0 (vx_MQ below Qc XC args s mc ms free) (entryFrame m args maxL)) : vx_Met l y ws rm Pc Qc XC mc ms free := by
  refine MetFree.of_bodySF (code := cc) (maxLocals := maxL) (ret := ret) hy ?_ ?_
  · intro args s m h hn
    obtain ⟨meth, c, h1, h2, h3, h4, h5, h6, -, -⟩ := Cond.code_spec hn (atoms_spec (ws := ws) h _ (by rw [hw]; exact List.mem_cons_self))
    exact ⟨meth, c, h1, h2, h3, h4, h5, h6⟩
  · intro p e s m args below meth c s₁ B hml hP _
    have hh0 : s₁.heap = s.heap := by rw [B.state]; rfl
    have ht : ∀ x ∈ c.exceptionTable.toList, False := by
      obtain ⟨meth9, c9, h1, h2, -, -, -, -, h7, -⟩ := Cond.code_spec B.named (atoms_spec (ws := ws) B.pre _ (by rw [hw]; exact List.mem_cons_self))
      cases Option.some.inj (h1.symm.trans B.method)
      cases Option.some.inj (h2.symm.trans (Stand.of_body B).code)
      intro x hx
      rw [Array.isEmpty_iff.mp h7] at hx
      cases hx
    obtain ⟨t, a1, o, b1, b2, b3⟩ := body p e s m args below meth c s₁ B hml ht hP s₁ hh0 (Stand.of_body B)
    exact ⟨t, o, a1, b1, b2, b3⟩
end BodiesF
theorem jmet_ofF {bl : jjB} {pcs : Nat → Nat} {M : jjM} (hS : jSound bl pcs M) (hp0 : pcs 0 = 0) (hy : plainFor M.1 = true) (hm : M.2.2.1 ≤ 40) {g : jjG} {d mc ms : Nat} {as : List jjV} {h : jjH} {Q : jjQ} {ls : List (Option jjV)} (hls : jent as ++ List.replicate (M.2.2.1 - (jent as).length) none = ls) (hlen : (jent as).length ≤ M.2.2.1)
    (hW : jW bl (g, d, mc, ms, Q) 0 ls [] h 0 0) : jmet g (d + 1) mc ms M as h Q := by
  subst hls
  refine ⟨d + 1, mc, ms, Nat.le_refl _, Nat.le_refl _, Nat.le_refl _, hm, ?_⟩
  refine vx_ofWF (cc := M.2.1) (maxL := M.2.2.1) (ret := M.2.2.2) hy rfl ?_
  intro p ev s m args below meth c s₁ B hml htab hv
  obtain ⟨rfl, hok, hHR, hGK⟩ := hv
  have hts := atoms_spec (ws := ws_ M.1 M.2.1 M.2.2.1 M.2.2.2) B.pre
  have hts : ∀ w ∈ lw_all, w.before _ s = true := fun w h => hts w (List.mem_cons_of_mem _ h)
  have hown : s.vm.findClass M.1.cls = some m.cls := findClass_of_methodNamed B.named
  have hlk := B.notSynchronized
  have hX : jX (g, d, mc, ms, Q) p ev (headSpec (ws_ M.1 M.2.1 M.2.2.1 M.2.2.2) ({ frames := d + 1, cells := mc, slots := ms, locals := 60 * (d + 1) })).room s m (as.map (jtv g)).toArray below meth c M.2.1 M.2.2.1 M.1.cls (jQm (g, d, mc, ms, Q) below (as.map (jtv g)).toArray s) := by
    refine ⟨B.exec, B.bytes, hml, hown, hts, hGK, ⟨Nat.le_refl _, Nat.le_refl _, Nat.le_refl _, Nat.le_refl _⟩, ?_⟩
    intro pc lsM st H locs nc ns a h hj ha h4 hH hlo
    obtain ⟨q1, -⟩ := hH.2.2.2.1 a h4 ha.2.1
    rw [ha.2.2] at q1
    obtain ⟨r', hr', ⟨cell, e1, e2, e3, e4⟩, -⟩ := q1 (by decide)
    have hr5 : (RX5, jT5, 2) = r' := Option.some.inj hr'
    subst hr5
    refine vx_out (E := RX5) (fun x hx => absurd (htab x hx) id) hlk e1 e3 (by rw [e2]; exact (hGK.1.1 5 _ rfl).2.1) (fun t ht hW => ⟨a, h, hj.2.2, rfl, ha, h4, by rw [ht]; exact jHR.moved hW hH⟩) hlo hj.1 hj.2.1
  have hrun := jSound.run (hS _ p ev _ s m _ below meth c hX B.returns (name_of_methodNamed B.named B.method).1 hlk) 0 _ _ _ _ _ hW
  rw [hp0] at hrun
  rw [lg_entry_eq]
  have hl := lv_entry (as.map (jtv g)) (n := M.2.2.1) (by rw [jent_len]; exact hlen)
  refine hrun (fun v hv => ?_) (fun v hv => by cases hv) s.heap [] _ hHR (fun z hz => by cases hz) ⟨hl.1, hl.2.1, fun i v hv => ?_⟩
  · rcases List.mem_append.mp hv with q | q
    · exact jent_ok as hok v q
    · have := (List.mem_replicate.mp q).2
      cases this
  · have q := jent_args g as 0 i v (jpad hv)
    rw [Nat.zero_add] at q
    exact hl.2.2 _ q
