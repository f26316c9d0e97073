/-- a contract of a throw out of the walk of the body -/
theorem CtX_of {l : Launch} {D : jD} {b : Nat} {Y : jM} {R : Room} {xs : List Value} {w : jW} {X : String} {post : jW → Prop} (hy : plainName Y.1.cls = true) (hl : (lg_sl xs).length ≤ Y.2.2.1)
    (h : JX l D b Y R X post w 0 0 0 (lv_args 0 xs) []) (hno : jHs Y.1 = [] := by decide +kernel) : CtX l D b Y R xs w X post := by
  refine MetFree.of_bodyS (code := Y.2.1) (maxLocals := Y.2.2.1) (ret := Y.2.2.2) hy ?_ ?_
  · intro args s m h hn
    obtain ⟨meth, c, h1, h2, h3, h4, h5, h6, -, -⟩ := Cond.code_spec hn (atoms_spec (ws := .code Y.1 Y.2.1 Y.2.2.1 Y.2.2.2 :: tb) h _ List.mem_cons_self)
    exact ⟨meth, c, h1, h2, h3, h4, h5, h6⟩
  · intro p e s m args below meth c s₁ B hml hv _
    obtain ⟨rfl, hH, hK⟩ := hv
    have hts : ∀ w ∈ (Cond.code Y.1 Y.2.1 Y.2.2.1 Y.2.2.2 :: tb), w.before xs.toArray s = true := atoms_spec (ws := .code Y.1 Y.2.1 Y.2.2.1 Y.2.2.2 :: tb) B.pre
    have hl2 := lv_entry xs (n := Y.2.2.1) hl
    have hh0 : s₁.heap = s.heap := by rw [B.state]; rfl
    rw [lg_entry_eq]
    obtain ⟨t, a1, o, b1, b2, b3⟩ := h p e s m xs.toArray below meth c ⟨B.exec, B.bytes, B.returns, hml, findClass_of_methodNamed B.named, fun w hw => hts w (List.mem_cons_of_mem _ hw), B.notSynchronized, (name_of_methodNamed B.named B.method).1, (jXt_nil (B.noHandlers (hts _ List.mem_cons_self))).trans hno.symm⟩ hK s.heap [] _ hH va_S.rf hl2 s₁ hh0 (Stand.of_body B)
    exact ⟨t, o, a1, b1, b2, b3⟩
