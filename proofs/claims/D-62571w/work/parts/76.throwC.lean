/-! a callee throws -/
section XV
variable {p : Program} {l : Launch} {e : Env} {R : Room} {s : State} {m : MethodId} {args : Array Value} {below : List Frame} {meth : Method} {c : Code} {T : State} {locs : List Loc} {cells slots : Nat}
/-- a virtual call: up to the callee's entry -/
theorem xv_enter (X : Stand p l e R s m args below meth c T locs cells slots) (hexec : p.tables.exec = Jvm.exec) {own C : String} {index : Nat} {y : MethodName} {bytes : ByteArray} {maxL : Nat} {ret : Option FieldType}
    (hown : s.vm.findClass own = some m.cls) (hlink : (Cond.methodLink own index y).before args s = true ∨ ∃ host, (Cond.methodLinkNest own index y host).before args s = true) (hinst : (Cond.instanceMethod y).before args s = true) (hsel : (Cond.selects C y y).before args s = true) (hcode : (Cond.code y bytes maxL ret).before args s = true) (hy : y.cls ≠ "java/lang/invoke/MethodHandle" ∧ y.cls ≠ "java/lang/invoke/VarHandle")
    {b : Addr} {cellB : Cell} (hcell : T.heap[b]? = some cellB) (hobj : cellB.vm.isStatics = false) (hcls : s.vm.findClass C = some cellB.cls)
    {g : JFrame} (hg : g.method = m) {argsL rest : List Value} (hlen : ∀ sig, parseMethodDescriptor y.desc = some sig → argsL.length = sig.parameters.length) (hstack : g.stack = argsL.reverse ++ .ref b :: rest) (hdg : decode c.code g.pc = .ok (.invokevirtual index, 3)) :
    ∃ (mk : MethodId) (vm₁ : Vm), s.methodNamed? y = some mk ∧ Stand p l e R s m args below meth c (T.setVm vm₁) locs cells slots ∧ ∀ target, (∀ acts, Steps p.tables e below (doInvoke e ((T.setVm vm₁).setTop { g with stack := rest }) acts mk (Value.ref b :: argsL).toArray).1 target) → Steps p.tables e below (T.setTop g) target := by
  obtain ⟨mk, methM, hnamed, hmethM, hstM, habM⟩ := Cond.instanceMethod_spec hinst
  obtain ⟨methM', cM, hmethM', -, -, -, -, -, -, hsigM⟩ := Cond.code_spec hnamed hcode
  cases hmethM.symm.trans hmethM'
  obtain ⟨c2, r2, m2, q1, q2, q3, q4, kP, hkP, hkPi⟩ := Cond.selects_spec hsel
  cases hcls.symm.trans q1
  cases (State.methodFound?_of_named hnamed hy).symm.trans q2
  cases hnamed.symm.trans q3
  have hselP : selectMethod e.platform s.vm cellB.cls mk = .method mk := by rw [Launch.admits_selectMethod X.admits]; exact q4
  have hob : ∀ z, cellB.vm ≠ .statics z := fun z h => by rw [h] at hobj; cases hobj
  rcases hlink with h | ⟨host, h⟩
  · obtain ⟨vm₁, X₁, hstep⟩ := X.invokevirtual hexec hown h hnamed hmethM hstM hkP hkPi hy (a := b) (cell := cellB) hcell hob hselP hmethM habM hkP hkPi (g := g) hg (argsL := argsL) (rest := rest) (hlen _ hsigM) hstack hdg
    exact ⟨mk, vm₁, hnamed, X₁, hstep⟩
  · obtain ⟨vm₁, X₁, hstep⟩ := X.invokevirtualNest hexec hown h hnamed hmethM hstM hkP hkPi hy (a := b) (cell := cellB) hcell hob hselP hmethM habM hkP hkPi (g := g) hg (argsL := argsL) (rest := rest) (hlen _ hsigM) hstack hdg
    exact ⟨mk, vm₁, hnamed, X₁, hstep⟩
set_option maxHeartbeats 4000000 in
/-- the callee has thrown: its object lies over the caller's frame -/
theorem xv_core {D : jD} {b : Nat} {Y Y' : jM} {rm : Room} {w : jW} {k n pc idx nn ci i : Nat} {fs xs st stk : List Value} {lv : List (Nat × Value)} {X' : String} {post' : jW → Prop} {H : Heap} {ls : Array Slot}
    (B : jB Y p s m args meth c) (K : jK D b s) (hH : Hp D b w H) (hS : va_S (fun q => b ≤ q) s.heap H locs) (hl : lv_has ls Y.2.2.1 lv)
    (hs : MSv Y.1.cls idx nn ci Y') (hc : w.2 i = some (.inr (ci, fs))) (hC : CtX l D b Y' rm (.ref (w.1 i) :: xs) w X' post') (hx : xs.length = nn) (hstk : stk = xs.reverse ++ .ref (w.1 i) :: st) (hr : rm.frames + 1 ≤ R.frames ∧ 8 + (Y'.2.2.1 + 11) + rm.locals ≤ R.locals) (hf : k + rm.cells ≤ R.cells ∧ n + rm.slots ≤ R.slots) (hst : (st.map fun v => v.category).sum ≤ 8) (hd : decode Y.2.1 pc = .ok (.invokevirtual idx, 3))
    (hT : T.heap = H) (X : Stand p l e R s m args below meth c T locs k n) :
    ∃ (T' : State) (x : Addr) (cell : Cell) (L : List Loc) (w' : jW), Stand p l e R s m args below meth c T' (locs ++ L) (k + rm.cells) (n + rm.slots) ∧ post' w' ∧ Hp D b w' T'.heap ∧ va_S (fun q => b ≤ q) s.heap T'.heap (locs ++ L) ∧ T'.heap[x]? = some cell ∧ cell.vm = .none ∧ T'.vm.findClass X' = some cell.cls ∧ ∀ target, Steps p.tables e below ((T'.setTop (F0 m pc ls st)).pushFrame (.throwing x)) target → Steps p.tables e below (T.setTop (F0 m pc ls stk)) target := by
  obtain ⟨hm, hin, r, hr1, hsel⟩ := hs
  have hwt := B.2.2.2.2.2.1
  have hrec : ∃ cell : Cell, H[w.1 i]? = some cell ∧ cell.vm.isStatics = false ∧ s.vm.findClass r.1 = some cell.cls := by
    obtain ⟨-, r', h1, cell, g1, g2, g3, -⟩ := hH.1 i _ hc
    exact ⟨cell, g1, by rw [g3]; rfl, by rw [g2]; exact (K.1.1 ci r hr1).2.1⟩
  obtain ⟨cellB, g1, g2, g3⟩ := hrec
  have hcode := hwt _ (tb_in hm.2.2.1 rfl)
  have hlink : (Cond.methodLink Y.1.cls idx Y'.1).before args s = true ∨ ∃ host, (Cond.methodLinkNest Y.1.cls idx Y'.1 host).before args s = true := by
    rcases hm.1 with h | ⟨host, h⟩
    · exact Or.inl (hwt _ h)
    · exact Or.inr ⟨host, jNest_any (List.mem_filter.mp h).2 (K.2.1 _ h)⟩
  obtain ⟨mk, vm₁, hnamed, X₁, hstep⟩ := xv_enter X B.1 (own := Y.1.cls) (C := r.1) (b := w.1 i) B.2.2.2.2.1 hlink (hwt _ hin) (hwt _ hsel) hcode ⟨hm.2.2.2.1, hm.2.2.2.2.1⟩ (by rw [hT]; exact g1) g2 g3 (g := F0 m pc ls stk) rfl (argsL := xs) (rest := st) (fun sig h => by
    have h2 := hm.2.2.2.2.2
    rw [h] at h2
    exact hx.trans (Option.some.inj h2).symm) hstk (by rw [B.2.1]; exact hd)
  have hWU : s.WarmedH (T.setVm vm₁).vm := X₁.warmed
  have pay : ∀ w ∈ (Cond.code Y'.1 Y'.2.1 Y'.2.2.1 Y'.2.2.2 :: tb), ∀ (a' : Array Value) (U : State), s.WarmedH U.vm → w.before a' U = true := pay_in hwt (tb_good hm.2.2.1 rfl)
  have hn : (T.setVm vm₁).methodNamed? Y'.1 = some mk := X₁.named hnamed
  obtain ⟨methY, cY, hmY, hcY, -, hlY, -⟩ := Cond.code_spec hn (pay _ List.mem_cons_self (Value.ref (w.1 i) :: xs).toArray _ hWU)
  obtain ⟨kY, hkY, -⟩ := className_of_methodNamed hn
  have hinitY := Cond.initialized_spec (findClass_of_methodNamed hn) hkY (pay _ (List.mem_cons_of_mem _ hm.2.1) (Value.ref (w.1 i) :: xs).toArray _ hWU)
  have hat : At (T.setVm vm₁) (F0 m pc ls st).method c below := X₁.here
  have hW : 2 * (F0 m pc ls st).monitorRoom + ((F0 m pc ls st).stack.map fun v => v.category).sum ≤ 8 := lv_rm (stk := st) hst
  have happ : (headSpec (.code Y'.1 Y'.2.1 Y'.2.2.1 Y'.2.2.2 :: tb) rm).appliesLoose Y'.1 e.platform ((T.setVm vm₁).calling (F0 m pc ls st) mk (Value.ref (w.1 i) :: xs).toArray) = true :=
    Spec.appliesLoose_calling (g := F0 m pc ls st) hat (by rw [B.2.1]; exact hd) hn hkY hinitY (X₁.room_calling (g := F0 m pc ls st) (R' := rm) (by show ls.size = _; rw [B.2.2.2.1]; exact hl.1) hmY hcY hr.1 (by rw [hlY]; omega) hf.1 hf.2) (atoms_intro fun w hw => pay w hw _ _ hWU)
  obtain ⟨mid, hmid⟩ := hat.above
  have hfr : ((T.setVm vm₁).setTop (F0 m pc ls st)).frames = (.java (F0 m pc ls st) :: mid) ++ below := by rw [State.frames_setTop' _ hat.top, hmid]; rfl
  obtain ⟨o, s₂, hsteps, -, hend, hq⟩ := Steps.callFree hC p X₁.admits X₁.cas X₁.clock (acts := []) hfr happ (Ct.blind _ (T.setVm vm₁) (F0 m pc ls st) mk (jPre K hH hS (T.setVm vm₁) hT hWU)) trivial
  rw [State.frames_setTop' _ hat.top, X₁.tail] at hend
  obtain ⟨x, cell, L, rfl, hW2, hsame, hL, ⟨w', hp, hHp⟩, hKt, hF, hcell, hvm, hcl⟩ := hq
  obtain ⟨T', X2, hWT, hsT, ht⟩ := X₁.outOfThrown (g := F0 m pc ls st) rfl hend hW2 hsame
  have eh : T'.heap = s₂.heap := by rw [ht]; exact (Stand.throwing_heap T' _ x).symm
  have ev : T'.vm = s₂.vm := by rw [ht]; exact (Stand.throwing_vm T' _ x).symm
  have hF1 : H.size ≤ s₂.heap.size := by rw [← hT]; exact hF.1
  have hF2 : ∀ q : Nat, q < H.size → ¬ b ≤ q → s₂.heap[q]? = H[q]? := by rw [← hT]; exact hF.2
  refine ⟨T', x, cell, L, w', X2, hp, by rw [eh]; exact hHp, ⟨by rw [eh]; exact Nat.le_trans hS.1 hF1, fun q h1 h2 => by rw [eh, hF2 q (Nat.lt_of_lt_of_le h1 hS.1) h2]; exact hS.2.1 q h1 h2, fun q hq => ?_⟩, by rw [eh]; exact hcell, hvm, by rw [ev]; exact hcl, fun target h => hstep _ fun acts => ?_⟩
  · rcases List.mem_append.mp hq with h | h
    · exact hS.2.2 q h
    · exact hL q h
  · rw [doInvoke_state]
    rw [doInvoke_state] at hsteps
    refine hsteps.trans ?_
    rw [ht]
    exact h
end XV
section XVT
variable {l : Launch} {D : jD} {b : Nat} {Y : jM} {R : Room} {w : jW} {k n pc : Nat} {lv : List (Nat × Value)} {st stk : List Value}
/-- the throw goes on -/
theorem X_callVT {X : String} {post post' : jW → Prop} {idx nn ci i : Nat} {fs : List Value} {Y' : jM} {rm : Room} (xs : List Value) (hs : MSv Y.1.cls idx nn ci Y') (hc : w.2 i = some (.inr (ci, fs))) (hC : CtX l D b Y' rm (.ref (w.1 i) :: xs) w X post') (hx : xs.length = nn) (hstk : stk = xs.reverse ++ .ref (w.1 i) :: st) (hr : rm.frames + 1 ≤ R.frames ∧ 8 + (Y'.2.2.1 + 11) + rm.locals ≤ R.locals) (hf : k + rm.cells ≤ R.cells ∧ n + rm.slots ≤ R.slots) (hst : (st.map fun v => v.category).sum ≤ 8) (hd : decode Y.2.1 pc = .ok (.invokevirtual idx, 3))
    (hp : ∀ w', post' w' → post w') (hno : jHs Y.1 = [] := by decide +kernel) : JX l D b Y R X post w k n pc lv stk := by
  intro p e s m args below meth c B K H locs ls hH hS hl T hT X0
  obtain ⟨T', x, cell, L, w', X2, hp', hH', hS', hc1, hc2, hc3, hgo⟩ := xv_core B K hH hS hl hs hc hC hx hstk hr hf hst hd hT X0
  obtain ⟨a1, a2, a3, a4, a5⟩ := X2.leaveThrown x (g := F0 m pc ls st) rfl rfl rfl (jXt_out (B.2.2.2.2.2.2.2.2.trans hno) _) B.2.2.2.2.2.2.1
  exact ⟨T'.setFrames (.throwing x :: below), hgo _ a1, .threw x, a2, a3, x, cell, locs ++ L, rfl, a4, a5.mono hf.1 hf.2, hS'.2.2, ⟨w', hp _ hp', hH'⟩, K.warm a4 hS'.1 hS'.2.1, ⟨hS'.1, hS'.2.1⟩, hc1, hc2, hc3⟩
end XVT
/-! the search for a handler: the catch types may be cold -/
section XF
variable {Q : Handler → Pre} {E : CtlPost} {e : Env} {d : Bool} {acts : List Action} {s : State} {f : JFrame} {a : Addr}
theorem fh_step {x : ExceptionTableEntry} {t : List ExceptionTableEntry} {c : ClassId} {cell : Cell} (hx : covers x f.pc = true) (h0 : x.catchType ≠ 0) (hl : s.vm.ClassLinks e.platform f.method.cls x.catchType c) (hcell : s.heap[a]? = some cell) (hobj : ∀ k, cell.vm ≠ .statics k) (hk : ∃ k, s.vm.classes[cell.cls]? = some k) (hc : ∃ k, s.vm.classes[c]? = some k) :
    wp (findHandler.go f a (x :: t)) Q E e d acts s ↔ if s.vm.assignable cell.cls c = true then Q (.found x.handlerPc) d acts (s.setVm (s.vm.noted f.method.cls x.catchType (.cls c))) else wp (findHandler.go f a t) Q E e d acts (s.setVm (s.vm.noted f.method.cls x.catchType (.cls c))) := by
  simp only [covers] at hx
  obtain ⟨h1, h2⟩ := (resolveClass_links e.toSetting hl).op (op := VmOp.resolveClass f.method.cls x.catchType) rfl
  have hal : s.vm.Alike (s.vm.noted f.method.cls x.catchType (.cls c)) := (Vm.Alike.refl s.vm).noted _ _ _
  obtain ⟨k1, hk1⟩ := hk
  obtain ⟨k2, hk2⟩ := hc
  obtain ⟨k1', hk1', -⟩ := hal.2.2 _ _ hk1
  obtain ⟨k2', hk2', -⟩ := hal.2.2 _ _ hk2
  have ha : (s.vm.noted f.method.cls x.catchType (.cls c)).assignable cell.cls c = s.vm.assignable cell.cls c := by rw [hal.assignable]
  cases hfit : s.vm.assignable cell.cls c with
  | true =>
    rw [hfit] at ha
    simp [findHandler.go, hx, h0, h1, h2, hcell, hobj, hk1', hk2', ha, VmOp.dirties, VmOp.acts]
  | false =>
    rw [hfit] at ha
    simp [findHandler.go, hx, h0, h1, h2, hcell, hobj, hk1', hk2', ha, VmOp.dirties, VmOp.acts]
theorem fh_go {s₀ : State} {cell : Cell} (hobj : ∀ k, cell.vm ≠ .statics k) (hk0 : ∃ k, s₀.vm.classes[cell.cls]? = some k) (x : ExceptionTableEntry) (rest : List ExceptionTableEntry) (hx : covers x f.pc = true) (h0 : x.catchType ≠ 0) {c : ClassId} (hl : s₀.vm.ClassLinks e.platform f.method.cls x.catchType c) (hfit : s₀.vm.assignable cell.cls c = true) :
    ∀ (pre : List ExceptionTableEntry) (S : State), s₀.WarmedH S.vm → S.heap[a]? = some cell → (∀ y ∈ pre, covers y f.pc = true ∧ y.catchType ≠ 0 ∧ ∃ c, s₀.vm.ClassLinks e.platform f.method.cls y.catchType c ∧ s₀.vm.assignable cell.cls c = false) →
      ∃ vm', s₀.WarmedH vm' ∧ ∀ (Q : Handler → Pre) (E : CtlPost) (d : Bool) (acts : List Action), wp (findHandler.go f a (pre ++ x :: rest)) Q E e d acts S ↔ Q (.found x.handlerPc) d acts (S.setVm vm') := by
  obtain ⟨k0, hk0⟩ := hk0
  have warm : ∀ {y : ExceptionTableEntry} {c : ClassId} {S : State}, s₀.WarmedH S.vm → s₀.vm.ClassLinks e.platform f.method.cls y.catchType c → s₀.WarmedH (S.vm.noted f.method.cls y.catchType (.cls c)) ∧ ∃ k, S.vm.classes[c]? = some k := by
    intro y c S hW hl
    obtain ⟨dk, _, _, kt, hd, _, _, _, _, hkt, _, hop⟩ := hl.here
    obtain ⟨kt', hkt', -⟩ := hW.alike.2.2 _ _ hkt
    exact ⟨hW.noted hd hop (State.rightAt_cls hl), kt', hkt'⟩
  intro pre
  induction pre with
  | nil =>
    intro S hW hcell _
    obtain ⟨k0', hk0', -⟩ := hW.alike.2.2 _ _ hk0
    obtain ⟨w1, w2⟩ := warm hW hl
    exact ⟨_, w1, fun Q E d acts => by
      rw [List.nil_append, fh_step hx h0 (hW.classLinks hl) hcell hobj ⟨k0', hk0'⟩ w2, if_pos (by rw [hW.alike.assignable]; exact hfit)]⟩
  | cons y ys ih =>
    intro S hW hcell hpass
    obtain ⟨k0', hk0', -⟩ := hW.alike.2.2 _ _ hk0
    obtain ⟨p1, p2, c', p3, p4⟩ := hpass y List.mem_cons_self
    obtain ⟨w1, w2⟩ := warm hW p3
    obtain ⟨vm', v1, v2⟩ := ih (S.setVm (S.vm.noted f.method.cls y.catchType (.cls c'))) w1 hcell (fun z hz => hpass z (List.mem_cons_of_mem _ hz))
    exact ⟨vm', v1, fun Q E d acts => by
      rw [List.cons_append, fh_step p1 p2 (hW.classLinks p3) hcell hobj ⟨k0', hk0'⟩ w2, if_neg (by rw [hW.alike.assignable, p4]; decide), v2]
      rfl⟩
end XF
