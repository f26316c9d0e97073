/-! a throw is caught -/
theorem xv_caught {tb : Tables} {e : Env} {s target : State} {g : JFrame} {c : Code} {below : List Frame} {a : Addr} (h : At s g.method c below) {pc : Nat} {vm' : Vm}
    (hfind : ∀ (Q : Handler → Pre) (E : CtlPost) (d : Bool) (acts : List Action), wp (findHandler g a) Q E e d acts ((s.setTop g).pushFrame (.throwing a)) ↔ Q (.found pc) d acts (((s.setTop g).pushFrame (.throwing a)).setVm vm')) (hrest : Steps tb e below ((s.setVm vm').setTop { g with pc := pc, stack := [.ref a] }) target) :
    Steps tb e below ((s.setTop g).pushFrame (.throwing a)) target := by
  obtain ⟨hgo, hw⟩ := h.throwing a
  refine Steps.head hgo hw ?_
  obtain ⟨g₀, hg⟩ := Option.isSome_iff_exists.mp h.top
  obtain ⟨r, hr⟩ := State.topJava?_eq_some.mp hg
  have hr' : (s.setVm vm').frames = .java g₀ :: r := hr
  have key : (stepThrowing e ((s.setTop g).pushFrame (.throwing a)) a (.java g :: s.frames.tail)).1 = (((s.setTop g).pushFrame (.throwing a)).setVm vm').setFrames (.java { g with pc := pc, stack := [.ref a] } :: s.frames.tail) := by
    simp only [stepThrowing, searchFrame, vmDo]
    generalize hres : Sem.go _ e false [] ((s.setTop g).pushFrame (.throwing a)) = res
    obtain ⟨as, rfl, ha⟩ := Sem.eq_ok_of hres (a := Handler.found pc) (s' := ((s.setTop g).pushFrame (.throwing a)).setVm vm') (acts' := []) (by simp [hfind _ _ _ _])
    rfl
  have e1 : ∀ (u : State) (F G : List Frame), ((u.setFrames F).setVm vm').setFrames G = (u.setVm vm').setFrames G := fun u F G => by
    show ((u.setVm vm').setFrames F).setFrames G = _
    rw [State.setFrames_setFrames]
  rw [stepThread_throwing (frames_entered h.top _), key]
  rw [State.setTop_of_frames _ hr'] at hrest
  rw [hr, List.tail_cons, State.pushFrame, e1, State.setTop_of_frames _ hr, e1]
  exact hrest
section XJ
variable {l : Launch} {D : jD} {b : Nat} {Y : jM} {R : Room} {w : jW} {k n pc : Nat} {lv : List (Nat × Value)} {st stk : List Value} {post : Option Value → jW → Prop}
set_option maxHeartbeats 4000000 in
/-- a callee's throw is caught here -/
theorem J_callVC {X : String} {post' : jW → Prop} {idx nn ci i hpc ct a0 a1 : Nat} {fs : List Value} {Y' : jM} {rm : Room} (xs : List Value) (hs : MSv Y.1.cls idx nn ci Y') (hc : w.2 i = some (.inr (ci, fs))) (hC : CtX l D b Y' rm (.ref (w.1 i) :: xs) w X post') (hx : xs.length = nn) (hstk : stk = xs.reverse ++ .ref (w.1 i) :: st) (hr : rm.frames + 1 ≤ R.frames ∧ 8 + (Y'.2.2.1 + 11) + rm.locals ≤ R.locals) (hf : k + rm.cells ≤ R.cells ∧ n + rm.slots ≤ R.slots) (hst : (st.map fun v => v.category).sum ≤ 8) (hd : decode Y.2.1 pc = .ok (.invokevirtual idx, 3))
    (pre rest : List (Nat × Nat × Nat × Nat)) (hh : jHs Y.1 = pre ++ (a0, a1, hpc, ct) :: rest) (hcv : a0 ≤ pc ∧ pc < a1) (h0 : ct ≠ 0) (hcl : Cond.classLink Y.1.cls ct X ∈ tb) (hcs : Cond.castable X X ∈ nst) (hpre : ∀ q ∈ pre, (q.1 ≤ pc ∧ pc < q.2.1) ∧ q.2.2.2 ≠ 0 ∧ ∃ nm, Cond.classLink Y.1.cls q.2.2.2 nm ∈ tb ∧ Cond.not (.castable X nm) ∈ nst)
    (kk : ∀ x w', post' w' → J l D b Y R post w' (k + rm.cells) (n + rm.slots) hpc lv [.ref x]) : J l D b Y R post w k n pc lv stk := by
  intro p e s m args below meth c B K H locs ls hH hS hl T hT X0
  obtain ⟨T', x, cell, L, w', X2, hp', hH', hS', hc1, hc2, hc3, hgo⟩ := xv_core B K hH hS hl hs hc hC hx hstk hr hf hst hd hT X0
  have htab : jXt c = pre ++ (a0, a1, hpc, ct) :: rest := B.2.2.2.2.2.2.2.2.trans hh
  unfold jXt at htab
  obtain ⟨pre', r', e1, e2, e3⟩ := List.map_eq_append_iff.mp htab
  obtain ⟨x', rest', e4, e5, e6⟩ := List.map_eq_cons_iff.mp e3
  rw [e4] at e1
  have f1 : x'.startPc = a0 := congrArg (fun q : Nat × Nat × Nat × Nat => q.1) e5
  have f2 : x'.endPc = a1 := congrArg (fun q : Nat × Nat × Nat × Nat => q.2.1) e5
  have f3 : x'.handlerPc = hpc := congrArg (fun q : Nat × Nat × Nat × Nat => q.2.2.1) e5
  have f4 : x'.catchType = ct := congrArg (fun q : Nat × Nat × Nat × Nat => q.2.2.2) e5
  have hpl : e.platform.magicAccessors = ({} : Platform).magicAccessors := by rw [X0.admits.platform]
  obtain ⟨cX, hcX, hclX⟩ := Cond.classLink_spec B.2.2.2.2.1 (B.2.2.2.2.2.1 _ hcl) e.platform hpl
  have hcc : cell.cls = cX := by
    rw [X2.warmed.alike.findClass, hcX] at hc3
    exact (Option.some.inj hc3).symm
  obtain ⟨c3, t3, w1, w2, w3⟩ := Cond.castable_spec (K.2.1 _ hcs)
  cases hcX.symm.trans w1
  cases hcX.symm.trans w2
  have hk0 : ∃ k, s.vm.classes[cell.cls]? = some k := by
    obtain ⟨dk, _, _, kt, hd', _, _, _, _, hkt, _, hop⟩ := hclX.here
    exact ⟨kt, by rw [hcc]; exact hkt⟩
  have hobj : ∀ z, cell.vm ≠ .statics z := fun z h => by rw [hc2] at h; cases h
  have hpass : ∀ y ∈ pre', covers y (F0 m pc ls st).pc = true ∧ y.catchType ≠ 0 ∧ ∃ c, s.vm.ClassLinks e.platform (F0 m pc ls st).method.cls y.catchType c ∧ s.vm.assignable cell.cls c = false := by
    intro y hy
    obtain ⟨g1, g2, nm, g3, g4⟩ := hpre (y.startPc, y.endPc, y.handlerPc, y.catchType) (by rw [← e2]; exact List.mem_map_of_mem hy)
    obtain ⟨cN, hcN, hclN⟩ := Cond.classLink_spec B.2.2.2.2.1 (B.2.2.2.2.2.1 _ g3) e.platform hpl
    refine ⟨?_, g2, cN, hclN, ?_⟩
    · show (decide (y.startPc ≤ pc) && decide (pc < y.endPc)) = true
      rw [decide_eq_true g1.1, decide_eq_true g1.2]
      rfl
    · have hv := Cond.holds_not_iff.mp (K.2.1 _ g4)
      simp only [Cond.value, hcX, hcN] at hv
      rw [hcc]
      exact Option.some.inj hv
  have hx9 : covers x' (F0 m pc ls st).pc = true := by
    show (decide (x'.startPc ≤ pc) && decide (pc < x'.endPc)) = true
    rw [f1, f2, decide_eq_true hcv.1, decide_eq_true hcv.2]
    rfl
  obtain ⟨vm', hW', hfind⟩ := fh_go (s₀ := s) (f := F0 m pc ls st) (a := x) (e := e) hobj hk0 x' rest' hx9 (by rw [f4]; exact h0) (c := cX) (by rw [f4]; exact hclX) (by rw [hcc]; exact w3) pre' ((T'.setTop (F0 m pc ls st)).pushFrame (.throwing x)) (by rw [Stand.throwing_vm]; exact X2.warmed) (by rw [Stand.throwing_heap]; exact hc1) hpass
  obtain ⟨t, b1, b2⟩ := kk x w' hp' p e s m args below meth c B K T'.heap (locs ++ L) ls hH' hS' hl (T'.setVm vm') rfl (X2.noted hW')
  refine ⟨t, hgo _ (xv_caught (pc := hpc) (vm' := vm') X2.here (fun Q E d acts => ?_) b1), b2⟩
  rw [W.findHandler_eq (meth := meth) (code := c) (by rw [Stand.throwing_vm]; exact X2.method') X2.code, e1, hfind Q E d acts, f3]
/-- a contract of a method with handlers -/
def CtW (l : Launch) (D : jD) (b : Nat) (Y : jM) (rm : Room) (xs : List Value) (w : jW) (post : Option Value → jW → Prop) : Prop :=
  Met l Y.1 (.codeWith Y.1 Y.2.1 Y.2.2.1 Y.2.2.2 (jHs Y.1) :: tb) rm (va_Pc xs (fun U => Hp D b w U.heap ∧ jK D b U)) (jQ D b post) rm.cells rm.slots (fun q => b ≤ q)
set_option maxHeartbeats 4000000 in
theorem CtW_of {xs : List Value} (hy : plainName Y.1.cls = true) (hl : (lg_sl xs).length ≤ Y.2.2.1) (h : J l D b Y R post w 0 0 0 (lv_args 0 xs) []) : CtW l D b Y R xs w post := by
  refine va_MetW (cc := Y.2.1) (maxL := Y.2.2.1) (ret := Y.2.2.2) (hh := jHs Y.1) hy rfl ?_
  intro p e s m args below meth c s₁ B hml hv
  obtain ⟨rfl, hH, hK⟩ := hv
  have hts : ∀ w ∈ (Cond.codeWith Y.1 Y.2.1 Y.2.2.1 Y.2.2.2 (jHs Y.1) :: tb), w.before xs.toArray s = true := atoms_spec (ws := .codeWith Y.1 Y.2.1 Y.2.2.1 Y.2.2.2 (jHs Y.1) :: tb) B.pre
  have hl2 := lv_entry xs (n := Y.2.2.1) hl
  have hx : jXt c = jHs Y.1 := by
    obtain ⟨m9, meth9, c9, hn9, h1, h2, -, -, h5, -⟩ := Cond.codeWith_spec (hts _ List.mem_cons_self)
    cases B.named.symm.trans hn9
    cases B.method.symm.trans h1
    cases (Stand.of_body B).code.symm.trans h2
    exact h5
  rw [lg_entry_eq]
  exact h p e s m xs.toArray below meth c ⟨B.exec, B.bytes, B.returns, hml, findClass_of_methodNamed B.named, fun w hw => hts w (List.mem_cons_of_mem _ hw), B.notSynchronized, (name_of_methodNamed B.named B.method).1, hx⟩ hK s.heap [] _ hH va_S.rf hl2
def MSw (own : String) (idx nn : Nat) (Y' : jM) : Prop := (Cond.methodLink own idx Y'.1 ∈ tb ∧ Cond.initialized Y'.1.cls ∈ tb ∧ Cond.static Y'.1 ∈ tb) ∧ Cond.codeWith Y'.1 Y'.2.1 Y'.2.2.1 Y'.2.2.2 (jHs Y'.1) ∈ lw_tbl ∧ (Y'.1.cls ≠ "java/lang/invoke/MethodHandle" ∧ Y'.1.cls ≠ "java/lang/invoke/VarHandle" ∧ (parseMethodDescriptor Y'.1.desc).map (fun d => d.parameters.length) = some nn)
set_option maxHeartbeats 4000000 in
/-- a call of such a method -/
theorem J_callSW {idx nn : Nat} {Y' : jM} {rm : Room} {post' : Option Value → jW → Prop} (xs : List Value) (hs : MSw Y.1.cls idx nn Y') (hC : CtW l D b Y' rm xs w post') (hx : xs.length = nn) (hstk : stk = xs.reverse ++ st) (hr : rm.frames + 1 ≤ R.frames ∧ 8 + (Y'.2.2.1 + 11) + rm.locals ≤ R.locals) (hf : k + rm.cells ≤ R.cells ∧ n + rm.slots ≤ R.slots) (hst : (st.map fun v => v.category).sum ≤ 8) (hd : decode Y.2.1 pc = .ok (.invokestatic idx, 3))
    (kk : ∀ v w', post' v w' → J l D b Y R post w' (k + rm.cells) (n + rm.slots) (pc + 3) lv (v.toList ++ st)) : J l D b Y R post w k n pc lv stk := by
  intro p e s m args below meth c B K H locs ls hH hS hl
  obtain ⟨⟨hs1, hs2, hs3⟩, hs4, hs5, hs6, hs7⟩ := hs
  have hwt := B.2.2.2.2.2.1
  have hgood : GoodIn tb (Cond.codeWith Y'.1 Y'.2.1 Y'.2.2.1 Y'.2.2.2 (jHs Y'.1) :: tb) := tb_good hs4 rfl
  have pay : ∀ w ∈ (Cond.codeWith Y'.1 Y'.2.1 Y'.2.2.1 Y'.2.2.2 (jHs Y'.1) :: tb), ∀ (a' : Array Value) (U : State), s.WarmedH U.vm → w.before a' U = true := pay_in hwt hgood
  have hK : Back l R p e below s args Y'.1 3 8 (PreOf R rm.cells rm.slots (va_Pc xs (fun U => Hp D b w U.heap ∧ jK D b U))) (PostOf (jQ D b post') rm.cells rm.slots (fun q => b ≤ q)) := va_backW (hh := jHs Y'.1) (bytes := Y'.2.1) (maxL := Y'.2.2.1) (ret := Y'.2.2.2) hC Ct.blind rfl rfl hr.1 hr.2 pay List.mem_cons_self (fun a' U hW => pay _ (List.mem_cons_of_mem _ hs2) a' U hW)
  have hrun : va_Run p l e R s m args below meth c H locs k n rm.cells rm.slots (F0 m pc ls stk) st (jQ D b post' xs.toArray) (fun q => b ≤ q) := by
    intro T hT X
    obtain ⟨mk, methM, cM, hnamed, hmethM, -, -, -, -, -, -, hsigM⟩ := Cond.codeWith_spec (hwt _ (tb_in hs4 rfl))
    have hstatic : methM.isStatic = true := Cond.static_spec hnamed hmethM (hwt _ hs3)
    obtain ⟨kP, hkP, -⟩ := className_of_methodNamed hnamed
    have hinitP : kP.init = .initialized := Cond.initialized_spec (findClass_of_methodNamed hnamed) hkP (hwt _ hs2)
    obtain ⟨vm₁, X₁, hstep⟩ := X.invokestatic B.1 B.2.2.2.2.1 (hwt _ hs1) hnamed hmethM hstatic hkP hinitP ⟨hs5, hs6⟩ (g := F0 m pc ls stk) rfl (argsL := xs) (rest := st) (by
      rw [hsigM] at hs7
      exact hx.trans (Option.some.inj hs7).symm) hstk (by rw [B.2.1]; exact hd)
    obtain ⟨v, ⟨U', l2, c2, s2⟩, X', ⟨g', mk', t, L, e1, e2, hq, h1, hL, h2, h3⟩, st1⟩ := hK m meth c ⟨T.setVm vm₁, locs, k, n⟩ (F0 m pc ls st) (.invokestatic idx) mk xs.toArray X₁ rfl (by show ls.size = _; rw [B.2.2.2.1]; exact hl.1) (by rw [B.2.1]; exact hd) (lv_rm (stk := st) hst) (X₁.named hnamed) ⟨hf.1, hf.2, jPre K hH hS (T.setVm vm₁) hT X₁.warmed⟩
    dsimp only [Pt.U, Pt.locs, Pt.cells, Pt.slots] at X' e1 e2 h1 h2 h3 st1
    subst h1; subst h2; subst h3
    exact ⟨v, (T.setVm vm₁).calling g' mk' xs.toArray, t, U', L, hT, X', hL, e1, e2, hq, fun target h => hstep _ fun acts => by rw [doInvoke_state]; rw [doInvoke_state] at st1; exact st1.trans h⟩
  exact J_run hrun B K hS hl kk
end XJ
