/-! calls by contract -/
/-- the entry idx of the class own's pool names the method Y', of nn parameters -/
def MS (own : String) (idx nn : Nat) (Y' : jM) : Prop := (Cond.methodLink own idx Y'.1 ∈ tb ∨ ∃ host, Cond.methodLinkNest own idx Y'.1 host ∈ nst) ∧ Cond.initialized Y'.1.cls ∈ tb ∧ Cond.code Y'.1 Y'.2.1 Y'.2.2.1 Y'.2.2.2 ∈ lw_tbl ∧ (Y'.1.cls ≠ "java/lang/invoke/MethodHandle" ∧ Y'.1.cls ≠ "java/lang/invoke/VarHandle" ∧ (parseMethodDescriptor Y'.1.desc).map (fun d => d.parameters.length) = some nn)
def MSs (own : String) (idx nn : Nat) (Y' : jM) : Prop := MS own idx nn Y' ∧ Cond.static Y'.1 ∈ tb
def MSv (own : String) (idx nn ci : Nat) (Y' : jM) : Prop := MS own idx nn Y' ∧ Cond.instanceMethod Y'.1 ∈ tb ∧ ∃ r : vw_C, clz[ci]? = some r ∧ Cond.selects r.1 Y'.1 Y'.1 ∈ tb
def MSi (own : String) (idx nn : Nat) (Y' : jM) : Prop := MS own idx nn Y' ∧ Cond.instanceMethod Y'.1 ∈ tb ∧ Y'.1.name = "<init>" ∧ Y'.2.2.2 = none
section JC
variable {l : Launch} {D : jD} {b : Nat} {Y : jM} {R : Room} {post : Option Value → jW → Prop} {w : jW} {k n pc : Nat} {lv : List (Nat × Value)} {st stk : List Value}
theorem Ct.blind {xs : List Value} : FrameBlind (va_Pc xs (fun U => Hp D b w U.heap ∧ jK D b U)) := fun a U g mk q => ⟨q.1, q.2.1, (va_K.moved (u := U) (U := U.calling g mk a) (Vm.Alike.refl U.vm) q.2.2.1), (fun w hw => jNw_warm (List.mem_filter.mp hw).2 (State.WarmedH.refl U) (q.2.2.2.1 w hw)), (q.2.2.2.2.1.moved (Vm.Alike.refl U.vm)), (q.2.2.2.2.2.1.moved (Vm.Alike.refl U.vm)), q.2.2.2.2.2.2.1, (q.2.2.2.2.2.2.2.1.warm (Vm.Alike.refl U.vm) (fun _ _ _ => rfl)), (q.2.2.2.2.2.2.2.2.moved (Vm.Alike.refl U.vm))⟩
theorem jPre {xs : List Value} {s : State} {H : Heap} {locs : List Loc} (K : jK D b s) (hH : Hp D b w H) (hS : va_S (fun q => b ≤ q) s.heap H locs) : ∀ U : State, U.heap = H → s.WarmedH U.vm → (va_Pc xs (fun U => Hp D b w U.heap ∧ jK D b U)) xs.toArray U :=
  fun U hU hW => ⟨rfl, by rw [hU]; exact hH, K.warm hW (by rw [hU]; exact hS.1) (fun q h1 h2 => by rw [hU]; exact hS.2.1 q h1 h2)⟩
theorem J_run {p : Program} {e : Env} {s : State} {m : MethodId} {args : Array Value} {below : List Frame} {meth : Method} {c : Code} {H : Heap} {locs : List Loc} {ls : Array Slot} {mc ms : Nat} {post' : Option Value → jW → Prop} {a : Array Value} {rest : List Value}
    (hr : va_Run p l e R s m args below meth c H locs k n mc ms (F0 m pc ls stk) rest (jQ D b post' a) (fun q => b ≤ q)) (B : jB Y p s m args meth c) (K : jK D b s) (hS : va_S (fun q => b ≤ q) s.heap H locs) (hl : lv_has ls Y.2.2.1 lv)
    (kk : ∀ v w', post' v w' → J l D b Y R post w' (k + mc) (n + ms) (pc + 3) lv (v.toList ++ rest)) : W p l e R s m args below meth c H locs k n (MQ below (jQ D b post) args s R.cells R.slots (fun q => b ≤ q)) (F0 m pc ls stk) := by
  intro T hT X
  obtain ⟨v, st₀, t, T', L, h0, X', hL, e1, e2, ⟨⟨v', w', hv, hp, hb, -⟩, hz, hk⟩, stp⟩ := hr T hT X
  cases hv
  rw [h0] at hz hk
  obtain ⟨t2, a1, b1⟩ := kk v w' hp p e s m args below meth c B K T'.heap (locs ++ L) ls (by rw [e1]; exact hb)
    ⟨Nat.le_trans hS.1 (by rw [e1]; exact hz), fun q h1 h2 => by rw [e1, hk q (Nat.lt_of_lt_of_le h1 hS.1) h2]; exact hS.2.1 q h1 h2, fun q hq => by
      rcases List.mem_append.mp hq with h | h
      · exact hS.2.2 q h
      · exact hL q h⟩ hl T' rfl X'
  exact ⟨t2, stp t2 a1, b1⟩
theorem jCB {s : State} {m : MethodId} {args : Array Value} {meth : Method} {c : Code} {p : Program} {own : String} {idx nn : Nat} {Y' : jM} {rm : Room} (B : jB Y p s m args meth c) (hl : (Cond.methodLink own idx Y'.1).before args s = true) (hs : MS own idx nn Y') (hr : rm.frames + 1 ≤ R.frames ∧ 8 + (Y'.2.2.1 + 11) + rm.locals ≤ R.locals) :
    CallB R s args own idx Y'.1 Y'.2.1 Y'.2.2.1 Y'.2.2.2 (.code Y'.1 Y'.2.1 Y'.2.2.1 Y'.2.2.2 :: tb) rm rm.cells rm.slots nn :=
  callB_of nn B.2.2.2.2.2.1 (tb_good hs.2.2.1 rfl) rfl rfl rfl (B.2.2.2.2.2.1 _ hs.2.1) hl hs.2.2.2 hr
theorem jCN {s : State} {m : MethodId} {args : Array Value} {meth : Method} {c : Code} {p : Program} {own host : String} {idx nn : Nat} {Y' : jM} {rm : Room} (B : jB Y p s m args meth c) (hl : va_Nw (.methodLinkNest own idx Y'.1 host) s) (hs : MS own idx nn Y') (hr : rm.frames + 1 ≤ R.frames ∧ 8 + (Y'.2.2.1 + 11) + rm.locals ≤ R.locals) :
    va_CN R s args own idx Y'.1 host Y'.2.1 Y'.2.2.1 Y'.2.2.2 (.code Y'.1 Y'.2.1 Y'.2.2.1 Y'.2.2.2 :: tb) rm rm.cells rm.slots nn :=
  va_cnB nn B.2.2.2.2.2.1 (tb_good hs.2.2.1 rfl) rfl rfl rfl hl (B.2.2.2.2.2.1 _ hs.2.1) hs.2.2.2 hr
theorem lv_rm {m : MethodId} {ls : Array Slot} (h : (st.map fun v => v.category).sum ≤ 8) : 2 * (F0 m pc ls stk).monitorRoom + (st.map fun v => v.category).sum ≤ 8 := lv_room h
set_option maxHeartbeats 1000000 in
theorem J_callS {idx nn : Nat} {Y' : jM} {rm : Room} {post' : Option Value → jW → Prop} (xs : List Value) (hs : MSs Y.1.cls idx nn Y') (hC : Ct l D b Y' rm xs w post') (hx : xs.length = nn) (hstk : stk = xs.reverse ++ st) (hr : rm.frames + 1 ≤ R.frames ∧ 8 + (Y'.2.2.1 + 11) + rm.locals ≤ R.locals) (hf : k + rm.cells ≤ R.cells ∧ n + rm.slots ≤ R.slots) (hst : (st.map fun v => v.category).sum ≤ 8) (hd : decode Y.2.1 pc = .ok (.invokestatic idx, 3))
    (kk : ∀ v w', post' v w' → J l D b Y R post w' (k + rm.cells) (n + rm.slots) (pc + 3) lv (v.toList ++ st)) : J l D b Y R post w k n pc lv stk := by
  intro p e s m args below meth c B K H locs ls hH hS hl
  rcases hs.1.1 with h | ⟨host, h⟩
  · exact J_run (va_runS (Ts := tb) (own := Y.1.cls) ⟨B.1, B.2.1, B.2.2.2.1, B.2.2.2.2.1, B.2.2.2.2.2.1⟩ hC ⟨jCB B (B.2.2.2.2.2.1 _ h) hs.1 hr, B.2.2.2.2.2.1 _ hs.2⟩ ⟨Ct.blind, jPre K hH hS⟩ rfl hx hl.1 hstk (lv_rm hst) hd hf) B K hS hl kk
  · exact J_run (va_runSN (Ts := tb) (own := Y.1.cls) ⟨B.1, B.2.1, B.2.2.2.1, B.2.2.2.2.1, B.2.2.2.2.2.1⟩ hC ⟨jCN B (K.2.1 _ h) hs.1 hr, B.2.2.2.2.2.1 _ hs.2, trivial⟩ ⟨Ct.blind, jPre K hH hS⟩ rfl hx hl.1 hstk (lv_rm hst) hd hf) B K hS hl kk
set_option maxHeartbeats 1000000 in
theorem J_callV {idx nn ci i : Nat} {fs : List Value} {Y' : jM} {rm : Room} {post' : Option Value → jW → Prop} (xs : List Value) (hs : MSv Y.1.cls idx nn ci Y') (hc : w.2 i = some (.inr (ci, fs))) (hC : Ct l D b Y' rm (.ref (w.1 i) :: xs) w post') (hx : xs.length = nn) (hstk : stk = xs.reverse ++ .ref (w.1 i) :: st) (hr : rm.frames + 1 ≤ R.frames ∧ 8 + (Y'.2.2.1 + 11) + rm.locals ≤ R.locals) (hf : k + rm.cells ≤ R.cells ∧ n + rm.slots ≤ R.slots) (hst : (st.map fun v => v.category).sum ≤ 8) (hd : decode Y.2.1 pc = .ok (.invokevirtual idx, 3))
    (kk : ∀ v w', post' v w' → J l D b Y R post w' (k + rm.cells) (n + rm.slots) (pc + 3) lv (v.toList ++ st)) : J l D b Y R post w k n pc lv stk := by
  intro p e s m args below meth c B K H locs ls hH hS hl
  obtain ⟨hm, hin, r, hr1, hsel⟩ := hs
  have hrec : ∃ cell : Cell, H[w.1 i]? = some cell ∧ cell.vm.isStatics = false ∧ s.vm.findClass r.1 = some cell.cls := by
    obtain ⟨-, r', h1, cell, g1, g2, g3, -⟩ := hH.1 i _ hc
    exact ⟨cell, g1, by rw [g3]; rfl, by rw [g2]; exact (K.1.1 ci r hr1).2.1⟩
  rcases hm.1 with h | ⟨host, h⟩
  · exact J_run (va_runV (Ts := tb) (own := Y.1.cls) (C := r.1) (b := w.1 i) (As := xs) ⟨B.1, B.2.1, B.2.2.2.1, B.2.2.2.2.1, B.2.2.2.2.2.1⟩ hC ⟨jCB B (B.2.2.2.2.2.1 _ h) hm hr, B.2.2.2.2.2.1 _ hin, B.2.2.2.2.2.1 _ hsel⟩ ⟨Ct.blind, hrec, jPre K hH hS⟩ rfl hx hl.1 hstk (lv_rm hst) hd hf) B K hS hl kk
  · exact J_run (va_runVN (Ts := tb) (own := Y.1.cls) (C := r.1) (b := w.1 i) (As := xs) ⟨B.1, B.2.1, B.2.2.2.1, B.2.2.2.2.1, B.2.2.2.2.2.1⟩ hC ⟨jCN B (K.2.1 _ h) hm hr, B.2.2.2.2.2.1 _ hin, B.2.2.2.2.2.1 _ hsel⟩ ⟨Ct.blind, hrec, jPre K hH hS⟩ rfl hx hl.1 hstk (lv_rm hst) hd hf) B K hS hl kk
set_option maxHeartbeats 1000000 in
theorem J_callI {idx nn a : Nat} {y : MethodName} {bs : ByteArray} {mL : Nat} {rm : Room} {post' : Option Value → jW → Prop} (xs : List Value) (hs : MSi Y.1.cls idx nn (y, bs, mL, none)) (hC : Ct l D b (y, bs, mL, none) rm (.ref a :: xs) w post') (hx : xs.length = nn) (hstk : stk = xs.reverse ++ .ref a :: st) (hr : rm.frames + 1 ≤ R.frames ∧ 8 + (mL + 11) + rm.locals ≤ R.locals) (hf : k + rm.cells ≤ R.cells ∧ n + rm.slots ≤ R.slots) (hst : (st.map fun v => v.category).sum ≤ 8) (hd : decode Y.2.1 pc = .ok (.invokespecial idx, 3))
    (kk : ∀ v w', post' v w' → J l D b Y R post w' (k + rm.cells) (n + rm.slots) (pc + 3) lv (v.toList ++ st)) : J l D b Y R post w k n pc lv stk := by
  intro p e s m args below meth c B K H locs ls hH hS hl
  obtain ⟨hm, hin, hnm, hret⟩ := hs
  rcases hm.1 with h | ⟨host, h⟩
  · exact J_run (va_runI (Ts := tb) (own := Y.1.cls) (b := a) (As := xs) ⟨B.1, B.2.1, B.2.2.2.1, B.2.2.2.2.1, B.2.2.2.2.2.1⟩ hC ⟨jCB (Y' := (y, bs, mL, none)) B (B.2.2.2.2.2.1 _ h) hm hr, hnm, B.2.2.2.2.2.1 _ hin⟩ ⟨Ct.blind, jPre K hH hS⟩ rfl hx hl.1 hstk (lv_rm hst) hd hf) B K hS hl kk
  · exact J_run (va_runIN (Ts := tb) (own := Y.1.cls) (b := a) (As := xs) ⟨B.1, B.2.1, B.2.2.2.1, B.2.2.2.2.1, B.2.2.2.2.2.1⟩ hC ⟨jCN (Y' := (y, bs, mL, none)) B (K.2.1 _ h) hm hr, hnm, B.2.2.2.2.2.1 _ hin⟩ ⟨Ct.blind, jPre K hH hS⟩ rfl hx hl.1 hstk (lv_rm hst) hd hf) B K hS hl kk
/-- a weaker end -/
theorem Ct.mono {rm : Room} {xs : List Value} {p1 p2 : Option Value → jW → Prop} (h : Ct l D b Y rm xs w p1) (hp : ∀ v w', p1 v w' → p2 v w') : Ct l D b Y rm xs w p2 := by
  unfold Ct Met at h ⊢
  refine MetFree.mono h (fun _ _ q => q) (fun _ _ _ _ _ q => q) (fun a s o t _ q => ?_)
  obtain ⟨⟨⟨v, w', h1, h2, h3⟩, h4⟩, h5⟩ := q
  exact ⟨⟨⟨v, w', h1, hp v w' h2, h3⟩, h4⟩, h5⟩
end JC
