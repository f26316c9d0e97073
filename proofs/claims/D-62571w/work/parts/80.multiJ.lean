section MN3
variable {p : Program} {l : Launch} {e : Env} {R : Room} {s : State} {m : MethodId} {args : Array Value} {below : List Frame} {meth : Method} {c : Code} {T : State} {locs : List Loc} {cells slots : Nat}
theorem mn_stand (X : Stand p l e R s m args below meth c T locs cells slots) (cA comp : ClassId) (N M : Nat) (dv : Value) : ∀ i : Nat, ∃ L, Stand p l e R s m args below meth c (mnS T cA comp N M dv i) (locs ++ L) (cells + 1 + i) (slots + N + i * M) ∧ ∀ q ∈ L, q.base = T.heap.size
  | 0 => by
    have h := X.pushed (mnO cA N T.heap.size 0)
    rw [show (mnO cA N T.heap.size 0).slots.size = N from arrV_size _ _ _] at h
    refine ⟨[], ?_, fun q hq => by cases hq⟩
    rw [List.append_nil, Nat.zero_mul]
    exact h
  | i + 1 => by
    obtain ⟨L, Xi, hL⟩ := mn_stand X cA comp N M dv i
    obtain ⟨h1, h2, -⟩ := mnS_facts (s := T) (c := cA) (comp := comp) (N := N) (M := M) (dv := dv) i
    have hcell : ((mnS T cA comp N M dv i).pushCell (arrV comp M (fun _ => dv))).heap[T.heap.size]? = some (mnO cA N T.heap.size i) := by
      show ((mnS T cA comp N M dv i).heap.push _)[T.heap.size]? = _
      rw [Array.getElem?_push, if_neg (by rw [h1]; omega)]
      exact h2
    have h := (Xi.pushed (arrV comp M (fun _ => dv))).stored hcell i (.ref (T.heap.size + 1 + i))
    rw [mnO_s, arrV_size] at h
    refine ⟨L ++ [⟨T.heap.size, i⟩], ?_, fun q hq => ?_⟩
    · rw [← List.append_assoc, show cells + 1 + (i + 1) = cells + 1 + i + 1 by omega, show slots + N + (i + 1) * M = slots + N + i * M + M by rw [Nat.succ_mul]; omega]
      exact h
    · rcases List.mem_append.mp hq with h | h
      · exact hL q h
      · rw [List.mem_singleton] at h
        rw [h]
theorem mn_cold {Q : Unit → Pre} {E : CtlPost} {e : Env} {d : Bool} {acts : List Action} {s : State} {f : JFrame} {index dims c : Nat} {vm' : Vm} (hs : s.topJava?.isSome) (hg : (Jvm.resolveClass f.method.cls index).Gives e.toSetting s.vm (.ok c) vm') (hr : vm'.classReady f.method.cls index c)
    (hsz : vm'.classes.size ≤ s.vm.classes.size := by no_record) :
    wp (multianewarray.sem index dims) Q E e d acts (s.setTop f) ↔ wp (multianewarray.sem index dims) Q E e d acts ((s.setVm vm').setTop f) := by
  simp only [multianewarray.sem, wp_bind']
  exact W.resolveClassAt_transfer (s := s.setTop f) (State.method?_setTop f hs) hg hr
theorem mn_ready {Q : Unit → Pre} {E : CtlPost} {e : Env} {d : Bool} {acts : List Action} {s : State} {f : JFrame} {index : Nat} {c comp cc : ClassId} {k kc : Class} {t0 ty : FieldType} {n m : Int32} {N M : Nat} {rest : List Value} (hs : s.topJava?.isSome) (hr : s.vm.classReady f.method.cls index c) (hstack : f.stack = .int m :: .int n :: rest) (hk : s.vm.classes[c]? = some k) (hkd : k.kind = .array comp t0) (href : ∀ v, v = .null ∨ (∃ a, v = .ref a) → fits t0 v = true) (hkc : s.vm.classes[comp]? = some kc) (hkdc : kc.kind = .array cc ty) (hn : ¬ n < 0) (hm : ¬ m < 0) (hN : n.toNatClampNeg = N) (hM : m.toNatClampNeg = M) (l1 : ¬ N > e.platform.arrayLengthLimit) (l2 : ¬ N * componentBytes t0 > e.platform.maxHeapBytes) (l3 : ¬ M > e.platform.arrayLengthLimit) (l4 : ¬ M * componentBytes ty > e.platform.maxHeapBytes)
    (hdf : fits ty (defaultValue ty) = true) (hdd : (defaultValue ty).isDefault = true) (r1 : s.heap.size + 1 + N ≤ e.platform.maxCells) (r2 : s.slotsUsed + N + N * M ≤ e.platform.maxSlots) (hQ : ∀ d' acts', Q () d' acts' ((mnS s c comp N M (defaultValue ty) N).setTop { f with stack := .ref s.heap.size :: rest })) : wp (multianewarray.sem index 2) Q E e d acts (s.setTop f) := by
  simp only [multianewarray.sem, wp_bind', W.resolveClassAt_ready (State.method?_setTop f hs) hr]
  rw [show (2 : Nat) = ([Value.int n, Value.int m] : List Value).length from rfl, popN_top hs (rest := rest) (by rw [hstack]; rfl)]
  simp only [List.mapM_cons, List.mapM_nil, wp_bind', wp_pure']
  refine mn_make (s := s.setTop { f with stack := rest }) hk hkd href hkc hkdc hn hm hN hM l1 l2 l3 l4 hdf hdd r1 r2 (fun d' acts' => ?_)
  rw [mnS_setTop]
  simp only [wp_bind', W.mark, W.pushRef, wp_pure', State.topJava?_setTop' _ (show (mnS s c comp N M (defaultValue ty) N).topJava?.isSome by rw [mnS_top]; exact hs), Option.some.injEq, exists_eq_left', State.setTop_setTop, State.heap_setTop]
  exact hQ _ _
theorem mn_step (X : Stand p l e R s m args below meth c T locs cells slots) (hexec : p.tables.exec = Jvm.exec) {own nm : String} {index : Nat} (hown : s.vm.findClass own = some m.cls) (hlink : (Cond.classLink own index nm).before args s = true) {cA comp cc : ClassId} {k kc : Class} {t0 ty : FieldType} (hcA : s.vm.findClass nm = some cA) (hk : s.vm.classes[cA]? = some k) (hkd : k.kind = .array comp t0) (href : ∀ v, v = .null ∨ (∃ a, v = .ref a) → fits t0 v = true) (hkc : s.vm.classes[comp]? = some kc) (hkdc : kc.kind = .array cc ty) {g : JFrame} (hg : g.method = m) {n mm : Int32} {N M : Nat} {rest : List Value} (hstack : g.stack = .int mm :: .int n :: rest) (hn : ¬ n < 0) (hm : ¬ mm < 0) (hN : n.toNatClampNeg = N) (hM : mm.toNatClampNeg = M) (l0 : N ≤ 1000 ∧ M ≤ 1000) (hb : componentBytes t0 ≤ 8 ∧ componentBytes ty ≤ 8) (hdf : fits ty (defaultValue ty) = true) (hdd : (defaultValue ty).isDefault = true) (hcells : cells + (1 + N) ≤ R.cells) (hslots : slots + (N + N * M) ≤ R.slots) (hdg : decode c.code g.pc = .ok (.multianewarray index 2, 4)) :
    ∃ (vm₁ : Vm) (L : List Loc), Stand p l e R s m args below meth c (mnS (T.setVm vm₁) cA comp N M (defaultValue ty) N) (locs ++ L) (cells + 1 + N) (slots + N + N * M) ∧ (∀ q ∈ L, q.base = T.heap.size) ∧ ∀ target, Steps p.tables e below ((mnS (T.setVm vm₁) cA comp N M (defaultValue ty) N).setTop { g with pc := g.pc + 4, stack := .ref T.heap.size :: rest }) target → Steps p.tables e below (T.setTop g) target := by
  subst hg
  have hpl : e.platform.magicAccessors = ({} : Platform).magicAccessors := by rw [X.admits.platform]
  obtain ⟨c', hc', hcl⟩ := Cond.classLink_spec hown hlink e.platform hpl
  cases hcA.symm.trans hc'
  obtain ⟨hg₁, hwarm₁, hready₁⟩ := State.classEntry (e := e) X.warmed hcl
  generalize T.vm.noted g.method.cls index (.cls cA) = vm₁ at hg₁ hwarm₁ hready₁
  obtain ⟨L, X₂, hL⟩ := mn_stand (X.noted hwarm₁) cA comp N M (defaultValue ty) N
  refine ⟨vm₁, L, X₂, hL, fun target hrest => ?_⟩
  obtain ⟨k₁, hk₁, e₁⟩ := hwarm₁.alike.2.2 _ _ hk
  obtain ⟨kc₁, hkc₁, e₂⟩ := hwarm₁.alike.2.2 _ _ hkc
  have q1 : N * componentBytes t0 ≤ 8000 := Nat.mul_le_mul l0.1 hb.1
  have q2 : M * componentBytes ty ≤ 8000 := Nat.mul_le_mul l0.2 hb.2
  jvm_step X.here [hexec, hdg]
  have c1 : T.heap.size + 1 + N ≤ e.platform.maxCells := by
    have := X.cellsAbove hcells
    omega
  have c2 : T.slotsUsed + N + N * M ≤ e.platform.maxSlots := by
    have := X.slotsAbove hslots
    omega
  refine (mn_cold X.here.top hg₁ hready₁).mpr (mn_ready (s := T.setVm vm₁) X.here.top hready₁ hstack hk₁ (by rw [e₁]; exact hkd) href hkc₁ (by rw [e₂]; exact hkdc) hn hm hN hM (by rw [Launch.admits_arrayLengthLimit X.admits]; omega) (by rw [Launch.admits_maxHeapBytes X.admits]; omega) (by rw [Launch.admits_arrayLengthLimit X.admits]; omega) (by rw [Launch.admits_maxHeapBytes X.admits]; omega) hdf hdd c1 c2 (fun d' acts' acts => ?_))
  have ht : (mnS (T.setVm vm₁) cA comp N M (defaultValue ty) N).topJava?.isSome := by rw [mnS_top]; exact X.here.top
  simp [jvm, ht]
  exact hrest
end MN3
