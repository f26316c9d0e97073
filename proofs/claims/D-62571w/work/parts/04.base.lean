/-! the judgement J: from a point of a method, in a world of numbered cells, the method comes to its end with 'post' -/
abbrev jD : Type := (Nat → ClassId) × (Nat → Nat → Nat) × (Nat → ClassId) × Option (Nat × Nat × (Nat → Int32))
abbrev jE : Type := (Nat × Nat × (Int → Value)) ⊕ (Nat × List Value)
abbrev jW : Type := (Nat → Nat) × (Nat → Option jE)
def tb : List Cond := lw_tbl.filter goodWord
def jNest : Cond → Bool
  | .fieldLinkNest .. => true
  | .methodLinkNest .. => true
  | .castable .. => true
  | .declares .. => true
  | .not (.castable ..) => true
  | _ => false
def nst : List Cond := lw_tbl.filter jNest
theorem tb_in {w : Cond} (h : w ∈ lw_tbl) (g : goodWord w = true) : w ∈ tb := List.mem_filter.mpr ⟨h, g⟩
theorem nst_in {w : Cond} (h : w ∈ lw_tbl) (g : jNest w = true) : w ∈ nst := List.mem_filter.mpr ⟨h, g⟩
theorem tb_good {y : Cond} (hy : y ∈ lw_tbl) (hg : goodWord y = true) : GoodIn tb (y :: tb) := by
  intro w hw
  rcases List.mem_cons.mp hw with rfl | hw
  · exact ⟨tb_in hy hg, good_of_word hg⟩
  · exact ⟨hw, good_of_word (List.mem_filter.mp hw).2⟩
/-- the array classes of the worlds, by number -/
def jT (D : jD) : List (ClassId × FieldType) := [(D.2.2.1 0, .int), (D.2.2.1 1, .long), (D.2.2.1 2, .short), (D.2.2.1 3, .boolean), (D.2.2.1 4, .object "ChartForest$ItemSet"), (D.2.2.1 5, .object "ChartForest$Column"), (D.2.2.1 6, .array .long), (D.2.2.1 7, .array .boolean), (D.2.2.1 8, .object "java/lang/Object")]
def jty (t : Nat) : FieldType := match t with
  | 0 => .int
  | 1 => .long
  | 2 => .short
  | 3 => .boolean
  | 4 => .object "ChartForest$ItemSet"
  | 5 => .object "ChartForest$Column"
  | 6 => .array .long
  | 7 => .array .boolean
  | _ => .object "java/lang/Object"
theorem jT_at (D : jD) {t : Nat} (h : t < 9) : (jT D)[t]? = some (D.2.2.1 t, jty t) := by
  unfold jT
  match t, h with
  | 0, _ => rfl
  | 1, _ => rfl
  | 2, _ => rfl
  | 3, _ => rfl
  | 4, _ => rfl
  | 5, _ => rfl
  | 6, _ => rfl
  | 7, _ => rfl
  | 8, _ => rfl
/-- what a cell of the world is on the heap -/
def jAt (D : jD) (a : Nat) (e : jE) (H : Heap) : Prop := match e with
  | .inl x => x.1 < 9 ∧ H[a]? = some (arrV (D.2.2.1 x.1) x.2.1 (fun j => x.2.2 (j : Int)))
  | .inr o => ∃ r : vw_C, clz[o.1]? = some r ∧ t_OB a (D.1 o.1) r.2.2 (D.2.1 o.1) H (vp_V o.2)
theorem jAt.kept {D : jD} {a : Nat} {e : jE} {H H1 : Heap} (h : jAt D a e H) (hq : H1[a]? = H[a]?) : jAt D a e H1 := by
  cases e with
  | inl x => exact ⟨h.1, hq.trans h.2⟩
  | inr o =>
    obtain ⟨r, h1, h2⟩ := h
    exact ⟨r, h1, h2.kept hq⟩
theorem jAt.lt {D : jD} {a : Nat} {e : jE} {H : Heap} (h : jAt D a e H) : a < H.size := by
  cases e with
  | inl x => exact (Array.getElem?_eq_some_iff.mp h.2).1
  | inr o =>
    obtain ⟨r, h1, cell, h2, -⟩ := h
    exact (Array.getElem?_eq_some_iff.mp h2).1
/-- the heap holds the world: its cells lie from b on, apart -/
def Hp (D : jD) (b : Nat) (w : jW) (H : Heap) : Prop := (∀ i e, w.2 i = some e → b ≤ w.1 i ∧ jAt D (w.1 i) e H) ∧ ∀ i j e f, w.2 i = some e → w.2 j = some f → w.1 i = w.1 j → i = j
theorem Hp.set {D : jD} {b : Nat} {w : jW} {H H1 : Heap} {i : Nat} {e0 e : jE} (h : Hp D b w H) (hi : w.2 i = some e0) (he : jAt D (w.1 i) e H1) (oq : ∀ q : Nat, q ≠ w.1 i → H1[q]? = H[q]?) : Hp D b (w.1, va_up w.2 i (some e)) H1 := by
  refine ⟨fun j f hj => ?_, fun j k f g hj hk hjk => ?_⟩
  · by_cases hji : j = i
    · subst hji
      have hj' : va_up w.2 j (some e) j = some f := hj
      rw [show va_up w.2 j (some e) j = some e from if_pos rfl] at hj'
      cases hj'
      exact ⟨(h.1 j e0 hi).1, he⟩
    · have hj' : va_up w.2 i (some e) j = some f := hj
      rw [show va_up w.2 i (some e) j = w.2 j from if_neg hji] at hj'
      exact ⟨(h.1 j f hj').1, (h.1 j f hj').2.kept (oq _ fun z => hji (h.2 j i f e0 hj' hi z))⟩
  · have key : ∀ j f, va_up w.2 i (some e) j = some f → ∃ f', w.2 j = some f' := by
      intro j f hj
      by_cases hji : j = i
      · exact ⟨e0, by rw [hji]; exact hi⟩
      · rw [show va_up w.2 i (some e) j = w.2 j from if_neg hji] at hj
        exact ⟨f, hj⟩
    obtain ⟨f', hf⟩ := key j f hj
    obtain ⟨g', hg⟩ := key k g hk
    exact h.2 j k f' g' hf hg hjk
theorem Hp.kept {D : jD} {b : Nat} {w : jW} {H H1 : Heap} (h : Hp D b w H) (oq : ∀ q : Nat, q < H.size → H1[q]? = H[q]?) : Hp D b w H1 := ⟨fun i e hi => ⟨(h.1 i e hi).1, (h.1 i e hi).2.kept (oq _ (h.1 i e hi).2.lt)⟩, h.2⟩
/-- a new cell, under a number that was free -/
theorem Hp.push {D : jD} {b : Nat} {w : jW} {H H1 : Heap} {i : Nat} {e : jE} (h : Hp D b w H) (hi : w.2 i = none) (he : jAt D H.size e H1) (oq : ∀ q : Nat, q < H.size → H1[q]? = H[q]?) (hb : b ≤ H.size) : Hp D b (va_up w.1 i H.size, va_up w.2 i (some e)) H1 := by
  have up1 : ∀ {α : Type} (f : Nat → α) (v : α), va_up f i v i = v := fun f v => if_pos rfl
  have up2 : ∀ {α : Type} (f : Nat → α) (v : α) (j : Nat), j ≠ i → va_up f i v j = f j := fun f v j hj => if_neg hj
  refine ⟨fun j f hj => ?_, fun j k f g hj hk hjk => ?_⟩
  · have hj' : va_up w.2 i (some e) j = some f := hj
    show b ≤ va_up w.1 i H.size j ∧ jAt D (va_up w.1 i H.size j) f H1
    by_cases hji : j = i
    · subst hji
      rw [up1] at hj' ⊢
      cases hj'
      exact ⟨hb, he⟩
    · rw [up2 _ _ _ hji] at hj' ⊢
      exact ⟨(h.1 j f hj').1, (h.1 j f hj').2.kept (oq _ (h.1 j f hj').2.lt)⟩
  · have hj' : va_up w.2 i (some e) j = some f := hj
    have hk' : va_up w.2 i (some e) k = some g := hk
    have hjk' : va_up w.1 i H.size j = va_up w.1 i H.size k := hjk
    by_cases hji : j = i
    · by_cases hki : k = i
      · rw [hji, hki]
      · rw [hji, up1, up2 _ _ _ hki] at hjk'
        rw [up2 _ _ _ hki] at hk'
        have := (h.1 k g hk').2.lt
        omega
    · by_cases hki : k = i
      · rw [hki, up1, up2 _ _ _ hji] at hjk'
        rw [up2 _ _ _ hji] at hj'
        have := (h.1 j f hj').2.lt
        omega
      · rw [up2 _ _ _ hji, up2 _ _ _ hki] at hjk'
        rw [up2 _ _ _ hji] at hj'
        rw [up2 _ _ _ hki] at hk'
        exact h.2 j k f g hj' hk' hjk'
/-- a cell that nobody asks for any more -/
theorem Hp.drop {D : jD} {b : Nat} {w : jW} {H : Heap} {c : Nat → Option jE} (h : Hp D b w H) (hc : ∀ i e, c i = some e → w.2 i = some e) : Hp D b (w.1, c) H := ⟨fun i e hi => h.1 i e (hc i e hi), fun i j e f hi hj => h.2 i j e f (hc i e hi) (hc j f hj)⟩
/-- a static of a class that has been initialised: its place, and that it holds a reference or null -/
def jZ (C n d : String) (A : Nat → Prop) (U : State) (H : Heap) : Prop := ∃ (c : ClassId) (k : Class) (i : Nat) (f : Field) (a : Nat) (cell : Cell) (v : Value), U.vm.findClass C = some c ∧ U.fieldFound? C n d = some (c, k, i, f) ∧ f.isStatic = true ∧ k.statics = some a ∧ k.staticTypes[f.slot]? = some f.type ∧ H[a]? = some cell ∧ cell.vm.isStatics = true ∧ cell.cls = c ∧ f.slot < cell.slots.size ∧ cell.slots[f.slot]? = some v ∧ (v = .null ∨ ∃ t, v = .ref t) ∧ ¬ A a
theorem jZ.moved {C n d : String} {A : Nat → Prop} {u U : State} {H : Heap} (hvm : u.vm.Alike U.vm) (h : jZ C n d A u H) : jZ C n d A U H := by
  obtain ⟨c, k, i, f, a, cell, v, h0, h1, h2, h3, h4, h5⟩ := h
  obtain ⟨k', hi', he⟩ := State.fieldFound?_setVm hvm h1
  exact ⟨c, k', i, f, a, cell, v, by rw [hvm.findClass]; exact h0, hi', h2, by rw [he]; exact h3, by rw [he]; exact h4, h5⟩
theorem jZ.kept {C n d : String} {A : Nat → Prop} {U : State} {H H1 : Heap} (h : jZ C n d A U H) (hq : ∀ a : Nat, a < H.size → ¬ A a → H1[a]? = H[a]?) : jZ C n d A U H1 := by
  obtain ⟨c, k, i, f, a, cell, v, h0, h1, h2, h3, h4, h5, h6, h7, h8, h9, h10, h11⟩ := h
  exact ⟨c, k, i, f, a, cell, v, h0, h1, h2, h3, h4, by rw [hq a (Array.getElem?_eq_some_iff.mp h5).1 h11]; exact h5, h6, h7, h8, h9, h10, h11⟩
theorem jZ.ref {C n d : String} {A : Nat → Prop} {U : State} {args : Array Value} (h : jZ C n d A U U.heap) : (Cond.isRef (.static C n d)).before args U = true := by
  obtain ⟨c, k, i, f, a, cell, v, h0, h1, h2, h3, h4, h5, h6, h7, h8, h9, h10, -⟩ := h
  have e : (Term.static C n d).eval args U none [] U = some v := by simp [Term.eval, State.fieldNamed?, h1, h2, h3, h5, h6, h9]
  rcases h10 with rfl | ⟨t, rfl⟩ <;> simp [Cond.before, Cond.holds, Cond.value, e]
theorem jZ.lays {C n d : String} {A : Nat → Prop} {U : State} {args : Array Value} (h : jZ C n d A U U.heap) : (Cond.laysStatic C n d).before args U = true := by
  obtain ⟨c, k, i, f, a, cell, v, h0, h1, h2, h3, h4, h5, h6, h7, h8, h9, h10, -⟩ := h
  simp [Cond.before, Cond.holds, Cond.value, h0, h1, h2, h3, h4, h5, h6, h7, h8]
theorem jZ.of {args : Array Value} {s : State} {C n d : String} {A : Nat → Prop} (hl : (Cond.laysStatic C n d).before args s = true) (h : (Cond.isRef (.static C n d)).before args s = true) (hA : ∀ a : Nat, a < s.heap.size → ¬ A a) : jZ C n d A s s.heap := by
  obtain ⟨c, k, i, f, a, cell, hc, hi, hst, ha, hcell, hs, hcls, hlt, hty⟩ := Cond.laysStatic_spec hl
  cases hv : (Term.static C n d).eval args s none [] s with
  | none => simp [Cond.before, Cond.holds, Cond.value, hv] at h
  | some w =>
    obtain ⟨hst', a', cell', ha', hcell', -, hslot⟩ := Term.static_spec hi hv
    cases ha.symm.trans ha'
    cases hcell.symm.trans hcell'
    refine ⟨c, k, i, f, a, cell, w, hc, hi, hst, ha, hty, hcell, hs, hcls, hlt, hslot, ?_, hA a (Array.getElem?_eq_some_iff.mp hcell).1⟩
    simp only [Cond.before, Cond.holds, Cond.value, hv] at h
    cases w with
    | null => exact Or.inl rfl
    | ref t => exact Or.inr ⟨t, rfl⟩
    | _ => simp at h
/-- the script, if there is one: it lies below b -/
def jScr (o : Option (Nat × Nat × (Nat → Int32))) (b : Nat) (U : State) : Prop := match o with
  | none => True
  | some x => x.1 < b ∧ va_X x.1 x.2.1 x.2.2 U U.heap
theorem jScr.warm {o : Option (Nat × Nat × (Nat → Int32))} {b : Nat} {s U : State} (h : jScr o b s) (hvm : s.vm.Alike U.vm) (hq : ∀ q : Nat, q < s.heap.size → ¬ b ≤ q → U.heap[q]? = s.heap[q]?) : jScr o b U := by
  cases o with
  | none => trivial
  | some x =>
    obtain ⟨h1, h2⟩ := h
    have hl : x.1 < s.heap.size := by
      obtain ⟨scr, h3, -⟩ := h2
      exact (Array.getElem?_eq_some_iff.mp h3).1
    exact ⟨h1, (h2.moved hvm).kept (hq x.1 hl (by omega))⟩
/-- the class of arrays of arrays -/
def jMM (ty : FieldType) (U : State) : Prop := ∃ (comp c : ClassId) (k : Class), U.vm.findClass (FieldType.array ty).toString = some comp ∧ U.vm.classes[c]? = some k ∧ k.kind = .array comp (.array ty) ∧ U.vm.findClass ("[" ++ (FieldType.array ty).toString) = some c
theorem jMM.moved {ty : FieldType} {u U : State} (hvm : u.vm.Alike U.vm) (h : jMM ty u) : jMM ty U := by
  obtain ⟨comp, c, k, h1, h2, h3, h4⟩ := h
  obtain ⟨k', hk', he⟩ := hvm.2.2 _ _ h2
  exact ⟨comp, c, k', by rw [hvm.findClass]; exact h1, hk', by rw [he]; exact h3, by rw [hvm.findClass]; exact h4⟩
/-- the array classes that the constructors make arrays of -/
def jAO (U : State) : Prop := (va_AO "ChartForest$ItemSet" U ∧ va_AO "ChartForest$Column" U ∧ va_AO "java/lang/Object" U) ∧ jMM .long U ∧ jMM .boolean U
theorem jAO.moved {u U : State} (hvm : u.vm.Alike U.vm) (h : jAO u) : jAO U := ⟨⟨h.1.1.moved hvm, h.1.2.1.moved hvm, h.1.2.2.moved hvm⟩, h.2.1.moved hvm, h.2.2.moved hvm⟩
/-- what the tables say, and the two statics that a Throwable's constructor reads -/
def jK (D : jD) (b : Nat) (U : State) : Prop := va_K (D.1, D.2.1) clz (jT D) U ∧ (∀ w ∈ nst, va_Nw w U) ∧ jZ "java/lang/Throwable" "UNASSIGNED_STACK" "[Ljava/lang/StackTraceElement;" (fun q => b ≤ q) U U.heap ∧ jZ "java/lang/Throwable" "SUPPRESSED_SENTINEL" "Ljava/util/List;" (fun q => b ≤ q) U U.heap ∧ b ≤ U.heap.size ∧ jScr D.2.2.2 b U ∧ jAO U
theorem jNest_any {w : Cond} (hw : jNest w = true) {A A' : Array Value} {U : State} (h : w.before A U = true) : w.before A' U = true := by
  cases w with
  | not c => cases c <;> first | exact Cond.holds_not_iff.mpr (Cond.holds_not_iff.mp h) | exact absurd hw (by simp [jNest])
  | _ => first | exact va_tabs rfl rfl h | exact absurd hw (by simp [jNest])
theorem jNw_no {C T : String} {s U : State} (hW : s.WarmedH U.vm) (h : va_Nw (.not (.castable C T)) s) : va_Nw (.not (.castable C T)) U := by
  have h1 := Cond.holds_not_iff.mp h
  refine Cond.holds_not_iff.mpr ?_
  simp only [Cond.value, hW.alike.findClass, hW.alike.assignable] at h1 ⊢
  exact h1
theorem jNw_warm {w : Cond} (hw : jNest w = true) {s U : State} (hW : s.WarmedH U.vm) (h : va_Nw w s) : va_Nw w U := by
  cases w with
  | not c => cases c <;> first | exact jNw_no hW h | exact absurd hw (by simp [jNest])
  | _ => first | exact va_Nw.warmF hW h | exact va_Nw.warmM hW h | exact va_Nw.warmC hW h | exact va_Nw.warmD hW h | (exact absurd hw (by simp [jNest]))
theorem jK.warm {D : jD} {b : Nat} {s U : State} (h : jK D b s) (hW : s.WarmedH U.vm) (hz : s.heap.size ≤ U.heap.size) (hq : ∀ q : Nat, q < s.heap.size → ¬ b ≤ q → U.heap[q]? = s.heap[q]?) : jK D b U :=
  ⟨va_K.moved hW.alike h.1, fun w hw => jNw_warm (List.mem_filter.mp hw).2 hW (h.2.1 w hw), (h.2.2.1.moved hW.alike).kept hq, (h.2.2.2.1.moved hW.alike).kept hq, Nat.le_trans h.2.2.2.2.1 hz, h.2.2.2.2.2.1.warm hW.alike hq, h.2.2.2.2.2.2.moved hW.alike⟩
/-- a method's end: its answer, the world behind it -/
def jQ (D : jD) (b : Nat) (post : Option Value → jW → Prop) : Array Value → State → Outcome → State → Prop := fun _ st oc t => (∃ v w, oc = .returned v ∧ post v w ∧ Hp D b w t.heap ∧ jK D b t) ∧ va_F (fun q => b ≤ q) st t
/-- a method's contract: from the world w, with the arguments xs, it answers as post says -/
def Ct (l : Launch) (D : jD) (b : Nat) (Y : jM) (rm : Room) (xs : List Value) (w : jW) (post : Option Value → jW → Prop) : Prop :=
  Met l Y.1 (.code Y.1 Y.2.1 Y.2.2.1 Y.2.2.2 :: tb) rm (va_Pc xs (fun U => Hp D b w U.heap ∧ jK D b U)) (jQ D b post) rm.cells rm.slots (fun q => b ≤ q)
def jHn (n : String) : List (Nat × Nat × Nat × Nat) :=
  if n = "rule" then [(0, 12, 15, 13), (0, 12, 19, 15)]
  else if n = "feed" then [(0, 9, 12, 13), (0, 9, 15, 15), (0, 9, 18, 21)]
  else if n = "back" then [(0, 9, 12, 13)]
  else if n = "items" then [(0, 9, 12, 29)]
  else if n = "has" then [(0, 21, 24, 29)]
  else if n = "leap" then [(0, 10, 13, 29)]
  else if n = "ways" then [(0, 12, 15, 29)]
  else if n = "trees" then [(0, 11, 14, 29)]
  else if n = "tree" then [(0, 11, 14, 21)]
  else []
/-- the exception tables: the law's helpers have some -/
def jHs (y : MethodName) : List (Nat × Nat × Nat × Nat) := if y.cls = "ChartForestLaw" then jHn y.name else []
def jXt (c : Code) : List (Nat × Nat × Nat × Nat) := c.exceptionTable.toList.map (fun x => (x.startPc, x.endPc, x.handlerPc, x.catchType))
theorem jXt_nil {c : Code} (h : c.exceptionTable.isEmpty = true) : jXt c = [] := by
  unfold jXt
  rw [Array.isEmpty_iff.mp h]
  rfl
theorem jXt_out {c : Code} (h : jXt c = []) (pc : Nat) : ∀ x ∈ c.exceptionTable.toList, covers x pc = false := by
  rw [List.map_eq_nil_iff.mp h]
  exact fun x hx => by cases hx
def jB (Y : jM) (p : Program) (s : State) (m : MethodId) (args : Array Value) (meth : Method) (c : Code) : Prop :=
  p.tables.exec = Jvm.exec ∧ c.code = Y.2.1 ∧ meth.sig.returnType = Y.2.2.2 ∧ c.maxLocals = Y.2.2.1 ∧ s.vm.findClass Y.1.cls = some m.cls ∧ (∀ w ∈ tb, w.before args s = true) ∧ meth.locks = false ∧ meth.name = Y.1.name ∧ jXt c = jHs Y.1
def J (l : Launch) (D : jD) (b : Nat) (Y : jM) (R : Room) (post : Option Value → jW → Prop) (w : jW) (k n pc : Nat) (lv : List (Nat × Value)) (st : List Value) : Prop :=
  ∀ p e s m args below meth c, jB Y p s m args meth c → jK D b s → ∀ H locs ls, Hp D b w H → va_S (fun q => b ≤ q) s.heap H locs → lv_has ls Y.2.2.1 lv →
    W p l e R s m args below meth c H locs k n (MQ below (jQ D b post) args s R.cells R.slots (fun q => b ≤ q)) (F0 m pc ls st)
set_option maxHeartbeats 4000000 in
/-- a contract out of the walk of the body -/
theorem Ct_of {l : Launch} {D : jD} {b : Nat} {Y : jM} {R : Room} {xs : List Value} {w : jW} {post : Option Value → jW → Prop} (hy : plainName Y.1.cls = true) (hl : (lg_sl xs).length ≤ Y.2.2.1)
    (h : J l D b Y R post w 0 0 0 (lv_args 0 xs) []) (hno : jHs Y.1 = [] := by decide +kernel) : Ct l D b Y R xs w post := by
  refine Met.ofW (cc := Y.2.1) (maxL := Y.2.2.1) (ret := Y.2.2.2) hy rfl ?_
  intro p e s m args below meth c s₁ B hml hv
  obtain ⟨rfl, hH, hK⟩ := hv
  have hts : ∀ w ∈ (Cond.code Y.1 Y.2.1 Y.2.2.1 Y.2.2.2 :: tb), w.before xs.toArray s = true := atoms_spec (ws := .code Y.1 Y.2.1 Y.2.2.1 Y.2.2.2 :: tb) B.pre
  have hl2 := lv_entry xs (n := Y.2.2.1) hl
  rw [lg_entry_eq]
  exact h p e s m xs.toArray below meth c ⟨B.exec, B.bytes, B.returns, hml, findClass_of_methodNamed B.named, fun w hw => hts w (List.mem_cons_of_mem _ hw), B.notSynchronized, (name_of_methodNamed B.named B.method).1, (jXt_nil (B.noHandlers (hts _ List.mem_cons_self))).trans hno.symm⟩ hK s.heap [] _ hH va_S.rf hl2
section JR
variable {l : Launch} {D : jD} {b : Nat} {Y : jM} {R : Room} {post : Option Value → jW → Prop} {w : jW} {k n pc : Nat} {lv : List (Nat × Value)} {st : List Value}
theorem J.sub (ks : List Nat) {lv' : List (Nat × Value)} (h : lv_pick lv ks = lv') (kk : J l D b Y R post w k n pc lv' st) : J l D b Y R post w k n pc lv st :=
  fun p e s m args below meth c B K H locs ls hH hS hl => kk p e s m args below meth c B K H locs ls hH hS (lv_sub hl ks h)
theorem J.more {k' n' : Nat} (h1 : k ≤ k') (h2 : n ≤ n') (kk : J l D b Y R post w k' n' pc lv st) : J l D b Y R post w k n pc lv st :=
  fun p e s m args below meth c B K H locs ls hH hS hl => W.widen h1 h2 (kk p e s m args below meth c B K H locs ls hH hS hl)
theorem J.world {w' : jW} (h : w = w') (kk : J l D b Y R post w' k n pc lv st) : J l D b Y R post w k n pc lv st := h ▸ kk
theorem J.drop {c : Nat → Option jE} (hc : ∀ i e, c i = some e → w.2 i = some e) (kk : J l D b Y R post (w.1, c) k n pc lv st) : J l D b Y R post w k n pc lv st :=
  fun p e s m args below meth c B K H locs ls hH hS hl => kk p e s m args below meth c B K H locs ls (hH.drop hc) hS hl
theorem J.top {x y : Value} (h : x = y) (kk : J l D b Y R post w k n pc lv (y :: st)) : J l D b Y R post w k n pc lv (x :: st) := h ▸ kk
theorem J.stk {st' : List Value} (h : st = st') (kk : J l D b Y R post w k n pc lv st') : J l D b Y R post w k n pc lv st := h ▸ kk
theorem J.loc {lv' : List (Nat × Value)} (h : lv = lv') (kk : J l D b Y R post w k n pc lv' st) : J l D b Y R post w k n pc lv st := h ▸ kk
theorem J.at {pc' : Nat} (h : pc = pc') (kk : J l D b Y R post w k n pc' lv st) : J l D b Y R post w k n pc lv st := h ▸ kk
/-- a loop: an invariant over the states σ, a measure that falls -/
theorem J.loop {σ : Type} (I : σ → Prop) (μ : σ → Nat) {ws : σ → jW} {ks ns : σ → Nat} {lvs : σ → List (Nat × Value)} {sts : σ → List Value}
    (h : ∀ x, I x → (∀ y, I y → μ y < μ x → J l D b Y R post (ws y) (ks y) (ns y) pc (lvs y) (sts y)) → J l D b Y R post (ws x) (ks x) (ns x) pc (lvs x) (sts x)) : ∀ x, I x → J l D b Y R post (ws x) (ks x) (ns x) pc (lvs x) (sts x) := by
  have key : ∀ (n : Nat) x, μ x ≤ n → I x → J l D b Y R post (ws x) (ks x) (ns x) pc (lvs x) (sts x) := by
    intro n
    induction n with
    | zero => exact fun x hx hI => h x hI (fun y _ hy => absurd hy (by omega))
    | succ n ih => exact fun x hx hI => h x hI (fun y hIy hy => ih y (by omega) hIy)
  exact fun x hI => key (μ x) x (Nat.le_refl _) hI
end JR
