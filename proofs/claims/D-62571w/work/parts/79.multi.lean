/-! multianewarray of two dimensions -/
/-- the outer array when i of its places have been filled -/
def mnO (c : ClassId) (N h i : Nat) : Cell := arrV c N (fun j => if j < i then .ref (h + 1 + j) else .null)
theorem mnO_0 (c : ClassId) (N h : Nat) : mnO c N h 0 = arrV c N (fun _ => .null) := by
  unfold mnO
  have e : (fun j : Nat => if j < 0 then Value.ref (h + 1 + j) else Value.null) = fun _ => Value.null := by
    funext j
    exact if_neg (Nat.not_lt_zero j)
  rw [e]
theorem mnO_s (c : ClassId) (N h i : Nat) : (mnO c N h i).setSlot i (.ref (h + 1 + i)) = mnO c N h (i + 1) := by
  unfold mnO
  rw [arrV_store]
  congr 1
  funext j
  unfold updV
  by_cases e : j = i
  · rw [if_pos e, if_pos (by omega), e]
  · rw [if_neg e]
    show (if j < i then Value.ref (h + 1 + j) else Value.null) = _
    by_cases e2 : j < i
    · rw [if_pos e2, if_pos (by omega)]
    · rw [if_neg e2, if_neg (by omega)]
/-- the state when i inner arrays have been made -/
def mnS (s : State) (c comp : ClassId) (N M : Nat) (dv : Value) : Nat → State
  | 0 => s.pushCell (mnO c N s.heap.size 0)
  | i + 1 => ((mnS s c comp N M dv i).pushCell (arrV comp M (fun _ => dv))).setCell s.heap.size (mnO c N s.heap.size (i + 1))
section MN1
variable {s : State} {c comp : ClassId} {N M : Nat} {dv : Value}
theorem mnS_heap (i : Nat) : (mnS s c comp N M dv (i + 1)).heap = ((mnS s c comp N M dv i).heap.push (arrV comp M (fun _ => dv))).setIfInBounds s.heap.size (mnO c N s.heap.size (i + 1)) := rfl
theorem mnS_facts : ∀ i : Nat, (mnS s c comp N M dv i).heap.size = s.heap.size + 1 + i ∧ (mnS s c comp N M dv i).heap[s.heap.size]? = some (mnO c N s.heap.size i) ∧ (mnS s c comp N M dv i).vm = s.vm ∧ (mnS s c comp N M dv i).slotsUsed = s.slotsUsed + N + i * M ∧ (∀ q : Nat, q < s.heap.size → (mnS s c comp N M dv i).heap[q]? = s.heap[q]?) ∧ ∀ j : Nat, j < i → (mnS s c comp N M dv i).heap[s.heap.size + 1 + j]? = some (arrV comp M (fun _ => dv))
  | 0 => by
    have e : (mnS s c comp N M dv 0).heap = s.heap.push (mnO c N s.heap.size 0) := rfl
    refine ⟨by rw [e, Array.size_push], by rw [e, Array.getElem?_push, if_pos rfl], rfl, ?_, fun q hq => by rw [e, Array.getElem?_push, if_neg (Nat.ne_of_lt hq)], fun j h => absurd h (Nat.not_lt_zero _)⟩
    show s.slotsUsed + (mnO c N s.heap.size 0).slots.size = _
    unfold mnO
    rw [arrV_size]
    omega
  | i + 1 => by
    obtain ⟨h1, h2, h3, h4, h5, h6⟩ := mnS_facts i
    refine ⟨?_, ?_, h3, ?_, fun q hq => ?_, fun j hj => ?_⟩
    · rw [mnS_heap, Array.size_setIfInBounds, Array.size_push, h1]
      omega
    · rw [mnS_heap, Array.getElem?_setIfInBounds, if_pos rfl, if_pos (by rw [Array.size_push, h1]; omega)]
    · show (mnS s c comp N M dv i).slotsUsed + (arrV comp M (fun _ => dv)).slots.size = _
      rw [arrV_size, h4, Nat.succ_mul]
      omega
    · rw [mnS_heap, Array.getElem?_setIfInBounds, if_neg (by omega), Array.getElem?_push, if_neg (by rw [h1]; omega)]
      exact h5 q hq
    · rw [mnS_heap, Array.getElem?_setIfInBounds, if_neg (by omega), Array.getElem?_push]
      by_cases e : j = i
      · rw [if_pos (by rw [h1, e])]
      · rw [if_neg (by rw [h1]; omega)]
        exact h6 j (by omega)
theorem mnS_top : ∀ i : Nat, (mnS s c comp N M dv i).topJava? = s.topJava?
  | 0 => rfl
  | i + 1 => mnS_top i
theorem mnS_setTop (f : JFrame) : ∀ i : Nat, mnS (s.setTop f) c comp N M dv i = (mnS s c comp N M dv i).setTop f
  | 0 => rfl
  | i + 1 => by
    show ((mnS (s.setTop f) c comp N M dv i).pushCell _).setCell _ _ = _
    rw [mnS_setTop f i]
    rfl
end MN1
section MN2
variable {E : CtlPost} {e : Env} {d : Bool} {acts : List Action} {s : State}
theorem mn_new {Q : Addr → Pre} {c comp : ClassId} {k : Class} {ty : FieldType} {len : Nat} {v : Value} (hk : s.vm.classes[c]? = some k) (hkd : k.kind = .array comp ty) (hlim : ¬ len > e.platform.arrayLengthLimit) (hbig : ¬ len * componentBytes ty > e.platform.maxHeapBytes) (hfit : fits ty v = true) (hdef : v.isDefault = true) (h1 : s.heap.size < e.platform.maxCells) (h2 : s.slotsUsed + len ≤ e.platform.maxSlots) (hQ : Q s.heap.size d acts (s.pushCell (arrV c len (fun _ => v)))) : wp (Jvm.newArray c len v) Q E e d acts s := by
  have ha : allocActs (Array.replicate len v) s.heap.size acts = acts := by
    unfold allocActs
    refine if_pos ?_
    rw [Array.all_replicate]
    split
    · rfl
    · exact hdef
  have hf : ∀ i x, (Array.replicate len v)[i]? = some x → s.fitsSlot c .none i x = true := by
    intro i x hx
    rw [Array.getElem?_replicate] at hx
    split at hx
    · cases hx
      simp [State.fitsSlot, State.slotType?, hk, hkd, hfit]
    · cases hx
  rw [← arrV_new] at hQ
  simp only [Jvm.newArray, Jvm.arrayFits, wp_bind', W.ask, W.ite, hlim, if_false, wp_pure', W.theClass, hk, hkd, hbig, W.alloc, W.stop, Option.some.injEq, exists_eq_left', Array.size_replicate, ha]
  rw [if_neg (by omega)]
  exact ⟨h1, h2, hf, hQ⟩
theorem mn_make {Q : Addr → Pre} {c comp cc : ClassId} {k kc : Class} {t0 ty : FieldType} {n m : Int32} {N M : Nat} (hk : s.vm.classes[c]? = some k) (hkd : k.kind = .array comp t0) (href : ∀ v, v = .null ∨ (∃ a, v = .ref a) → fits t0 v = true) (hkc : s.vm.classes[comp]? = some kc) (hkdc : kc.kind = .array cc ty) (hn : ¬ n < 0) (hm : ¬ m < 0) (hN : n.toNatClampNeg = N) (hM : m.toNatClampNeg = M) (l1 : ¬ N > e.platform.arrayLengthLimit) (l2 : ¬ N * componentBytes t0 > e.platform.maxHeapBytes) (l3 : ¬ M > e.platform.arrayLengthLimit) (l4 : ¬ M * componentBytes ty > e.platform.maxHeapBytes)
    (hdf : fits ty (defaultValue ty) = true) (hdd : (defaultValue ty).isDefault = true) (r1 : s.heap.size + 1 + N ≤ e.platform.maxCells) (r2 : s.slotsUsed + N + N * M ≤ e.platform.maxSlots) (hQ : ∀ d' acts', Q s.heap.size d' acts' (mnS s c comp N M (defaultValue ty) N)) : wp (multianewarray.make c [n, m]) Q E e d acts s := by
  have hno : ([m].find? (· < 0)) = none := by simp [hm]
  rw [multianewarray.make]
  simp only [wp_bind', W.ite, hn, if_false, wp_pure', W.theClass, hk, hkd, Option.some.injEq, exists_eq_left', hN]
  refine mn_new hk hkd l1 l2 (href _ (Or.inl rfl)) rfl (by omega) (by have := Nat.zero_le (N * M); omega) ?_
  rw [← mnO_0 c N s.heap.size]
  simp only [hno]
  rw [ite_self, wp_bind', Std.Legacy.Range.forIn_eq_forIn_range']
  rw [show ([:N] : Std.Legacy.Range).size = N by simp [Std.Legacy.Range.size]]
  show wp (forIn (List.range' 0 N 1) PUnit.unit _) _ E e d acts _
  refine wp_forIn_inv (fun rest u => ∃ i, i ≤ N ∧ rest = List.range' i (N - i) ∧ u = mnS s c comp N M (defaultValue ty) i) _ _ ⟨0, Nat.zero_le _, rfl, rfl⟩ ?_ ?_
  · rintro x rest u d' acts' Q' ⟨i, hi, hl, rfl⟩ hnext
    have hlt : i < N := by
      rcases Nat.lt_or_ge i N with h | h
      · exact h
      · rw [show N - i = 0 by omega] at hl
        cases hl
    rw [show N - i = (N - (i + 1)) + 1 by omega, List.range'_succ] at hl
    obtain ⟨rfl, hrest⟩ := List.cons.inj hl
    obtain ⟨h1, h2, h3, h4, h5, h6⟩ := mnS_facts (s := s) (c := c) (comp := comp) (N := N) (M := M) (dv := defaultValue ty) x
    have hmul : x * M + M ≤ N * M := by
      have := Nat.mul_le_mul_right M (show x + 1 ≤ N from hlt)
      rw [Nat.succ_mul] at this
      exact this
    simp only [wp_bind']
    rw [multianewarray.make]
    simp only [wp_bind', W.ite, hm, if_false, wp_pure', W.theClass, h3, hkc, hkdc, Option.some.injEq, exists_eq_left', hM]
    refine mn_new (by rw [h3]; exact hkc) hkdc l3 l4 hdf hdd (by rw [h1]; omega) (by rw [h4]; omega) ?_
    have hold : ((mnS s c comp N M (defaultValue ty) x).pushCell (arrV comp M (fun _ => defaultValue ty))).heap[s.heap.size]? = some (mnO c N s.heap.size x) := by
      show ((mnS s c comp N M (defaultValue ty) x).heap.push _)[s.heap.size]? = _
      rw [Array.getElem?_push, if_neg (by rw [h1]; omega)]
      exact h2
    simp only [wp_bind', W.writeLoc, wp_pure']
    refine ⟨mnO c N s.heap.size x, hold, (fun h => by cases h), by unfold mnO; rw [arrV_size]; exact hlt, ?_, hnext _ _ _ ⟨x + 1, hlt, hrest, ?_⟩⟩
    · have hcl : (mnO c N s.heap.size x).cls = c := rfl
      have hvm : (mnO c N s.heap.size x).vm = .none := rfl
      simp [State.fitsSlot, State.slotType?, h3, hcl, hvm, hk, hkd, href _ (Or.inr ⟨_, rfl⟩)]
    · rw [h1, mnO_s]
      rfl
  · rintro u d' acts' ⟨i, hi, hl, rfl⟩
    have hiN : i = N := by
      rcases Nat.lt_or_ge i N with h | h
      · rw [show N - i = (N - (i + 1)) + 1 by omega, List.range'_succ] at hl
        cases hl
      · omega
    subst hiN
    simp only [wp_pure']
    exact hQ _ _
end MN2
