/-! a method's own walk, begun anew from where it stands: what lies there is old now -/
section RB
variable {p : Program} {l : Launch} {e : Env} {R : Room} {s : State} {m : MethodId} {args : Array Value} {below : List Frame} {meth : Method} {c : Code} {T : State} {locs : List Loc} {cells slots : Nat}
def rbS (s T : State) : State := ({ s with heap := T.heap, slotsUsed := T.slotsUsed } : State).setVm T.vm
theorem rb_frames : (rbS s T).frames = s.frames := rfl
theorem rb_me : (rbS s T).me = s.me := rfl
theorem rb_hears (hW : s.WarmedH T.vm) (h : s.hears m below = true) : (rbS s T).hears m below = true := by
  have hm : ∀ x, (rbS s T).vm.method? x = s.vm.method? x := fun x => hW.alike.method? x
  have hc : ∀ x, (rbS s T).code? x = s.code? x := fun x => by rw [State.code?_eq, State.code?_eq, hm x]
  unfold State.hears at h ⊢
  cases below with
  | nil =>
    show Option.any _ ((rbS s T).vm.method? m) = true
    rw [hm]
    exact h
  | cons f r =>
    cases f <;> (simp only [hc, hm] at h ⊢; try exact h)
theorem rb_stand (X : Stand p l e R s m args below meth c T locs cells slots) (hk : cells ≤ R.cells) (hn : slots ≤ R.slots) : Stand p l e { frames := R.frames, cells := R.cells - cells, slots := R.slots - slots, locals := R.locals } (rbS s T) m args below meth c T [] 0 0 := by
  refine ⟨X.admits, X.cas, X.clock, X.frames, ?_, rb_hears X.warmed X.hears, X.method', X.code, X.here, X.tail, State.WarmedH.refl (rbS s T), X.limits, X.bytes, ?_⟩
  · have h := X.room
    have h1 := X.cellsAbove (n := R.cells - cells) (by omega)
    have h2 := X.slotsAbove (n := R.slots - slots) (by omega)
    have h3 := X.book
    have e1 : (rbS s T).localsInUse = s.localsInUse := by
      rw [State.localsInUse_invoking X.frames X.method X.code, State.localsInUse_invoking (s := rbS s T) X.frames X.method' X.code]
    simp only [State.hasRoom, Bool.and_eq_true, decide_eq_true_eq] at h ⊢
    rw [e1]
    exact ⟨⟨⟨⟨h.1.1.1.1, h.1.1.1.2⟩, h1⟩, h2⟩, h3⟩
  · obtain ⟨e1, -⟩ := X.same
    refine ⟨?_, Nat.le_refl _, Nat.le_refl _, ?_, ?_, fun a c hc => ⟨c, hc, rfl, rfl, fun _ _ => rfl⟩⟩
    · show T.setVm T.vm = _
      have e2 : T = (T.setVm s.vm).setVm T.vm := rfl
      rw [e1] at e2
      exact e2
    · show T.slotsUsed = T.slotsUsed + ((T.heap.toList.drop T.heap.size).map (·.slots.size)).sum
      rw [show T.heap.toList.drop T.heap.size = [] by simp]
      rfl
    · show ((T.heap.toList.drop T.heap.size).map (·.slots.size)).sum ≤ 0
      rw [show T.heap.toList.drop T.heap.size = [] by simp]
      exact Nat.le_refl _
end RB
