/-! new X; dup; X.<init>(); athrow -/
section XT
variable {p : Program} {l : Launch} {e : Env} {R : Room} {s : State} {m : MethodId} {args : Array Value} {below : List Frame} {meth : Method} {c : Code} {T : State} {locs : List Loc} {cells slots : Nat}
theorem same_old {s t : State} {k n : Nat} (h : s.sameButNew t [] k n) {q : Nat} (hq : q < s.heap.size) : t.heap[q]? = s.heap[q]? := by
  obtain ⟨-, -, -, -, -, h6⟩ := h
  have h1 : s.heap[q]? = some s.heap[q] := Array.getElem?_eq_getElem hq
  obtain ⟨c', h2, h3, h4, h5⟩ := h6 q _ h1
  rw [h2, h1]
  congr 1
  rw [h3]
  have e : c'.slots = s.heap[q].slots := by
    apply Array.ext_getElem?
    intro i
    exact h5 i (by simp)
  rw [e]
theorem rb_same {U : State} {k n : Nat} (X : Stand p l e R s m args below meth c T locs cells slots) (h : (rbS s T).sameButNew ({ U with vm := (rbS s T).vm } : State) [] k n) : s.sameButNew ({ U with vm := s.vm } : State) locs (cells + k) (slots + n) := by
  have h2 : (T.setVm s.vm).sameButNew ({ U with vm := s.vm } : State) [] k n := by
    obtain ⟨e1, q2, q3, q4, q5, q6⟩ := h
    refine ⟨?_, q2, q3, q4, q5, q6⟩
    have e2 := X.same.1
    have a1 : ({ U with vm := s.vm } : State) = ({ s.setFrames U.frames with heap := U.heap, slotsUsed := U.slotsUsed } : State) := congrArg (fun z : State => z.setVm s.vm) e1
    have a2 : (T.setVm s.vm).setFrames U.frames = ({ s.setFrames U.frames with heap := T.heap, slotsUsed := T.slotsUsed } : State) := by
      have a3 := congrArg (fun z : State => z.setFrames U.frames) e2
      refine a3.trans ?_
      show ({ (s.setFrames (T.setVm s.vm).frames).setFrames U.frames with heap := T.heap, slotsUsed := T.slotsUsed } : State) = _
      rw [State.setFrames_setFrames]
    show ({ U with vm := s.vm } : State) = ({ (T.setVm s.vm).setFrames U.frames with heap := U.heap, slotsUsed := U.slotsUsed } : State)
    rw [a2]
    exact a1
  have := X.same.trans h2
  rwa [List.append_nil] at this
end XT
