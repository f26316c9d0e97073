def rtN : List String := ["java/lang/RuntimeException", "java/lang/Exception"]
set_option maxHeartbeats 4000000 in
/-- the four instructions of a throw -/
theorem X_throw {l : Launch} {D : jD} {b : Nat} {Y : jM} {R : Room} {X : String} {post : jW → Prop} {w : jW} {k n pc : Nat} {lv : List (Nat × Value)} {st : List Value} {idx ic : Nat} (hl0 : l.stackTraces = false) (hX : thW Y.1.cls ic X rtN) (hfit : Bundle.fit X = true) (hcl : Cond.classLink Y.1.cls idx X ∈ tb) (hini : Cond.initialized X ∈ tb)
    (d0 : decode Y.2.1 pc = .ok (.new idx, 3)) (d3 : decode Y.2.1 (pc + 3) = .ok (.dup, 1)) (d4 : decode Y.2.1 (pc + 4) = .ok (.invokespecial ic, 3)) (d7 : decode Y.2.1 (pc + 7) = .ok (.athrow, 1)) (hR : 5 < R.frames ∧ (st.map fun v => v.category).sum + 81 ≤ R.locals) (hk : k + 1 ≤ R.cells ∧ n + 6 ≤ R.slots) (hp : post w) (hno : jHs Y.1 = [] := by decide +kernel) : JX l D b Y R X post w k n pc lv st := by
  intro p e s m args below meth c B K H locs ls hH hS hl T hT X0
  have X1 := rb_stand X0 (by omega) (by omega)
  have htr : e.platform.stackTraces = false := by rw [Example.NoTraceControls.admits_follows X0.admits]; exact hl0
  have hWs : s.WarmedH (rbS s T).vm := X0.warmed
  have hheap : (rbS s T).heap = H := hT
  have hq : ∀ q : Nat, q < s.heap.size → ¬ b ≤ q → (rbS s T).heap[q]? = s.heap[q]? := fun q h1 h2 => by rw [hheap]; exact hS.2.1 q h1 h2
  have K1 : jK D b (rbS s T) := K.warm hWs (by rw [hheap]; exact hS.1) hq
  have wt : ∀ w ∈ tb, w.before args (rbS s T) = true := fun w hw => word_at hWs (good_of_word (List.mem_filter.mp hw).2) (B.2.2.2.2.2.1 w hw)
  have words : ∀ a ∈ Bundle.ownAtoms0 Y.1.cls ic X rtN, a.before args (rbS s T) = true := by
    intro a ha
    rcases hX a ha with h | h | rfl | rfl | rfl | rfl
    · exact wt a h
    · exact jNest_any (A' := args) (List.mem_filter.mp h).2 (K1.2.1 a h)
    · exact K1.2.2.1.ref
    · exact K1.2.2.2.1.ref
    · exact K1.2.2.1.lays
    · exact K1.2.2.2.1.lays
  have hown : (rbS s T).vm.findClass Y.1.cls = some m.cls := by
    show T.vm.findClass Y.1.cls = _
    rw [X0.warmed.alike.findClass]
    exact B.2.2.2.2.1
  obtain ⟨vm₁, cX, kX, hfX, hkX, -, -, X₂, st1⟩ := X1.newCold B.1 (own := Y.1.cls) (C := X) (index := idx) (n := 6) hown (wt _ hcl) (words (.instantiable X 6) (by simp [Bundle.ownAtoms0])) (wt _ hini) (g := F0 m pc ls st) rfl (by rw [B.2.1]; exact d0) (by show 0 + 1 ≤ R.cells - k; omega) (by show 0 + 6 ≤ R.slots - n; omega)
  generalize hT2 : (T.setVm vm₁).pushCell { cls := cX, slots := kX.instanceTypes.map defaultValue, vm := .none } = T2 at X₂ st1
  have hcellA : T2.heap[T.heap.size]? = some (freshCell cX kX) := by
    rw [← hT2]
    exact State.heap_pushCell_size _ _
  obtain ⟨U, hsteps, hrun, hend, hWU, hsame, ce, hce, OC⟩ := X₂.ctorThrow0 B.1 htr (own := Y.1.cls) (cls := X) (names := rtN) (ic := ic) hown hfit (by decide +kernel) words (fun y hy => by cases hy) hfX hkX hcellA (Nat.le_refl _)
    (g := F0 m (pc + 4) ls (.ref T.heap.size :: .ref T.heap.size :: st)) rfl (by show ls.size = _; rw [B.2.2.2.1]; exact hl.1) rfl rfl (rest := st) rfl (by rw [B.2.1]; exact d4) (by rw [B.2.1]; exact d7) (jXt_out (B.2.2.2.2.2.2.2.2.trans hno) _) (by show 2 + 3 < R.frames; omega) (by show 2 * 0 + (1 + (st.map fun v => v.category).sum) + (13 * (2 + 1) + 41) ≤ R.locals; omega) B.2.2.2.2.2.2.1
  have hsz : U.heap.size ≤ H.size + 1 ∧ H.size ≤ U.heap.size := by
    have h1 := hsame.2.1
    have h2 := hsame.2.2.1
    rw [show ({ U with vm := (rbS s T).vm } : State).heap = U.heap from rfl] at h1 h2
    rw [hheap] at h1 h2
    exact ⟨h2, h1⟩
  have oq : ∀ q : Nat, q < H.size → U.heap[q]? = H[q]? := fun q h1 => by
    have := same_old hsame (q := q) (by rw [hheap]; exact h1)
    rw [hheap] at this
    exact this
  have hWU2 : s.WarmedH U.vm := State.WarmedH.trans X0.warmed hWU
  refine ⟨U, ?_, .threw T.heap.size, hrun, hend, T.heap.size, ce, locs, rfl, hWU2, (rb_same X0 hsame).mono (by omega) (by omega), hS.2.2, ⟨w, hp, hH.kept oq⟩, K.warm hWU2 (Nat.le_trans hS.1 hsz.2) (fun q h1 h2 => (oq q (Nat.lt_of_lt_of_le h1 hS.1)).trans (hS.2.1 q h1 h2)), ⟨Nat.le_trans hS.1 hsz.2, fun q h1 h2 => (oq q (Nat.lt_of_lt_of_le h1 hS.1)).trans (hS.2.1 q h1 h2)⟩, hce, OC.vm, ?_⟩
  · refine st1 _ ?_
    show Steps p.tables e below (T2.setTop (F0 m (pc + 3) ls (.ref T.heap.size :: st))) _
    jvm_step X₂.here [X₂.here.top, B.1, B.2.1, d3, Value.category]
    exact hsteps
  · rw [hWU.alike.findClass]
    exact OC.cls
