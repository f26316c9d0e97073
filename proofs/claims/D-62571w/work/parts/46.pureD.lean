/-! going through all ways of a nonterminal over a stretch with a walker -/
def DropP (f : Int × Int × Int → Bool) (P : List (Int × Int × Int) → Prop) : Prop := ∀ q L, f q = false → P (q :: L) → P L
section PD1
variable {nr : Int} {lf ln bd tm : Int → Int} {dv : Int → Int → Int → Bool} {s i j r : Int} {P : List (Int × Int × Int) → Prop}
/-- what is still to come -/
def rsW (nr : Int) (lf ln : Int → Int) (s i j r : Int) (rest : List (Int × Int)) : List (Int × Int × Int) := rest.map (fun p => (r, p)) ++ wl nr lf ln s i j (r + 1)
theorem drop_start (hd : DropP (wayT tm dv ln (bsM bd) i j) P) (hr : r < nr) (hs : lf r = s) (h : P (wl nr lf ln s i j r)) : P (rsW nr lf ln s i j r (stS (ln r) i j)) := by
  rw [wl_eq hr, if_pos hs] at h
  unfold rsW stS
  by_cases h0 : ln r = 0 ∧ i ≠ j
  · rw [if_pos h0]
    rw [sfx_eq, if_neg (by omega), if_pos (by omega)] at h
    refine hd (r, i, i) _ ?_ h
    show wayB tm dv (ln r) (bsM bd r) i i i j = false
    unfold wayB
    rw [if_pos h0.1, decide_eq_false h0.2]
  · rw [if_neg h0]
    exact h
theorem drop_skip (hr : r < nr) (hs : lf r ≠ s) (h : P (wl nr lf ln s i j r)) : P (wl nr lf ln s i j (r + 1)) := by
  rw [wl_eq hr, if_neg hs] at h
  exact h
theorem drop_next (hd : DropP (wayT tm dv ln (bsM bd) i j) P) {rest : List (Int × Int)} (h : P (rsW nr lf ln s i j r rest)) :
    (fwL (fun p => wayB tm dv (ln r) (bsM bd r) p.1 p.2 i j) rest = none → P (wl nr lf ln s i j (r + 1))) ∧
    ∀ p l, fwL (fun p => wayB tm dv (ln r) (bsM bd r) p.1 p.2 i j) rest = some (p, l) → wayT tm dv ln (bsM bd) i j (r, p) = true ∧ P ((r, p) :: rsW nr lf ln s i j r l) := by
  rcases fwL_run (f := fun p => wayB tm dv (ln r) (bsM bd r) p.1 p.2 i j) (P := fun l => P (rsW nr lf ln s i j r l)) (fun p l hp hl => hd (r, p) _ hp hl) rest h with ⟨h1, h2⟩ | ⟨p, l, h1, h2, h3⟩
  · exact ⟨fun _ => h2, (fun p l e => by rw [h1] at e; cases e)⟩
  · refine ⟨(fun e => by rw [h1] at e; cases e), fun p' l' e => ?_⟩
    rw [h1] at e
    cases e
    exact ⟨h2, h3⟩
end PD1
/-- all ways are still to come, but those that have come -/
def HP (f : Int × Int × Int → Bool) (W0 : List (Int × Int × Int)) (L : List (Int × Int × Int)) : Prop := (∀ q ∈ W0, f q = true → q ∈ L) ∧ ∀ q ∈ L, q ∈ W0
theorem HP.rf {f : Int × Int × Int → Bool} {W0 : List (Int × Int × Int)} : HP f W0 W0 := ⟨fun _ h _ => h, fun _ h => h⟩
theorem HP.drop {f : Int × Int × Int → Bool} {W0 : List (Int × Int × Int)} : DropP f (HP f W0) := by
  intro q L hq h
  refine ⟨fun p h1 h2 => ?_, fun p h1 => h.2 p (List.mem_cons_of_mem _ h1)⟩
  rcases List.mem_cons.mp (h.1 p h1 h2) with e | e
  · rw [e, hq] at h2
    cases h2
  · exact e
theorem cntW_drop {f : Int × Int × Int → Bool} {n m : Int} : DropP f (fun L => n + cntW f L = m) := by
  intro q L hq h
  show n + cntW f L = m
  have h' : n + ((if f q = true then 1 else 0) + cntW f L) = m := h
  rw [hq] at h'
  simp at h'
  exact h'
theorem cntW_way {f : Int × Int × Int → Bool} {n m : Int} {q : Int × Int × Int} {L : List (Int × Int × Int)} (hq : f q = true) (h : n + cntW f (q :: L) = m) : n + 1 + cntW f L = m := by
  have h' : n + ((if f q = true then 1 else 0) + cntW f L) = m := h
  rw [if_pos hq] at h'
  omega
theorem cp_one {a : Int} (h : 0 ≤ a ∧ a ≤ 1000000000000) : cp a 1 = a := by
  unfold cp
  rw [Int.mul_one, if_neg (by omega)]
theorem cp_div {a b : Int} (ha : 0 < a) : 1000000000000 / a < b ↔ 1000000000000 < a * b := by
  rw [Int.ediv_lt_iff_lt_mul ha, Int.mul_comm]
/-! Math.min of longs -/
theorem mn_words : Cond.methodLink "ChartForest" 218 Lib.MathLoose.min_long.x ∈ tb ∧ Cond.static Lib.MathLoose.min_long.x ∈ tb ∧ Cond.initialized "java/lang/Math" ∈ tb ∧ Cond.code Lib.MathLoose.min_long.x Lib.MathLoose.min_long.code 4 (some .long) ∈ tb := ⟨tb_in (List.mem_of_getElem? (i := 601) (by decide +kernel)) rfl, tb_in (List.mem_of_getElem? (i := 602) (by decide +kernel)) rfl, tb_in (List.mem_of_getElem? (i := 76) (by decide +kernel)) rfl, tb_in (List.mem_of_getElem? (i := 603) (by decide +kernel)) rfl⟩
theorem J_minL {l : Launch} {D : jD} {b : Nat} {Y : jM} {R : Room} {post : Option Value → jW → Prop} {w : jW} {k n pc : Nat} {lv : List (Nat × Value)} {st : List Value} {x y : Int} (hY : Y.1.cls = "ChartForest") (hd : decode Y.2.1 pc = .ok (.invokestatic 218, 3)) (hx : -9223372036854775808 ≤ x ∧ x ≤ 9223372036854775807) (hy : -9223372036854775808 ≤ y ∧ y ≤ 9223372036854775807) (hr : 1 ≤ R.frames ∧ (st.map fun v => v.category).sum + 15 ≤ R.locals) (hk : k ≤ R.cells ∧ n ≤ R.slots)
    (kk : J l D b Y R post w k n (pc + 3) lv (.long (iL (if y < x then y else x)) :: st)) : J l D b Y R post w k n pc lv (.long (iL y) :: .long (iL x) :: st) := by
  intro p e9 s m args below meth c B K H locs ls hH hS hl
  refine va_mmin_long B.1 B.2.1 (by rw [B.2.2.2.1]; exact hl.1.symm) (hY ▸ B.2.2.2.2.1) (B.2.2.2.2.2.1 _ mn_words.1) (B.2.2.2.2.2.1 _ mn_words.2.1) (B.2.2.2.2.2.1 _ mn_words.2.2.1) (B.2.2.2.2.2.1 _ mn_words.2.2.2) hr.1 hr.2 hk.1 hk.2 hd ?_
  have e : (if iL y < iL x then iL y else iL x) = iL (if y < x then y else x) := by
    by_cases h : y < x
    · rw [if_pos h, if_pos ((iL_lt hy hx).mpr h)]
    · rw [if_neg h, if_neg (fun q => h ((iL_lt hy hx).mp q))]
  rw [e]
  exact kk p e9 s m args below meth c B K H locs ls hH hS hl
