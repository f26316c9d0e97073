/-! words for what the methods answer -/
def ntB (s : Int) : Bool := decide (0 ≤ s ∧ s ≤ 4)
def tmB (s : Int) : Bool := decide (8 ≤ s ∧ s ≤ 11)
def lenOf (ln : Int → Int) (r : Int) : Int := if r < 0 then 1 else ln r
def bhM (ln bd : Int → Int) (r d : Int) : Int := if lenOf ln r ≤ d then -1 else if r < 0 then 0 else bd (3 * r + d)
theorem upI_id {α : Type} {f : Int → α} {z : Int} {v : α} (h : f z = v) : upI f z v = f := by
  funext j
  unfold upI
  split
  · rename_i e; rw [e, h]
  · rfl
theorem ntB_t {s : Int} (h : 0 ≤ s ∧ s ≤ 4) : ntB s = true := decide_eq_true h
theorem ntB_f {s : Int} (h : ¬ (0 ≤ s ∧ s ≤ 4)) : ntB s = false := decide_eq_false h
theorem tmB_t {s : Int} (h : 8 ≤ s ∧ s ≤ 11) : tmB s = true := decide_eq_true h
theorem tmB_f {s : Int} (h : ¬ (8 ≤ s ∧ s ≤ 11)) : tmB s = false := decide_eq_false h
