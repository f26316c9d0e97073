/-! the reference's world: its object is the cell 0, its arrays the cells 1 to 11; all other cells are r's -/
def cM (ad : Nat → Nat) (r : Nat → Option jE) (lp : Bool) (rf : Int) (nr : Int) (lf : Int → Int) (ln : Int → Int) (bd : Int → Int) (fd : Int) (tm : Int → Int) (it : Int → Bool) (wk : Bool) (dv : Int → Bool) (ct : Int → Bool) (nu : Int → Int) (mt : Int → Bool) (c1 : Int) (c2 : Int) (td : Int → Int) (tt : Int → Int) (tc : Int) : Nat → Option jE
  | 0 => some (.inr (6, [Value.int (iI (bz lp)), Value.int (iI rf), Value.int (iI nr), Value.ref (ad 1), Value.ref (ad 2), Value.ref (ad 3), Value.int (iI fd), Value.ref (ad 4), Value.ref (ad 5), Value.int (iI (bz wk)), Value.ref (ad 6), Value.ref (ad 7), Value.ref (ad 8), Value.ref (ad 9), Value.int (iI c1), Value.int (iI c2), Value.ref (ad 10), Value.ref (ad 11), Value.int (iI tc)]))
  | 1 => some (.inl (0, 10, fun j => Value.int (iI (lf j))))
  | 2 => some (.inl (0, 10, fun j => Value.int (iI (ln j))))
  | 3 => some (.inl (0, 30, fun j => Value.int (iI (bd j))))
  | 4 => some (.inl (0, 12, fun j => Value.int (iI (tm j))))
  | 5 => some (.inl (3, 7436, fun j => Value.int (iI (bz (it j)))))
  | 6 => some (.inl (3, 845, fun j => Value.int (iI (bz (dv j)))))
  | 7 => some (.inl (3, 845, fun j => Value.int (iI (bz (ct j)))))
  | 8 => some (.inl (1, 845, fun j => Value.long (iL (nu j))))
  | 9 => some (.inl (3, 845, fun j => Value.int (iI (bz (mt j)))))
  | 10 => some (.inl (0, 900, fun j => Value.int (iI (td j))))
  | 11 => some (.inl (1, 900, fun j => Value.long (iL (tt j))))
  | i => r i
section UM
variable {ad : Nat → Nat} {r : Nat → Option jE} {lp : Bool} {rf : Int} {nr : Int} {lf : Int → Int} {ln : Int → Int} {bd : Int → Int} {fd : Int} {tm : Int → Int} {it : Int → Bool} {wk : Bool} {dv : Int → Bool} {ct : Int → Bool} {nu : Int → Int} {mt : Int → Bool} {c1 : Int} {c2 : Int} {td : Int → Int} {tt : Int → Int} {tc : Int}
theorem uM_obj {lp' : Bool} {rf' : Int} {nr' : Int} {fd' : Int} {wk' : Bool} {c1' : Int} {c2' : Int} {tc' : Int} : va_up (cM ad r lp rf nr lf ln bd fd tm it wk dv ct nu mt c1 c2 td tt tc) 0 (some (.inr (6, [Value.int (iI (bz lp')), Value.int (iI rf'), Value.int (iI nr'), Value.ref (ad 1), Value.ref (ad 2), Value.ref (ad 3), Value.int (iI fd'), Value.ref (ad 4), Value.ref (ad 5), Value.int (iI (bz wk')), Value.ref (ad 6), Value.ref (ad 7), Value.ref (ad 8), Value.ref (ad 9), Value.int (iI c1'), Value.int (iI c2'), Value.ref (ad 10), Value.ref (ad 11), Value.int (iI tc')]))) = cM ad r lp' rf' nr' lf ln bd fd' tm it wk' dv ct nu mt c1' c2' td tt tc' := by
  funext i
  match i with
  | 0 => rfl
  | 1 => rfl
  | 2 => rfl
  | 3 => rfl
  | 4 => rfl
  | 5 => rfl
  | 6 => rfl
  | 7 => rfl
  | 8 => rfl
  | 9 => rfl
  | 10 => rfl
  | 11 => rfl
  | i + 12 => rfl
theorem uM_lf {x : Int → Int} : va_up (cM ad r lp rf nr lf ln bd fd tm it wk dv ct nu mt c1 c2 td tt tc) 1 (some (.inl (0, 10, fun j => Value.int (iI (x j))))) = cM ad r lp rf nr x ln bd fd tm it wk dv ct nu mt c1 c2 td tt tc := by
  funext i
  match i with
  | 0 => rfl
  | 1 => rfl
  | 2 => rfl
  | 3 => rfl
  | 4 => rfl
  | 5 => rfl
  | 6 => rfl
  | 7 => rfl
  | 8 => rfl
  | 9 => rfl
  | 10 => rfl
  | 11 => rfl
  | i + 12 => rfl
theorem uM_ln {x : Int → Int} : va_up (cM ad r lp rf nr lf ln bd fd tm it wk dv ct nu mt c1 c2 td tt tc) 2 (some (.inl (0, 10, fun j => Value.int (iI (x j))))) = cM ad r lp rf nr lf x bd fd tm it wk dv ct nu mt c1 c2 td tt tc := by
  funext i
  match i with
  | 0 => rfl
  | 1 => rfl
  | 2 => rfl
  | 3 => rfl
  | 4 => rfl
  | 5 => rfl
  | 6 => rfl
  | 7 => rfl
  | 8 => rfl
  | 9 => rfl
  | 10 => rfl
  | 11 => rfl
  | i + 12 => rfl
theorem uM_bd {x : Int → Int} : va_up (cM ad r lp rf nr lf ln bd fd tm it wk dv ct nu mt c1 c2 td tt tc) 3 (some (.inl (0, 30, fun j => Value.int (iI (x j))))) = cM ad r lp rf nr lf ln x fd tm it wk dv ct nu mt c1 c2 td tt tc := by
  funext i
  match i with
  | 0 => rfl
  | 1 => rfl
  | 2 => rfl
  | 3 => rfl
  | 4 => rfl
  | 5 => rfl
  | 6 => rfl
  | 7 => rfl
  | 8 => rfl
  | 9 => rfl
  | 10 => rfl
  | 11 => rfl
  | i + 12 => rfl
theorem uM_tm {x : Int → Int} : va_up (cM ad r lp rf nr lf ln bd fd tm it wk dv ct nu mt c1 c2 td tt tc) 4 (some (.inl (0, 12, fun j => Value.int (iI (x j))))) = cM ad r lp rf nr lf ln bd fd x it wk dv ct nu mt c1 c2 td tt tc := by
  funext i
  match i with
  | 0 => rfl
  | 1 => rfl
  | 2 => rfl
  | 3 => rfl
  | 4 => rfl
  | 5 => rfl
  | 6 => rfl
  | 7 => rfl
  | 8 => rfl
  | 9 => rfl
  | 10 => rfl
  | 11 => rfl
  | i + 12 => rfl
theorem uM_it {x : Int → Bool} : va_up (cM ad r lp rf nr lf ln bd fd tm it wk dv ct nu mt c1 c2 td tt tc) 5 (some (.inl (3, 7436, fun j => Value.int (iI (bz (x j)))))) = cM ad r lp rf nr lf ln bd fd tm x wk dv ct nu mt c1 c2 td tt tc := by
  funext i
  match i with
  | 0 => rfl
  | 1 => rfl
  | 2 => rfl
  | 3 => rfl
  | 4 => rfl
  | 5 => rfl
  | 6 => rfl
  | 7 => rfl
  | 8 => rfl
  | 9 => rfl
  | 10 => rfl
  | 11 => rfl
  | i + 12 => rfl
theorem uM_dv {x : Int → Bool} : va_up (cM ad r lp rf nr lf ln bd fd tm it wk dv ct nu mt c1 c2 td tt tc) 6 (some (.inl (3, 845, fun j => Value.int (iI (bz (x j)))))) = cM ad r lp rf nr lf ln bd fd tm it wk x ct nu mt c1 c2 td tt tc := by
  funext i
  match i with
  | 0 => rfl
  | 1 => rfl
  | 2 => rfl
  | 3 => rfl
  | 4 => rfl
  | 5 => rfl
  | 6 => rfl
  | 7 => rfl
  | 8 => rfl
  | 9 => rfl
  | 10 => rfl
  | 11 => rfl
  | i + 12 => rfl
theorem uM_ct {x : Int → Bool} : va_up (cM ad r lp rf nr lf ln bd fd tm it wk dv ct nu mt c1 c2 td tt tc) 7 (some (.inl (3, 845, fun j => Value.int (iI (bz (x j)))))) = cM ad r lp rf nr lf ln bd fd tm it wk dv x nu mt c1 c2 td tt tc := by
  funext i
  match i with
  | 0 => rfl
  | 1 => rfl
  | 2 => rfl
  | 3 => rfl
  | 4 => rfl
  | 5 => rfl
  | 6 => rfl
  | 7 => rfl
  | 8 => rfl
  | 9 => rfl
  | 10 => rfl
  | 11 => rfl
  | i + 12 => rfl
theorem uM_nu {x : Int → Int} : va_up (cM ad r lp rf nr lf ln bd fd tm it wk dv ct nu mt c1 c2 td tt tc) 8 (some (.inl (1, 845, fun j => Value.long (iL (x j))))) = cM ad r lp rf nr lf ln bd fd tm it wk dv ct x mt c1 c2 td tt tc := by
  funext i
  match i with
  | 0 => rfl
  | 1 => rfl
  | 2 => rfl
  | 3 => rfl
  | 4 => rfl
  | 5 => rfl
  | 6 => rfl
  | 7 => rfl
  | 8 => rfl
  | 9 => rfl
  | 10 => rfl
  | 11 => rfl
  | i + 12 => rfl
theorem uM_mt {x : Int → Bool} : va_up (cM ad r lp rf nr lf ln bd fd tm it wk dv ct nu mt c1 c2 td tt tc) 9 (some (.inl (3, 845, fun j => Value.int (iI (bz (x j)))))) = cM ad r lp rf nr lf ln bd fd tm it wk dv ct nu x c1 c2 td tt tc := by
  funext i
  match i with
  | 0 => rfl
  | 1 => rfl
  | 2 => rfl
  | 3 => rfl
  | 4 => rfl
  | 5 => rfl
  | 6 => rfl
  | 7 => rfl
  | 8 => rfl
  | 9 => rfl
  | 10 => rfl
  | 11 => rfl
  | i + 12 => rfl
theorem uM_td {x : Int → Int} : va_up (cM ad r lp rf nr lf ln bd fd tm it wk dv ct nu mt c1 c2 td tt tc) 10 (some (.inl (0, 900, fun j => Value.int (iI (x j))))) = cM ad r lp rf nr lf ln bd fd tm it wk dv ct nu mt c1 c2 x tt tc := by
  funext i
  match i with
  | 0 => rfl
  | 1 => rfl
  | 2 => rfl
  | 3 => rfl
  | 4 => rfl
  | 5 => rfl
  | 6 => rfl
  | 7 => rfl
  | 8 => rfl
  | 9 => rfl
  | 10 => rfl
  | 11 => rfl
  | i + 12 => rfl
theorem uM_tt {x : Int → Int} : va_up (cM ad r lp rf nr lf ln bd fd tm it wk dv ct nu mt c1 c2 td tt tc) 11 (some (.inl (1, 900, fun j => Value.long (iL (x j))))) = cM ad r lp rf nr lf ln bd fd tm it wk dv ct nu mt c1 c2 td x tc := by
  funext i
  match i with
  | 0 => rfl
  | 1 => rfl
  | 2 => rfl
  | 3 => rfl
  | 4 => rfl
  | 5 => rfl
  | 6 => rfl
  | 7 => rfl
  | 8 => rfl
  | 9 => rfl
  | 10 => rfl
  | 11 => rfl
  | i + 12 => rfl
theorem fit_z (p : Bool) : fits .boolean (.int (iI (bz p))) = true := by cases p <;> rfl
end UM
