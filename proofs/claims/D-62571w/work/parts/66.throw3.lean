/-! a judgement for runs that end in a throw -/
/-- the end: thrown out, an object of the class X; the world as post says -/
def xQ (D : jD) (b : Nat) (X : String) (post : jW → Prop) (s t : State) (o : Outcome) (k n : Nat) : Prop :=
  ∃ (x : Addr) (cell : Cell) (L : List Loc), o = .threw x ∧ s.WarmedH t.vm ∧ s.sameButNew ({ t with vm := s.vm } : State) L k n ∧ (∀ q ∈ L, b ≤ q.base) ∧ (∃ w, post w ∧ Hp D b w t.heap) ∧ jK D b t ∧ va_F (fun q => b ≤ q) s t ∧ t.heap[x]? = some cell ∧ cell.vm = .none ∧ t.vm.findClass X = some cell.cls
def MX (D : jD) (b : Nat) (X : String) (post : jW → Prop) (below : List Frame) (s : State) (k n : Nat) : State → Prop := fun t => ∃ o, t.status = .running ∧ Ended t below o ∧ xQ D b X post s t o k n
/-- a contract of a throw -/
def CtX (l : Launch) (D : jD) (b : Nat) (Y : jM) (rm : Room) (xs : List Value) (w : jW) (X : String) (post : jW → Prop) : Prop :=
  MetFree l Y.1 (headSpec (.code Y.1 Y.2.1 Y.2.2.1 Y.2.2.2 :: tb) rm) (va_Pc xs (fun U => Hp D b w U.heap ∧ jK D b U)) (fun _ _ _ _ _ => True) (fun _ st o t => xQ D b X post st t o rm.cells rm.slots)
def JX (l : Launch) (D : jD) (b : Nat) (Y : jM) (R : Room) (X : String) (post : jW → Prop) (w : jW) (k n pc : Nat) (lv : List (Nat × Value)) (st : List Value) : Prop :=
  ∀ p e s m args below meth c, jB Y p s m args meth c → jK D b s → ∀ H locs ls, Hp D b w H → va_S (fun q => b ≤ q) s.heap H locs → lv_has ls Y.2.2.1 lv →
    W p l e R s m args below meth c H locs k n (MX D b X post below s R.cells R.slots) (F0 m pc ls st)
