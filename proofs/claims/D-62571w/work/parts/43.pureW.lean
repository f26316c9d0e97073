/-! the component's walker in words -/
/-- the cuts as the walker keeps them -/
def WCut (n c1 c2 i j : Int) (wc : Int → Int) : Prop := wc 0 = i ∧ (wc 1 = if 1 < n then c1 else j) ∧ (wc 2 = if 2 < n then c2 else j) ∧ wc 3 = j
theorem WCut.at {n c1 c2 i j k : Int} {wc : Int → Int} (h : WCut n c1 c2 i j wc) (hn : 0 ≤ n ∧ n ≤ 3) (hk : 0 ≤ k ∧ k ≤ n) (h0 : 0 < n) : wc k = cutV n c1 c2 k i j := by
  obtain ⟨h1, h2, h3, h4⟩ := h
  unfold cutV
  have : k = 0 ∨ k = 1 ∨ k = 2 ∨ k = 3 := by omega
  rcases this with rfl | rfl | rfl | rfl
  · rw [if_pos rfl]
    exact h1
  · rw [if_neg (by omega), h2]
    by_cases e : n = 1
    · rw [if_pos e.symm, if_neg (by omega)]
    · rw [if_pos (show 1 < n by omega), if_neg (show ¬ (1 : Int) = n from fun q => e q.symm), if_pos rfl]
  · rw [if_neg (by omega), h3]
    by_cases e : n = 2
    · rw [if_pos e.symm, if_neg (by omega)]
    · rw [if_pos (show 2 < n by omega), if_neg (show ¬ (2 : Int) = n from fun q => e q.symm), if_neg (show ¬ (2 : Int) = 1 by omega)]
  · rw [if_neg (by omega), if_pos (by omega)]
    exact h4
/-- the cuts behind (c1, c2) -/
def tlS (n j c1 c2 : Int) : List (Int × Int) := (sfx n j c1 c2).tail
theorem tlS_nx {n j c1 c2 d1 d2 : Int} {m : Bool} (h : Nxt n j c1 c2 m d1 d2) (hc : c1 ≤ j) : tlS n j c1 c2 = if m = true then sfx n j d1 d2 else [] := by
  unfold tlS
  rw [sfx_nx h hc]
  rfl
theorem sfx_cons (n j c1 c2 : Int) : sfx n j c1 c2 = (c1, c2) :: tlS n j c1 c2 := by
  unfold tlS
  rw [sfx_eq]
  rfl
/-- the cuts that a walker goes through from its start -/
def stS (n i j : Int) : List (Int × Int) := if n = 0 ∧ i ≠ j then [] else sfx n j i i
/-- where a walker stands: the cuts that are still to come -/
def WS (n i j : Int) (wb : Bool) (wc : Int → Int) (rest : List (Int × Int)) : Prop :=
  (wb = false ∧ WCut n i i i j wc ∧ rest = stS n i j) ∨ (wb = true ∧ ∃ c1 c2, (i ≤ c1 ∧ c1 ≤ c2 ∧ c2 ≤ j) ∧ WCut n c1 c2 i j wc ∧ rest = tlS n j c1 c2)
/-- a walker at the cuts p -/
def WA (n i j : Int) (wc : Int → Int) (p : Int × Int) : Prop := (i ≤ p.1 ∧ p.1 ≤ p.2 ∧ p.2 ≤ j) ∧ WCut n p.1 p.2 i j wc ∧ (n = 0 → i = j)
/-- the first way among the cuts -/
def fwL (f : Int × Int → Bool) : List (Int × Int) → Option ((Int × Int) × List (Int × Int))
  | [] => none
  | p :: l => if f p = true then some (p, l) else fwL f l
theorem fwL_cons (f : Int × Int → Bool) (p : Int × Int) (l : List (Int × Int)) : fwL f (p :: l) = if f p = true then some (p, l) else fwL f l := rfl
theorem fwL_run {f : Int × Int → Bool} {P : List (Int × Int) → Prop} (hP : ∀ p l, f p = false → P (p :: l) → P l) : ∀ l, P l → (fwL f l = none ∧ P []) ∨ ∃ p l', fwL f l = some (p, l') ∧ f p = true ∧ P (p :: l')
  | [], h => Or.inl ⟨rfl, h⟩
  | p :: l, h => by
    rw [fwL_cons]
    cases hp : f p with
    | true => exact Or.inr ⟨p, l, if_pos rfl, hp, h⟩
    | false =>
      rw [if_neg (by decide)]
      exact fwL_run hP l (hP p l hp h)
/-- what the component's columns say -/
def dvM (mk : Int → Int → Int) : Int → Int → Int → Bool := fun s a b => bit (mk b a) s
def nuM (tr : Int → Int → Int → Int) : Int → Int → Int → Int := fun s a b => tr b a s
def MkR (mk : Int → Int → Int) : Prop := ∀ b a, 0 ≤ a → a ≤ b → b ≤ 12 → 0 ≤ mk b a ∧ mk b a ≤ 31
theorem wayB_n {tm : Int → Int} {dv : Int → Int → Int → Bool} {n : Int} {bs : Int → Int} {c1 c2 i j : Int} (hn : 0 ≤ n) (hc : i ≤ c1 ∧ c1 ≤ c2 ∧ c2 ≤ j) (h0 : n = 0 → i = j) : wayB tm dv n bs c1 c2 i j = true ↔ ∀ k, 0 ≤ k → k < n → dsy tm dv (bs k) (cutV n c1 c2 k i j) (cutV n c1 c2 (k + 1) i j) = true := by
  unfold wayB
  by_cases e : n = 0
  · rw [if_pos e]
    exact ⟨fun _ k a b => by omega, fun _ => decide_eq_true (h0 e)⟩
  · rw [if_neg e, allB_iff hn]
    refine ⟨fun h k a b => ?_, fun h k a b => ?_⟩
    · have := h k a b
      unfold wayK at this
      rw [Bool.and_eq_true] at this
      exact this.2
    · unfold wayK
      rw [Bool.and_eq_true]
      refine ⟨decide_eq_true ?_, h k a b⟩
      unfold cutV
      by_cases k0 : k = 0
      · rw [if_pos k0, if_neg (by omega)]
        split
        · omega
        · split <;> omega
      · rw [if_neg k0, if_neg (by omega), if_neg (show ¬ k + 1 = 0 by omega)]
        by_cases k1 : k = 1
        · rw [if_pos k1]
          split
          · omega
          · rw [if_neg (by omega)]
            omega
        · rw [if_neg k1]
          split
          · omega
          · rw [if_neg (by omega)]
            omega
theorem st_in {n i j : Int} (hn : 0 ≤ n ∧ n ≤ 3) (hij : 0 ≤ i ∧ i ≤ j ∧ j ≤ 12) : ∀ p ∈ sfx n j i i, i ≤ p.1 ∧ p.1 ≤ p.2 ∧ p.2 ≤ j := by
  have : n < 2 ∨ n = 2 ∨ n = 3 := by omega
  exact sfx_mem this _ _ _ (Nat.le_refl _) (by omega) (by omega)
