/-! ways: the cuts in order, what makes a way; shared by both sides -/
def cutV (n c1 c2 k i j : Int) : Int := if k = 0 then i else if k = n then j else if k = 1 then c1 else c2
def dsy (tm : Int → Int) (dv : Int → Int → Int → Bool) (s a b : Int) : Bool := if 8 ≤ s then decide (b = a + 1 ∧ tm a = s) else dv s a b
def wayK (tm : Int → Int) (dv : Int → Int → Int → Bool) (n : Int) (bs : Int → Int) (c1 c2 i j k : Int) : Bool := decide (cutV n c1 c2 k i j ≤ cutV n c1 c2 (k + 1) i j) && dsy tm dv (bs k) (cutV n c1 c2 k i j) (cutV n c1 c2 (k + 1) i j)
def allB (P : Int → Bool) (n : Int) : Bool := foldI (fun a k => a && P k) true n
def wayB (tm : Int → Int) (dv : Int → Int → Int → Bool) (n : Int) (bs : Int → Int) (c1 c2 i j : Int) : Bool := if n = 0 then decide (i = j) else allB (wayK tm dv n bs c1 c2 i j) n
/-- the cuts from (c1, c2) on -/
def sfx (n j c1 c2 : Int) : List (Int × Int) :=
  (c1, c2) :: (if _h : n = 3 ∧ c2 < j then sfx n j c1 (c2 + 1) else if _h2 : n < 2 ∨ j ≤ c1 then [] else sfx n j (c1 + 1) (c1 + 1))
termination_by ((j - c1).toNat, (j - c2).toNat)
decreasing_by
  · exact Prod.Lex.right _ (by omega)
  · exact Prod.Lex.left _ _ (by omega)
theorem sfx_eq (n j c1 c2 : Int) : sfx n j c1 c2 = (c1, c2) :: (if n = 3 ∧ c2 < j then sfx n j c1 (c2 + 1) else if n < 2 ∨ j ≤ c1 then [] else sfx n j (c1 + 1) (c1 + 1)) := by
  rw [sfx]
  by_cases h : n = 3 ∧ c2 < j
  · rw [dif_pos h, if_pos h]
  · rw [dif_neg h, if_neg h]
    by_cases h2 : n < 2 ∨ j ≤ c1
    · rw [dif_pos h2, if_pos h2]
    · rw [dif_neg h2, if_neg h2]
/-- one step on: m says whether there is one -/
def Nxt (n j c1 c2 : Int) (m : Bool) (d1 d2 : Int) : Prop := ((n = 3 ∧ c2 < j) ∧ m = true ∧ d1 = c1 ∧ d2 = c2 + 1) ∨ (¬ (n = 3 ∧ c2 < j) ∧ (n < 2 ∨ c1 = j) ∧ m = false ∧ d1 = c1 ∧ d2 = c2) ∨ (¬ (n = 3 ∧ c2 < j) ∧ ¬ (n < 2 ∨ c1 = j) ∧ m = true ∧ d1 = c1 + 1 ∧ d2 = c1 + 1)
theorem sfx_nx {n j c1 c2 d1 d2 : Int} {m : Bool} (h : Nxt n j c1 c2 m d1 d2) (hc : c1 ≤ j) : sfx n j c1 c2 = (c1, c2) :: (if m = true then sfx n j d1 d2 else []) := by
  rw [sfx_eq]
  rcases h with ⟨h1, rfl, rfl, rfl⟩ | ⟨h1, h2, rfl, rfl, rfl⟩ | ⟨h1, h2, rfl, rfl, rfl⟩
  · rw [if_pos h1, if_pos rfl]
  · rw [if_neg h1, if_pos (by omega), if_neg (by decide)]
  · rw [if_neg h1, if_neg (by omega), if_pos rfl]
theorem nxt_rng {n i j c1 c2 d1 d2 : Int} {m : Bool} (h : Nxt n j c1 c2 m d1 d2) (hc : i ≤ c1 ∧ c1 ≤ c2 ∧ c2 ≤ j) (hn : n < 2 ∨ n = 2 ∨ n = 3) : i ≤ d1 ∧ d1 ≤ d2 ∧ d2 ≤ j := by
  rcases h with ⟨h1, h2, h3, h4⟩ | ⟨h1, h2, h3, h4, h5⟩ | ⟨h1, h2, h3, h4, h5⟩ <;> omega
/-- the ways of the rules from r on, with c rules left, for the symbol s over i .. j: (rule, cuts) -/
def wlN (lf ln : Int → Int) (s i j : Int) : Nat → Int → List (Int × Int × Int)
  | 0, _ => []
  | c + 1, r => (if lf r = s then (sfx (ln r) j i i).map (fun p => (r, p)) else []) ++ wlN lf ln s i j c (r + 1)
def wl (nr : Int) (lf ln : Int → Int) (s i j r : Int) : List (Int × Int × Int) := wlN lf ln s i j (nr - r).toNat r
theorem wl_end {nr : Int} {lf ln : Int → Int} {s i j r : Int} (h : nr ≤ r) : wl nr lf ln s i j r = [] := by
  unfold wl
  rw [show (nr - r).toNat = 0 by omega]
  rfl
theorem wl_eq {nr : Int} {lf ln : Int → Int} {s i j r : Int} (h : r < nr) : wl nr lf ln s i j r = (if lf r = s then (sfx (ln r) j i i).map (fun p => (r, p)) else []) ++ wl nr lf ln s i j (r + 1) := by
  unfold wl
  rw [show (nr - r).toNat = (nr - (r + 1)).toNat + 1 by omega]
  rfl
theorem sfx_mem {n i j : Int} (hn : n < 2 ∨ n = 2 ∨ n = 3) : ∀ (m : Nat) (c1 c2 : Int), (j - c1).toNat * 20 + (j - c2).toNat ≤ m → i ≤ c1 ∧ c1 ≤ c2 ∧ c2 ≤ j → j ≤ i + 12 → ∀ p ∈ sfx n j c1 c2, i ≤ p.1 ∧ p.1 ≤ p.2 ∧ p.2 ≤ j := by
  intro m
  induction m with
  | zero =>
    intro c1 c2 hm hc hj p hp
    rw [sfx_eq, if_neg (by omega), if_pos (by omega)] at hp
    rw [List.mem_singleton.mp hp]
    exact hc
  | succ m ih =>
    intro c1 c2 hm hc hj p hp
    rw [sfx_eq] at hp
    rcases List.mem_cons.mp hp with rfl | hp
    · exact hc
    · split at hp
      · exact ih _ _ (by omega) (by omega) hj p hp
      · split at hp
        · cases hp
        · exact ih _ _ (by omega) (by omega) hj p hp
theorem wl_mem {nr : Int} {lf ln : Int → Int} {s i j : Int} : ∀ (c : Nat) (r : Int), (nr - r).toNat = c → ∀ q ∈ wl nr lf ln s i j r, r ≤ q.1 ∧ q.1 < nr ∧ lf q.1 = s ∧ q.2 ∈ sfx (ln q.1) j i i := by
  intro c
  induction c with
  | zero =>
    intro r hr q hq
    rw [wl_end (by omega)] at hq
    cases hq
  | succ c ih =>
    intro r hr q hq
    rw [wl_eq (by omega)] at hq
    rcases List.mem_append.mp hq with h | h
    · split at h
      · obtain ⟨p, h1, rfl⟩ := List.mem_map.mp h
        exact ⟨Int.le_refl _, by show r < nr; omega, by assumption, h1⟩
      · cases h
    · obtain ⟨a1, a2⟩ := ih (r + 1) (by omega) q h
      exact ⟨by omega, a2⟩
theorem wl_of {nr : Int} {lf ln : Int → Int} {s i j : Int} : ∀ (c : Nat) (r : Int), (nr - r).toNat = c → ∀ r' p, r ≤ r' → r' < nr → lf r' = s → p ∈ sfx (ln r') j i i → (r', p) ∈ wl nr lf ln s i j r := by
  intro c
  induction c with
  | zero =>
    intro r hr r' p h1 h2
    omega
  | succ c ih =>
    intro r hr r' p h1 h2 h3 h4
    rw [wl_eq (by omega)]
    by_cases h : r' = r
    · subst h
      rw [if_pos h3]
      exact List.mem_append_left _ (List.mem_map.mpr ⟨p, h4, rfl⟩)
    · exact List.mem_append_right _ (ih (r + 1) (by omega) r' p (by omega) h2 h3 h4)
theorem cutV_rng {n c1 c2 k i j : Int} (hc : i ≤ c1 ∧ c1 ≤ c2 ∧ c2 ≤ j) : i ≤ cutV n c1 c2 k i j ∧ cutV n c1 c2 k i j ≤ j := by
  unfold cutV
  split
  · omega
  · split
    · omega
    · split <;> omega
theorem allB_0 (P : Int → Bool) : allB P 0 = true := rfl
theorem allB_s (P : Int → Bool) {k : Int} (h : 0 ≤ k) : allB P (k + 1) = (allB P k && P k) := foldI_s _ _ h
theorem allB_iff {P : Int → Bool} {n : Int} (h : 0 ≤ n) : allB P n = true ↔ ∀ k, 0 ≤ k → k < n → P k = true := by
  refine int_ind (Q := fun n => allB P n = true ↔ ∀ k, 0 ≤ k → k < n → P k = true) ⟨fun _ k _ _ => by omega, fun _ => rfl⟩ ?_ n h
  intro m hm ih
  rw [allB_s P hm, Bool.and_eq_true, ih]
  refine ⟨fun ⟨a, b⟩ k h1 h2 => ?_, fun a => ⟨fun k h1 h2 => a k h1 (by omega), a m hm (by omega)⟩⟩
  by_cases hk : k = m
  · rw [hk]
    exact b
  · exact a k h1 (by omega)
/-- the table of what is derived, as the reference keeps it -/
def dvT (dv : Int → Bool) : Int → Int → Int → Bool := fun s a b => dv (169 * s + 13 * a + b)
/-- how many of the cuts make ways -/
def nWays (f : Int × Int → Bool) : List (Int × Int) → Int
  | [] => 0
  | p :: l => (if f p = true then 1 else 0) + nWays f l
theorem nWays_pos {f : Int × Int → Bool} : ∀ l : List (Int × Int), 0 ≤ nWays f l ∧ (0 < nWays f l ↔ ∃ p ∈ l, f p = true)
  | [] => ⟨Int.le_refl _, ⟨fun h => by simp [nWays] at h, fun ⟨p, h, _⟩ => by cases h⟩⟩
  | p :: l => by
    obtain ⟨h1, h2⟩ := nWays_pos (f := f) l
    unfold nWays
    by_cases hp : f p = true
    · rw [if_pos hp]
      exact ⟨by omega, fun _ => ⟨p, List.mem_cons_self, hp⟩, fun _ => by omega⟩
    · rw [if_neg hp]
      refine ⟨by omega, fun h => ?_, fun ⟨q, h3, h4⟩ => ?_⟩
      · obtain ⟨q, h3, h4⟩ := h2.mp (by omega)
        exact ⟨q, List.mem_cons_of_mem _ h3, h4⟩
      · rcases List.mem_cons.mp h3 with rfl | h3
        · exact absurd h4 hp
        · have := h2.mpr ⟨q, h3, h4⟩
          omega
def bsM (bd : Int → Int) (q : Int) : Int → Int := fun x => bd (3 * q + x)
theorem nWays_cons (f : Int × Int → Bool) (p : Int × Int) (l : List (Int × Int)) : nWays f (p :: l) = (if f p = true then 1 else 0) + nWays f l := rfl
theorem nWays_nil (f : Int × Int → Bool) : nWays f [] = 0 := rfl
