/-! folds over 0 .. k-1, counting, the grammar, items -/
def foldN {α : Type} (f : α → Int → α) (a : α) : Nat → α
  | 0 => a
  | n + 1 => f (foldN f a n) (n : Int)
def foldI {α : Type} (f : α → Int → α) (a : α) (k : Int) : α := foldN f a k.toNat
theorem foldI_0 {α : Type} (f : α → Int → α) (a : α) : foldI f a 0 = a := rfl
theorem foldI_s {α : Type} (f : α → Int → α) (a : α) {k : Int} (h : 0 ≤ k) : foldI f a (k + 1) = f (foldI f a k) k := by
  obtain ⟨n, rfl⟩ := Int.eq_ofNat_of_zero_le h
  unfold foldI
  rw [show ((n : Int) + 1).toNat = n + 1 by omega, show (n : Int).toNat = n by omega]
  rfl
def cnt (P : Int → Bool) (k : Int) : Int := foldI (fun a j => if P j = true then a + 1 else a) 0 k
def fnd (P : Int → Bool) (k : Int) : Int := foldI (fun a j => if P j = true then j else a) 0 k
theorem cnt_0 (P : Int → Bool) : cnt P 0 = 0 := rfl
theorem fnd_0 (P : Int → Bool) : fnd P 0 = 0 := rfl
theorem cnt_s (P : Int → Bool) {k : Int} (h : 0 ≤ k) : cnt P (k + 1) = if P k = true then cnt P k + 1 else cnt P k := foldI_s _ _ h
theorem fnd_s (P : Int → Bool) {k : Int} (h : 0 ≤ k) : fnd P (k + 1) = if P k = true then k else fnd P k := foldI_s _ _ h
/-- induction over 0 ≤ k -/
theorem int_ind {Q : Int → Prop} (h0 : Q 0) (hs : ∀ k, 0 ≤ k → Q k → Q (k + 1)) : ∀ k, 0 ≤ k → Q k := by
  intro k hk
  obtain ⟨n, rfl⟩ := Int.eq_ofNat_of_zero_le hk
  clear hk
  induction n with
  | zero => exact h0
  | succ n ih => exact hs n (by omega) ih
theorem cnt_rng (P : Int → Bool) {k : Int} (h : 0 ≤ k) : 0 ≤ cnt P k ∧ cnt P k ≤ k := by
  refine int_ind (Q := fun k => 0 ≤ cnt P k ∧ cnt P k ≤ k) ⟨by rw [cnt_0]; omega, by rw [cnt_0]; omega⟩ ?_ k h
  intro k hk ih
  rw [cnt_s P hk]
  split <;> omega
theorem fnd_rng (P : Int → Bool) {k : Int} (h : 0 ≤ k) : 0 ≤ fnd P k ∧ (fnd P k < k ∨ fnd P k = 0) := by
  refine int_ind (Q := fun k => 0 ≤ fnd P k ∧ (fnd P k < k ∨ fnd P k = 0)) ⟨by rw [fnd_0]; omega, by rw [fnd_0]; omega⟩ ?_ k h
  intro k hk ih
  rw [fnd_s P hk]
  split <;> omega
theorem cnt_congr {P Q : Int → Bool} {k : Int} (h : 0 ≤ k) (hPQ : ∀ j, 0 ≤ j → j < k → P j = Q j) : cnt P k = cnt Q k := by
  revert hPQ
  refine int_ind (Q := fun k => (∀ j, 0 ≤ j → j < k → P j = Q j) → cnt P k = cnt Q k) (fun _ => rfl) ?_ k h
  intro k hk ih hPQ
  rw [cnt_s P hk, cnt_s Q hk, ih (fun j h1 h2 => hPQ j h1 (by omega)), hPQ k hk (by omega)]
theorem fnd_congr {P Q : Int → Bool} {k : Int} (h : 0 ≤ k) (hPQ : ∀ j, 0 ≤ j → j < k → P j = Q j) : fnd P k = fnd Q k := by
  revert hPQ
  refine int_ind (Q := fun k => (∀ j, 0 ≤ j → j < k → P j = Q j) → fnd P k = fnd Q k) (fun _ => rfl) ?_ k h
  intro k hk ih hPQ
  rw [fnd_s P hk, fnd_s Q hk, ih (fun j h1 h2 => hPQ j h1 (by omega)), hPQ k hk (by omega)]
theorem cnt_le {P Q : Int → Bool} {k : Int} (h : 0 ≤ k) (hPQ : ∀ j, 0 ≤ j → j < k → P j = true → Q j = true) : cnt P k ≤ cnt Q k := by
  revert hPQ
  refine int_ind (Q := fun k => (∀ j, 0 ≤ j → j < k → P j = true → Q j = true) → cnt P k ≤ cnt Q k) (fun _ => by rw [cnt_0, cnt_0]; omega) ?_ k h
  intro k hk ih hPQ
  have := ih (fun j h1 h2 => hPQ j h1 (by omega))
  rw [cnt_s P hk, cnt_s Q hk]
  by_cases hp : P k = true
  · rw [if_pos hp, if_pos (hPQ k hk (by omega) hp)]
    omega
  · rw [if_neg hp]
    split <;> omega
theorem cnt_lt {P Q : Int → Bool} {k : Int} (h : 0 ≤ k) (hPQ : ∀ j, 0 ≤ j → j < k → P j = true → Q j = true) {c : Int} (hc : 0 ≤ c ∧ c < k) (hp : ¬ P c = true) (hq : Q c = true) : cnt P k < cnt Q k := by
  revert hPQ hc
  refine int_ind (Q := fun k => (∀ j, 0 ≤ j → j < k → P j = true → Q j = true) → 0 ≤ c ∧ c < k → cnt P k < cnt Q k) (fun _ h => by omega) ?_ k h
  intro k hk ih hPQ hc
  rw [cnt_s P hk, cnt_s Q hk]
  by_cases hck : c = k
  · subst hck
    have := cnt_le hk (fun j h1 h2 => hPQ j h1 (by omega))
    rw [if_neg hp, if_pos hq]
    omega
  · have := ih (fun j h1 h2 => hPQ j h1 (by omega)) (by omega)
    by_cases hp2 : P k = true
    · rw [if_pos hp2, if_pos (hPQ k hk (by omega) hp2)]
      omega
    · rw [if_neg hp2]
      split <;> omega
/-- all of a count: the count is k only if all hold -/
theorem cnt_ex {P : Int → Bool} {k : Int} (h : 0 ≤ k) (hc : 0 < cnt P k) : ∃ j, 0 ≤ j ∧ j < k ∧ P j = true := by
  revert hc
  refine int_ind (Q := fun k => 0 < cnt P k → ∃ j, 0 ≤ j ∧ j < k ∧ P j = true) (fun h => by rw [cnt_0] at h; omega) ?_ k h
  intro k hk ih hc
  rw [cnt_s P hk] at hc
  by_cases hp : P k = true
  · exact ⟨k, hk, by omega, hp⟩
  · rw [if_neg hp] at hc
    obtain ⟨j, h1, h2, h3⟩ := ih hc
    exact ⟨j, h1, by omega, h3⟩
theorem fnd_of {P : Int → Bool} {k : Int} (h : 0 ≤ k) (hc : 0 < cnt P k) : P (fnd P k) = true ∧ 0 ≤ fnd P k ∧ fnd P k < k := by
  revert hc
  refine int_ind (Q := fun k => 0 < cnt P k → P (fnd P k) = true ∧ 0 ≤ fnd P k ∧ fnd P k < k) (fun h => by rw [cnt_0] at h; omega) ?_ k h
  intro k hk ih hc
  rw [cnt_s P hk] at hc
  rw [fnd_s P hk]
  by_cases hp : P k = true
  · rw [if_pos hp]
    exact ⟨hp, hk, by omega⟩
  · rw [if_neg hp] at hc ⊢
    obtain ⟨h1, h2, h3⟩ := ih hc
    exact ⟨h1, h2, by omega⟩
theorem cnt_none {P : Int → Bool} {k : Int} (h : 0 ≤ k) (hp : ∀ j, 0 ≤ j → j < k → ¬ P j = true) : cnt P k = 0 := by
  by_cases hc : 0 < cnt P k
  · obtain ⟨j, h1, h2, h3⟩ := cnt_ex h hc
    exact absurd h3 (hp j h1 h2)
  · have := cnt_rng P h
    omega
/-- the grammar as the reference keeps it -/
def gOK (nr : Int) (lf ln bd : Int → Int) : Prop := (0 ≤ nr ∧ nr ≤ 10) ∧ (∀ q, 0 ≤ q → q < 10 → 0 ≤ lf q ∧ lf q ≤ 4) ∧ (∀ q, 0 ≤ q → q < 10 → 0 ≤ ln q ∧ ln q ≤ 3) ∧ (∀ j, 0 ≤ j → j < 30 → 0 ≤ bd j ∧ bd j ≤ 11) ∧ ∀ q k, 0 ≤ q → q < nr → 0 ≤ k → k < ln q → bd (3 * q + k) ≤ 4 ∨ 8 ≤ bd (3 * q + k)
theorem gOK.len {nr : Int} {lf ln bd : Int → Int} (h : gOK nr lf ln bd) {q : Int} (hq : -1 ≤ q ∧ q < 10) : 0 ≤ lenOf ln q ∧ lenOf ln q ≤ 3 := by
  unfold lenOf
  split
  · omega
  · exact h.2.2.1 q (by omega) (by omega)
theorem gOK.bh {nr : Int} {lf ln bd : Int → Int} (h : gOK nr lf ln bd) {q d : Int} (hq : -1 ≤ q ∧ q < 10) (hd : 0 ≤ d ∧ d ≤ 3) : -1 ≤ bhM ln bd q d ∧ bhM ln bd q d ≤ 11 := by
  have hl := h.len hq
  unfold bhM
  split
  · omega
  · split
    · omega
    · have := h.2.2.2.1 (3 * q + d) (by omega) (by omega)
      omega
/-- what is behind the dot of the item with the code c -/
def bc (ln bd : Int → Int) (c : Int) : Int := bhM ln bd (c / 52 - 1) (c % 52 / 13)
theorem gOK.bc {nr : Int} {lf ln bd : Int → Int} (h : gOK nr lf ln bd) {c : Int} (hc : 0 ≤ c ∧ c < 572) : -1 ≤ bc ln bd c ∧ bc ln bd c ≤ 11 := h.bh (by omega) (by omega)
theorem bc_dot {ln bd : Int → Int} {c : Int} (h : ¬ bc ln bd c = -1) : c % 52 / 13 < lenOf ln (c / 52 - 1) := by
  unfold bc bhM at h
  by_cases hl : lenOf ln (c / 52 - 1) ≤ c % 52 / 13
  · rw [if_pos hl] at h
    exact absurd rfl h
  · omega
/-- the leap of a set for a symbol -/
def lpW (it : Int → Bool) (ln bd : Int → Int) (s x : Int) : Int → Bool := fun k => it (572 * s + k) && decide (bc ln bd k = x)
def lpC (it : Int → Bool) (ln bd : Int → Int) (s x : Int) : Int := fnd (lpW it ln bd s x) 572
def lpN (it : Int → Bool) (lf ln bd : Int → Int) (s : Nat) (x named : Int) : Int :=
  if cnt (lpW it ln bd s x) 572 ≠ 1 ∨ lpC it ln bd s x % 52 / 13 + 1 ≠ lenOf ln (lpC it ln bd s x / 52 - 1) then named
  else if lpC it ln bd s x % 13 < s ∧ 0 ≤ lpC it ln bd s x / 52 - 1 then lpN it lf ln bd (lpC it ln bd s x % 13).toNat (lf (lpC it ln bd s x / 52 - 1)) (lpC it ln bd s x + 13)
  else lpC it ln bd s x + 13
termination_by s
decreasing_by omega
theorem lpN_eq (it : Int → Bool) (lf ln bd : Int → Int) (s : Nat) (x named : Int) : lpN it lf ln bd s x named = if cnt (lpW it ln bd s x) 572 ≠ 1 ∨ lpC it ln bd s x % 52 / 13 + 1 ≠ lenOf ln (lpC it ln bd s x / 52 - 1) then named
  else if lpC it ln bd s x % 13 < s ∧ 0 ≤ lpC it ln bd s x / 52 - 1 then lpN it lf ln bd (lpC it ln bd s x % 13).toNat (lf (lpC it ln bd s x / 52 - 1)) (lpC it ln bd s x + 13)
  else lpC it ln bd s x + 13 := by rw [lpN]
theorem lpN_rng {it : Int → Bool} {nr : Int} {lf ln bd : Int → Int} (hg : gOK nr lf ln bd) : ∀ (s : Nat) (x named : Int), -1 ≤ named ∧ named < 572 → -1 ≤ lpN it lf ln bd s x named ∧ lpN it lf ln bd s x named < 572 := by
  intro s
  induction s using Nat.strongRecOn with
  | _ s ih =>
    intro x named hn
    rw [lpN_eq it lf ln bd s x named]
    have hf := fnd_rng (lpW it ln bd s x) (show (0 : Int) ≤ 572 by omega)
    have hC : lpC it ln bd s x = fnd (lpW it ln bd s x) 572 := rfl
    have hl := hg.len (q := lpC it ln bd s x / 52 - 1) (by omega)
    split
    · exact hn
    · split
      · exact ih _ (by omega) _ _ (by omega)
      · omega
theorem lpN_congr {it it' : Int → Bool} {lf ln bd : Int → Int} : ∀ (s : Nat) (x named : Int), (∀ p, p < 572 * (s : Int) + 572 → it p = it' p) → lpN it lf ln bd s x named = lpN it' lf ln bd s x named := by
  intro s
  induction s using Nat.strongRecOn with
  | _ s ih =>
    intro x named h
    have e : ∀ j : Int, 0 ≤ j → j < 572 → lpW it ln bd s x j = lpW it' ln bd s x j := fun j h1 h2 => by unfold lpW; rw [h _ (by omega)]
    have e1 : cnt (lpW it ln bd s x) 572 = cnt (lpW it' ln bd s x) 572 := cnt_congr (by omega) e
    have e2 : lpC it ln bd s x = lpC it' ln bd s x := fnd_congr (by omega) e
    rw [lpN_eq it lf ln bd s x named, lpN_eq it' lf ln bd s x named, e1, e2]
    split
    · rfl
    · split
      · rename_i h8 h9
        exact ih _ (by omega) _ _ (fun p hp => h p (by omega))
      · rfl
/-- what follows from the item c in the set i -/
def stp (lp : Bool) (nr : Int) (lf ln bd : Int → Int) (it : Int → Bool) (i c d : Int) : Prop :=
  (ntB (bc ln bd c) = true ∧ ∃ q, 0 ≤ q ∧ q < nr ∧ lf q = bc ln bd c ∧ d = 52 * (q + 1) + i) ∨
  (bc ln bd c = -1 ∧ 0 ≤ c / 52 - 1 ∧
    ((lp = true ∧ c % 13 < i ∧ 0 ≤ lpN it lf ln bd (c % 13).toNat (lf (c / 52 - 1)) (-1) ∧ d = lpN it lf ln bd (c % 13).toNat (lf (c / 52 - 1)) (-1)) ∨
     (¬ (lp = true ∧ c % 13 < i ∧ 0 ≤ lpN it lf ln bd (c % 13).toNat (lf (c / 52 - 1)) (-1)) ∧ ∃ k, 0 ≤ k ∧ k < 572 ∧ it (572 * (c % 13) + k) = true ∧ bc ln bd k = lf (c / 52 - 1) ∧ d = k + 13)))
def Cl (lp : Bool) (nr : Int) (lf ln bd : Int → Int) (i : Int) (T : Int → Bool) : Prop := ∀ c d, 0 ≤ c → c < 572 → T (572 * i + c) = true → stp lp nr lf ln bd T i c d → T (572 * i + d) = true
def cntR (i : Int) (it : Int → Bool) : Int := cnt (fun c => it (572 * i + c)) 572
/-- it has grown out of it0 within the set i, by n items -/
def Ext (i : Int) (it0 it : Int → Bool) (n : Int) : Prop := (∀ p, it0 p = true → it p = true) ∧ (∀ p, ¬ (572 * i ≤ p ∧ p < 572 * i + 572) → it p = it0 p) ∧ 0 ≤ n ∧ (n = 0 → it = it0) ∧ (0 < n → cntR i it0 < cntR i it)
/-- nothing that need not come has come -/
def Snd (lp : Bool) (nr : Int) (lf ln bd : Int → Int) (i : Int) (it0 it : Int → Bool) : Prop := ∀ T : Int → Bool, (∀ p, it0 p = true → T p = true) → (∀ p, ¬ (572 * i ≤ p ∧ p < 572 * i + 572) → T p = it0 p) → Cl lp nr lf ln bd i T → ∀ p, it p = true → T p = true
theorem Ext.rf {i : Int} {it : Int → Bool} : Ext i it it 0 := ⟨fun _ h => h, fun _ _ => rfl, by omega, fun _ => rfl, fun h => by omega⟩
theorem Snd.rf {lp : Bool} {nr : Int} {lf ln bd : Int → Int} {i : Int} {it : Int → Bool} : Snd lp nr lf ln bd i it it := fun _ h _ _ => h
theorem cntR_up {i p : Int} {it : Int → Bool} (hp : 572 * i ≤ p ∧ p < 572 * i + 572) (h : ¬ it p = true) : cntR i it < cntR i (upI it p true) := by
  refine cnt_lt (by omega) (fun j h1 h2 h3 => ?_) (c := p - 572 * i) (by omega) ?_ ?_
  · show upI it p true _ = true
    unfold upI
    split
    · rfl
    · exact h3
  · show ¬ it (572 * i + (p - 572 * i)) = true
    rw [show 572 * i + (p - 572 * i) = p by omega]
    exact h
  · show upI it p true (572 * i + (p - 572 * i)) = true
    rw [show 572 * i + (p - 572 * i) = p by omega]
    exact upI_self _ _ _
theorem cntR_le {i : Int} {it it' : Int → Bool} (h : ∀ p, it p = true → it' p = true) : cntR i it ≤ cntR i it' := cnt_le (by omega) (fun _ _ _ h3 => h _ h3)
theorem cntR_rng {i : Int} {it : Int → Bool} : 0 ≤ cntR i it ∧ cntR i it ≤ 572 := cnt_rng _ (by omega)
theorem Ext.add {i p n : Int} {it0 it : Int → Bool} (h : Ext i it0 it n) (hp : 572 * i ≤ p ∧ p < 572 * i + 572) : Ext i it0 (upI it p true) (n + if it p = true then 0 else 1) := by
  obtain ⟨h1, h2, h3, h4, h5⟩ := h
  by_cases hi : it p = true
  · rw [if_pos hi, upI_id hi, Int.add_zero]
    exact ⟨h1, h2, h3, h4, h5⟩
  · rw [if_neg hi]
    refine ⟨fun q hq => ?_, fun q hq => ?_, by omega, fun h => by omega, fun _ => ?_⟩
    · unfold upI
      split
      · rfl
      · exact h1 q hq
    · rw [upI_ne _ _ (fun e => hq (by omega))]
      exact h2 q hq
    · have := cntR_up hp hi
      have := cntR_le (i := i) h1
      omega
theorem Ext.trans {i n m : Int} {it0 it1 it2 : Int → Bool} (h : Ext i it0 it1 n) (g : Ext i it1 it2 m) : Ext i it0 it2 (n + m) := by
  obtain ⟨h1, h2, h3, h4, h5⟩ := h
  obtain ⟨g1, g2, g3, g4, g5⟩ := g
  refine ⟨fun p hp => g1 p (h1 p hp), fun p hp => (g2 p hp).trans (h2 p hp), by omega, fun e => ?_, fun e => ?_⟩
  · rw [g4 (by omega), h4 (by omega)]
  · by_cases hn : 0 < n
    · have := h5 hn
      have := cntR_le (i := i) g1
      omega
    · have := g5 (by omega)
      rw [h4 (by omega)] at this
      exact this
theorem Snd.add {lp : Bool} {nr : Int} {lf ln bd : Int → Int} {i p : Int} {it0 it : Int → Bool} (h : Snd lp nr lf ln bd i it0 it) (hp : ∀ T : Int → Bool, (∀ p, it0 p = true → T p = true) → (∀ p, ¬ (572 * i ≤ p ∧ p < 572 * i + 572) → T p = it0 p) → Cl lp nr lf ln bd i T → (∀ p, it p = true → T p = true) → T p = true) : Snd lp nr lf ln bd i it0 (upI it p true) := by
  intro T h1 h2 h3 q hq
  have hT := h T h1 h2 h3
  unfold upI at hq
  split at hq
  · rename_i e
    rw [e]
    exact hp T h1 h2 h3 hT
  · exact hT q hq
theorem Snd.trans {lp : Bool} {nr : Int} {lf ln bd : Int → Int} {i : Int} {it0 it1 it2 : Int → Bool} (h : Snd lp nr lf ln bd i it0 it1) (h2 : ∀ p, ¬ (572 * i ≤ p ∧ p < 572 * i + 572) → it1 p = it0 p) (g : Snd lp nr lf ln bd i it1 it2) : Snd lp nr lf ln bd i it0 it2 :=
  fun T a1 a2 a3 => g T (h T a1 a2 a3) (fun p hp => (a2 p hp).trans (h2 p hp).symm) a3
