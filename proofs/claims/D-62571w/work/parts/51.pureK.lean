/-! what is near in several steps; the order of counting -/
def Pth (N0 : Int → Int → Prop) : Nat → Int → Int → Prop
  | 0, s, y => N0 s y
  | n + 1, s, y => N0 s y ∨ ∃ t, (0 ≤ t ∧ t ≤ 4) ∧ N0 s t ∧ Pth N0 n t y
def Tra (M : Int → Int → Prop) : Prop := ∀ s t y, (0 ≤ s ∧ s ≤ 4) → (0 ≤ t ∧ t ≤ 4) → M s t → M t y → M s y
section PK1
variable {N0 : Int → Int → Prop}
theorem pth_in {s y : Int} (h : N0 s y) : ∀ n, Pth N0 n s y
  | 0 => h
  | n + 1 => Or.inl h
theorem pth_le : ∀ (n : Nat) (s y : Int), Pth N0 n s y → Pth N0 (n + 1) s y
  | 0, s, y, h => Or.inl h
  | n + 1, s, y, h => by
    rcases h with h | ⟨t, h1, h2, h3⟩
    · exact Or.inl h
    · exact Or.inr ⟨t, h1, h2, pth_le n t y h3⟩
theorem pth_mono {n m : Nat} (h : n ≤ m) {s y : Int} (hp : Pth N0 n s y) : Pth N0 m s y := by
  induction h with
  | refl => exact hp
  | step _ ih => exact pth_le _ _ _ ih
theorem pth_snoc : ∀ (n : Nat) (s u y : Int), (0 ≤ u ∧ u ≤ 4) → Pth N0 n s u → N0 u y → Pth N0 (n + 1) s y
  | 0, s, u, y, hu, h, g => Or.inr ⟨u, hu, h, g⟩
  | n + 1, s, u, y, hu, h, g => by
    rcases h with h | ⟨t, h1, h2, h3⟩
    · exact Or.inr ⟨u, hu, h, pth_in g _⟩
    · exact Or.inr ⟨t, h1, h2, pth_snoc n t u y hu h3 g⟩
theorem pth_r : ∀ (n : Nat) (s y : Int), Pth N0 (n + 1) s y → Pth N0 n s y ∨ ∃ u, (0 ≤ u ∧ u ≤ 4) ∧ Pth N0 n s u ∧ N0 u y
  | 0, s, y, h => by
    rcases h with h | ⟨t, h1, h2, h3⟩
    · exact Or.inl h
    · exact Or.inr ⟨t, h1, h2, h3⟩
  | n + 1, s, y, h => by
    rcases h with h | ⟨t, h1, h2, h3⟩
    · exact Or.inl (pth_in h _)
    · rcases pth_r n t y h3 with h4 | ⟨u, h4, h5, h6⟩
      · exact Or.inl (Or.inr ⟨t, h1, h2, h4⟩)
      · exact Or.inr ⟨u, h4, Or.inr ⟨t, h1, h2, h5⟩, h6⟩
theorem pth_stab {m : Nat} {s : Int} (h : ∀ u, 0 ≤ u → u ≤ 4 → Pth N0 (m + 1) s u → Pth N0 m s u) : ∀ (k : Nat) (y : Int), Pth N0 (m + 1 + k) s y → Pth N0 (m + 1) s y
  | 0, y, g => g
  | k + 1, y, g => by
    rcases pth_r (m + 1 + k) s y g with g | ⟨u, g1, g2, g3⟩
    · exact pth_stab h k y g
    · exact pth_snoc m s u y g1 (h u g1.1 g1.2 (pth_stab h k u g2)) g3
theorem pth_pig (s : Int) : ∃ m : Nat, m ≤ 4 ∧ ∀ u, 0 ≤ u → u ≤ 4 → Pth N0 (m + 1) s u → Pth N0 m s u := by
  haveI : ∀ (n : Nat) (u : Int), Decidable (Pth N0 n s u) := fun n u => Classical.propDecidable _
  have key : ∀ n : Nat, (∃ m : Nat, m ≤ n ∧ ∀ u, 0 ≤ u → u ≤ 4 → Pth N0 (m + 1) s u → Pth N0 m s u) ∨ (n : Int) + 2 ≤ cnt (fun u => decide (Pth N0 (n + 1) s u)) 5 := by
    have strict : ∀ n : Nat, (∀ u, 0 ≤ u → u ≤ 4 → Pth N0 (n + 1) s u → Pth N0 n s u) ∨ cnt (fun u => decide (Pth N0 n s u)) 5 < cnt (fun u => decide (Pth N0 (n + 1) s u)) 5 := by
      intro n
      by_cases h : ∀ u, 0 ≤ u → u ≤ 4 → Pth N0 (n + 1) s u → Pth N0 n s u
      · exact Or.inl h
      · right
        obtain ⟨u, hu⟩ := Classical.not_forall.mp h
        have h1 : 0 ≤ u := Classical.byContradiction fun z => hu fun a => absurd a z
        have h2 : u ≤ 4 := Classical.byContradiction fun z => hu fun _ a => absurd a z
        have h3 : Pth N0 (n + 1) s u := Classical.byContradiction fun z => hu fun _ _ a => absurd a z
        have h4 : ¬ Pth N0 n s u := fun z => hu fun _ _ _ => z
        exact cnt_lt (by omega) (fun j _ _ e => decide_eq_true (pth_le _ _ _ (of_decide_eq_true e))) (c := u) (by omega) (fun e => h4 (of_decide_eq_true e)) (decide_eq_true h3)
    intro n
    induction n with
    | zero =>
      rcases strict 0 with h | h
      · exact Or.inl ⟨0, Nat.le_refl _, h⟩
      · by_cases h0 : 0 < cnt (fun u => decide (Pth N0 0 s u)) 5
        · right
          show (0 : Int) + 2 ≤ _
          omega
        · left
          refine ⟨0, Nat.le_refl _, fun u a b c => ?_⟩
          rcases pth_r 0 s u c with d | ⟨t, d1, d2, d3⟩
          · exact d
          · exfalso
            have : cnt (fun _ => false) 5 < cnt (fun u => decide (Pth N0 0 s u)) 5 := cnt_lt (by omega) (fun j _ _ e => by cases e) (c := t) (by omega) (by decide) (decide_eq_true d2)
            have := cnt_rng (fun _ => false) (show (0 : Int) ≤ 5 by omega)
            omega
    | succ n ih =>
      rcases ih with ⟨m, h1, h2⟩ | ih
      · exact Or.inl ⟨m, Nat.le_succ_of_le h1, h2⟩
      · rcases strict (n + 1) with h | h
        · exact Or.inl ⟨n + 1, Nat.le_refl _, h⟩
        · right
          show ((n + 1 : Nat) : Int) + 2 ≤ _
          omega
  rcases key 4 with h | h
  · exact h
  · have := cnt_rng (fun u => decide (Pth N0 (4 + 1) s u)) (show (0 : Int) ≤ 5 by omega)
    have h9 : ((4 : Nat) : Int) = 4 := rfl
    omega
theorem pth_5 {n : Nat} {s y : Int} (h : Pth N0 n s y) : Pth N0 5 s y := by
  by_cases hn : n ≤ 5
  · exact pth_mono hn h
  · obtain ⟨m, h1, h2⟩ := pth_pig (N0 := N0) s
    have : n = m + 1 + (n - (m + 1)) := by omega
    rw [this] at h
    exact pth_mono (by omega) (pth_stab h2 _ y h)
theorem pth_app : ∀ (n m : Nat) (s t y : Int), (0 ≤ t ∧ t ≤ 4) → Pth N0 n s t → Pth N0 m t y → Pth N0 (n + m + 1) s y
  | 0, m, s, t, y, ht, h, g => by
    rw [Nat.zero_add]
    exact Or.inr ⟨t, ht, h, g⟩
  | n + 1, m, s, t, y, ht, h, g => by
    rcases h with h | ⟨u, h1, h2, h3⟩
    · exact pth_mono (n := m + 1) (by omega) (Or.inr ⟨t, ht, h, g⟩)
    · rw [show n + 1 + m + 1 = (n + m + 1) + 1 by omega]
      exact Or.inr ⟨u, h1, h2, pth_app n m u t y ht h3 g⟩
theorem pth_tra : Tra (Pth N0 5) := fun s t y _ ht h g => pth_5 (pth_app 5 5 s t y ht h g)
end PK1
theorem bS_or2 (a b z : Int) : bS (orI a b) z ↔ bS a z ∨ bS b z := by
  unfold bS
  rw [bit_or, Bool.or_eq_true]
  constructor
  · rintro ⟨h, e | e⟩
    · exact Or.inl ⟨h, e⟩
    · exact Or.inr ⟨h, e⟩
  · rintro (⟨h, e⟩ | ⟨h, e⟩)
    · exact ⟨h, Or.inl e⟩
    · exact ⟨h, Or.inr e⟩
theorem bS_0 (z : Int) : ¬ bS 0 z := by
  unfold bS
  rw [bit_0]
  simp
/-- while grow's loops over near go -/
def KI (N0 : Int → Int → Prop) (n : Nat) (s t : Int) (ne : Int → Int) : Prop :=
  (∀ x, 0 ≤ x → x ≤ 4 → 0 ≤ ne x ∧ ne x ≤ 2147483647) ∧ (∀ M : Int → Int → Prop, (∀ x y, (0 ≤ x ∧ x ≤ 4) → N0 x y → M x y) → Tra M → ∀ x y, (0 ≤ x ∧ x ≤ 4) → bS (ne x) y → M x y) ∧
  (∀ x y, (0 ≤ x ∧ x ≤ 4) → Pth N0 n x y → bS (ne x) y) ∧ (∀ x y, 0 ≤ x → x < s → Pth N0 (n + 1) x y → bS (ne x) y) ∧ ∀ t' y, 0 ≤ t' → t' < t → N0 s t' → Pth N0 n t' y → bS (ne s) y
section PK2
variable {N0 : Int → Int → Prop} {n : Nat} {s t : Int} {ne : Int → Int}
theorem ki_0 (hr : ∀ x, 0 ≤ x → x ≤ 4 → 0 ≤ ne x ∧ ne x ≤ 2147483647) (h : ∀ x, 0 ≤ x → x ≤ 4 → ∀ y, bS (ne x) y ↔ N0 x y) : KI N0 0 0 0 ne :=
  ⟨hr, fun M a _ x y hx b => a x y hx ((h x hx.1 hx.2 y).mp b), fun x y hx b => (h x hx.1 hx.2 y).mpr b, fun x y a b => by omega, fun t' y a b => by omega⟩
theorem ki_step (h : KI N0 n s t ne) (hs : 0 ≤ s ∧ s ≤ 4) (ht : 0 ≤ t ∧ t ≤ 4) {x : Int} (hx : x = if bit (ne s) t = true then ne t else 0) : KI N0 n s (t + 1) (upI ne s (orI (ne s) x)) := by
  obtain ⟨h1, h2, h3, h4, h5⟩ := h
  have hxr : 0 ≤ x ∧ x ≤ 2147483647 := by
    rw [hx]
    split
    · exact h1 t ht.1 ht.2
    · omega
  have up : ∀ z y, bS (ne z) y → bS (upI ne s (orI (ne s) x) z) y := by
    intro z y e
    rw [upI_ap]
    split
    · rename_i ez
      rw [ez] at e
      exact (bS_or2 _ _ _).mpr (Or.inl e)
    · exact e
  refine ⟨fun z a b => ?_, fun M m1 m2 z y hz e => ?_, fun z y hz e => up z y (h3 z y hz e), fun z y a b e => up z y (h4 z y a b e), fun t' y a b e g => ?_⟩
  · rw [upI_ap]
    split
    · exact orI_rng (h1 s hs.1 hs.2) hxr
    · exact h1 z a b
  · rw [upI_ap] at e
    split at e
    · rename_i ez
      rw [ez]
      rcases (bS_or2 _ _ _).mp e with e | e
      · exact h2 M m1 m2 s y hs e
      · rw [hx] at e
        split at e
        · rename_i hb
          exact m2 s t y hs ht (h2 M m1 m2 s t hs ⟨ht.1, hb⟩) (h2 M m1 m2 t y ht e)
        · exact absurd e (bS_0 y)
    · exact h2 M m1 m2 z y hz e
  · by_cases htt : t' = t
    · rw [htt] at e g
      have hb : bit (ne s) t = true := (h3 s t hs (pth_in e n)).2
      rw [upI_self]
      refine (bS_or2 _ _ _).mpr (Or.inr ?_)
      rw [hx, if_pos hb]
      exact h3 t y ht g
    · exact up s y (h5 t' y a (by omega) e g)
theorem ki_t (h : KI N0 n s t ne) (hs : 0 ≤ s ∧ s ≤ 4) (ht : t = 5) : KI N0 n (s + 1) 0 ne := by
  obtain ⟨h1, h2, h3, h4, h5⟩ := h
  refine ⟨h1, h2, h3, fun x y a b e => ?_, fun t' y a b => by omega⟩
  by_cases hx : x = s
  · rw [hx] at e ⊢
    rcases e with e | ⟨t', e1, e2, e3⟩
    · exact h3 s y hs (pth_in e n)
    · exact h5 t' y e1.1 (by omega) e2 e3
  · exact h4 x y a (by omega) e
theorem ki_s (h : KI N0 n s t ne) (hs : s = 5) : KI N0 (n + 1) 0 0 ne := by
  obtain ⟨h1, h2, h3, h4, h5⟩ := h
  exact ⟨h1, h2, fun x y hx e => h4 x y hx.1 (by omega) e, fun x y a b => by omega, fun t' y a b => by omega⟩
/-- what the closed near says -/
def NRs (N0 : Int → Int → Prop) (ne : Int → Int) : Prop := (∀ x, 0 ≤ x → x ≤ 4 → 0 ≤ ne x ∧ ne x ≤ 2147483647) ∧ (∀ x y, (0 ≤ x ∧ x ≤ 4) → N0 x y → bS (ne x) y) ∧ Tra (fun x y => bS (ne x) y) ∧ (∀ x y, (0 ≤ x ∧ x ≤ 4) → bS (ne x) y → N0 x y ∨ ∃ t, (0 ≤ t ∧ t ≤ 4) ∧ N0 x t ∧ bS (ne t) y) ∧ ∀ x y, (0 ≤ x ∧ x ≤ 4) → bS (ne x) y → y ≤ 4 ∨ y = 30
theorem ki_end (h : KI N0 5 0 0 ne) (hb : ∀ x y, (0 ≤ x ∧ x ≤ 4) → N0 x y → y ≤ 4 ∨ y = 30) : NRs N0 ne := by
  obtain ⟨h1, h2, h3, -, -⟩ := h
  have e : ∀ x y, (0 ≤ x ∧ x ≤ 4) → bS (ne x) y → Pth N0 5 x y := h2 (Pth N0 5) (fun x y _ g => pth_in g 5) pth_tra
  refine ⟨h1, fun x y hx g => h3 x y hx (pth_in g 5), fun s t y hs ht a b => h3 s y hs (pth_tra s t y hs ht (e s t hs a) (e t y ht b)), fun x y hx g => ?_, fun x y hx g => ?_⟩
  · rcases e x y hx g with g | ⟨t, g1, g2, g3⟩
    · exact Or.inl g
    · exact Or.inr ⟨t, g1, g2, h3 t y g1 (pth_le 4 t y g3)⟩
  · have hM : Tra (fun x y => y ≤ 4 ∨ y = 30) := fun s t y _ _ _ b => b
    exact h2 (fun x y => y ≤ 4 ∨ y = 30) hb hM x y hx g
end PK2
