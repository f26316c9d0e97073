/-! marks laid for the places of all ways -/
section PN1
variable {α : Type} {R : Int × Int × Int → Int → α → Prop} {f : Int × Int × Int → Bool} {W0 L : List (Int × Int × Int)} {S0 S S' : α → Prop} {q : Int × Int × Int} {k : Int}
def GP (R : Int × Int × Int → Int → α → Prop) (f : Int × Int × Int → Bool) (W0 : List (Int × Int × Int)) (S0 S : α → Prop) (L : List (Int × Int × Int)) : Prop :=
  (∀ z, S z → S0 z ∨ ∃ q ∈ W0, f q = true ∧ ∃ k, R q k z) ∧ (∀ z, S0 z → S z) ∧ (∀ q ∈ W0, f q = true → q ∈ L ∨ ∀ k z, R q k z → S z) ∧ ∀ q ∈ L, q ∈ W0
def GK (R : Int × Int × Int → Int → α → Prop) (f : Int × Int × Int → Bool) (W0 : List (Int × Int × Int)) (S0 S : α → Prop) (q : Int × Int × Int) (k : Int) (L : List (Int × Int × Int)) : Prop :=
  (∀ z, S z → S0 z ∨ ∃ q ∈ W0, f q = true ∧ ∃ k, R q k z) ∧ (∀ z, S0 z → S z) ∧ (∀ q' ∈ W0, f q' = true → q' ∈ L ∨ q' = q ∨ ∀ k z, R q' k z → S z) ∧ (∀ k' z, k' < k → R q k' z → S z) ∧ (∀ q' ∈ L, q' ∈ W0) ∧ q ∈ W0 ∧ f q = true
theorem GP.rf : GP R f W0 S0 S0 W0 := ⟨fun _ h => Or.inl h, fun _ h => h, fun _ h _ => Or.inl h, fun _ h => h⟩
theorem GP.drop : DropP f (GP R f W0 S0 S) := by
  intro q L hq h
  obtain ⟨h1, h2, h3, h4⟩ := h
  refine ⟨h1, h2, fun p a b => ?_, fun p a => h4 p (List.mem_cons_of_mem _ a)⟩
  rcases h3 p a b with e | e
  · rcases List.mem_cons.mp e with e | e
    · rw [e, hq] at b
      cases b
    · exact Or.inl e
  · exact Or.inr e
theorem GP.opn (h : GP R f W0 S0 S (q :: L)) (hq : f q = true) (h0 : ∀ k z, R q k z → 0 ≤ k) : GK R f W0 S0 S q 0 L := by
  obtain ⟨h1, h2, h3, h4⟩ := h
  refine ⟨h1, h2, fun p a b => ?_, fun k' z a b => ?_, fun p a => h4 p (List.mem_cons_of_mem _ a), h4 q List.mem_cons_self, hq⟩
  · rcases h3 p a b with e | e
    · rcases List.mem_cons.mp e with e | e
      · exact Or.inr (Or.inl e)
      · exact Or.inl e
    · exact Or.inr (Or.inr e)
  · have := h0 k' z b
    omega
theorem GK.step {T : α → Prop} (h : GK R f W0 S0 S q k L) (hS : ∀ z, S' z ↔ S z ∨ T z) (hT : ∀ z, T z ↔ R q k z) : GK R f W0 S0 S' q (k + 1) L := by
  obtain ⟨h1, h2, h3, h4, h5, h6, h7⟩ := h
  refine ⟨fun z hz => ?_, fun z hz => (hS z).mpr (Or.inl (h2 z hz)), fun p a b => ?_, fun k' z a b => ?_, h5, h6, h7⟩
  · rcases (hS z).mp hz with e | e
    · exact h1 z e
    · exact Or.inr ⟨q, h6, h7, k, (hT z).mp e⟩
  · rcases h3 p a b with e | e | e
    · exact Or.inl e
    · exact Or.inr (Or.inl e)
    · exact Or.inr (Or.inr (fun k z c => (hS z).mpr (Or.inl (e k z c))))
  · by_cases hk : k' = k
    · rw [hk] at b
      exact (hS z).mpr (Or.inr ((hT z).mpr b))
    · exact (hS z).mpr (Or.inl (h4 k' z (by omega) b))
theorem GK.no (h : GK R f W0 S0 S q k L) (hT : ∀ z, ¬ R q k z) : GK R f W0 S0 S q (k + 1) L := h.step (T := fun _ => False) (fun z => ⟨Or.inl, fun e => e.elim id False.elim⟩) (fun z => ⟨False.elim, fun e => hT z e⟩)
theorem GK.close (h : GK R f W0 S0 S q k L) (hk : ∀ k' z, R q k' z → k' < k) : GP R f W0 S0 S L := by
  obtain ⟨h1, h2, h3, h4, h5, h6, h7⟩ := h
  refine ⟨h1, h2, fun p a b => ?_, h5⟩
  rcases h3 p a b with e | e | e
  · exact Or.inl e
  · rw [e]
    exact Or.inr (fun k' z c => h4 k' z (hk k' z c) c)
  · exact Or.inr e
theorem GP.end (h : GP R f W0 S0 S []) (z : α) : S z ↔ S0 z ∨ ∃ q ∈ W0, f q = true ∧ ∃ k, R q k z := by
  obtain ⟨h1, h2, h3, h4⟩ := h
  refine ⟨h1 z, fun e => ?_⟩
  rcases e with e | ⟨q, a, b, k, c⟩
  · exact h2 z e
  · rcases h3 q a b with e | e
    · cases e
    · exact e k z c
end PN1
/-- what nearOf notes for place k of the way q -/
def NB (ln bd : Int → Int) (tr : Int → Int → Int → Int) (i j : Int) (q : Int × Int × Int) (k y : Int) : Prop :=
  (0 ≤ k ∧ k < ln q.1) ∧ bsM bd q.1 k ≤ 4 ∧ ((cutV (ln q.1) q.2.1 q.2.2 k i j = i ∧ cutV (ln q.1) q.2.1 q.2.2 (k + 1) i j = j ∧ y = bsM bd q.1 k) ∨ (¬ (cutV (ln q.1) q.2.1 q.2.2 k i j = i ∧ cutV (ln q.1) q.2.1 q.2.2 (k + 1) i j = j) ∧ nuM tr (bsM bd q.1 k) (cutV (ln q.1) q.2.1 q.2.2 k i j) (cutV (ln q.1) q.2.1 q.2.2 (k + 1) i j) = -1 ∧ y = 30))
def bS (m y : Int) : Prop := 0 ≤ y ∧ bit m y = true
theorem bS_or {m x : Int} (hx : 0 ≤ x) (z : Int) : bS (orI m (p2 x)) z ↔ bS m z ∨ z = x := by
  unfold bS
  by_cases hz : 0 ≤ z
  · rw [bit_or, bit_p2 hx hz, Bool.or_eq_true, decide_eq_true_iff]
    constructor
    · rintro ⟨a, b | b⟩
      · exact Or.inl ⟨a, b⟩
      · exact Or.inr b.symm
    · rintro (⟨a, b⟩ | b)
      · exact ⟨a, Or.inl b⟩
      · exact ⟨hz, Or.inr b.symm⟩
  · constructor
    · rintro ⟨a, -⟩
      exact absurd a hz
    · rintro (⟨a, -⟩ | b)
      · exact absurd a hz
      · omega
/-- the numbers of trees of all columns: -1 for endless -/
def TrR (tr : Int → Int → Int → Int) : Prop := ∀ b a s, 0 ≤ a → a ≤ b → b ≤ 12 → 0 ≤ s → s ≤ 4 → -1 ≤ tr b a s ∧ tr b a s ≤ 1000000000000
/-- what markBelow marks for place k of the way q -/
def MB (ln bd : Int → Int) (i j : Int) (q : Int × Int × Int) (k : Int) (z : Int × Int) : Prop := (0 ≤ k ∧ k < ln q.1) ∧ bsM bd q.1 k ≤ 4 ∧ z = (5 * cutV (ln q.1) q.2.1 q.2.2 (k + 1) i j + bsM bd q.1 k, cutV (ln q.1) q.2.1 q.2.2 k i j)
def mS (mt : Int → Int → Bool) (z : Int × Int) : Prop := mt z.1 z.2 = true
theorem mS_up {mt : Int → Int → Bool} {x y : Int} (z : Int × Int) : mS (upI mt x (upI (mt x) y true)) z ↔ mS mt z ∨ z = (x, y) := by
  unfold mS
  by_cases h1 : z.1 = x
  · rw [h1, upI_self, upI_ap]
    by_cases h2 : z.2 = y
    · rw [if_pos h2]
      exact ⟨fun _ => Or.inr (Prod.ext h1 h2), fun _ => rfl⟩
    · rw [if_neg h2, ← h1]
      exact ⟨Or.inl, fun e => e.elim id (fun e => absurd (congrArg Prod.snd e) h2)⟩
  · rw [upI_ne _ _ h1]
    exact ⟨Or.inl, fun e => e.elim id (fun e => absurd (congrArg Prod.fst e) h1)⟩
