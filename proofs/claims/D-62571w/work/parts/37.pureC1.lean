/-! the component's sets in words -/
def SetR (it : Int → Int) (my : Int) (th : Int → Bool) : Prop := (0 ≤ my ∧ my = cnt th 572) ∧ (∀ j, 0 ≤ j → j < my → (0 ≤ it j ∧ it j < 572) ∧ th (it j) = true) ∧ (∀ c, th c = true → ∃ j, 0 ≤ j ∧ j < my ∧ it j = c) ∧ ∀ j j', 0 ≤ j → j < my → 0 ≤ j' → j' < my → it j = it j' → j = j'
theorem SetR.rng {it : Int → Int} {my : Int} {th : Int → Bool} (h : SetR it my th) : 0 ≤ my ∧ my ≤ 572 := by
  have := cnt_rng th (show (0 : Int) ≤ 572 by omega)
  have := h.1
  omega
theorem SetR.code {it : Int → Int} {my : Int} {th : Int → Bool} (h : SetR it my th) {c : Int} (hc : th c = true) : 0 ≤ c ∧ c < 572 := by
  obtain ⟨j, h1, h2, h3⟩ := h.2.2.1 c hc
  rw [← h3]
  exact (h.2.1 j h1 h2).1
theorem cnt_up1 {P : Int → Bool} {c : Int} : ∀ k, 0 ≤ k → (0 ≤ c ∧ ¬ P c = true) → cnt (upI P c true) k = cnt P k + if c < k then 1 else 0 := by
  intro k hk hc
  refine int_ind (Q := fun k => cnt (upI P c true) k = cnt P k + if c < k then 1 else 0) ?_ ?_ k hk
  · rw [cnt_0, cnt_0, if_neg (by omega)]
    rfl
  · intro k hk ih
    rw [cnt_s _ hk, cnt_s _ hk, ih]
    by_cases hck : k = c
    · subst hck
      rw [upI_self, if_pos rfl, if_neg hc.2, if_neg (by omega), if_pos (by omega)]
      omega
    · rw [upI_ne _ _ hck]
      by_cases h2 : c < k
      · rw [if_pos h2, if_pos (show c < k + 1 by omega)]
        split <;> omega
      · rw [if_neg h2, if_neg (show ¬ c < k + 1 by omega)]
        split <;> omega
theorem SetR.add {it : Int → Int} {my : Int} {th : Int → Bool} (h : SetR it my th) {c : Int} (hc : 0 ≤ c ∧ c < 572) (hn : th c = false) : SetR (upI it my c) (my + 1) (upI th c true) ∧ my < 572 := by
  have hn' : ¬ th c = true := by rw [hn]; decide
  have e := cnt_up1 (P := th) (c := c) 572 (by omega) ⟨hc.1, hn'⟩
  rw [if_pos hc.2] at e
  have hr := cnt_rng (upI th c true) (show (0 : Int) ≤ 572 by omega)
  obtain ⟨⟨h0, h1⟩, h2, h3, h4⟩ := h
  have hold : ∀ j, 0 ≤ j → j < my → it j ≠ c := fun j a1 a2 a3 => hn' (by rw [← a3]; exact (h2 j a1 a2).2)
  refine ⟨⟨⟨by omega, by omega⟩, fun j a1 a2 => ?_, fun d hd => ?_, fun j j' a1 a2 b1 b2 hjj => ?_⟩, by omega⟩
  · by_cases hj : j = my
    · rw [hj, upI_self, upI_self]
      exact ⟨hc, rfl⟩
    · rw [upI_ne _ _ hj, upI_ne _ _ (hold j a1 (by omega))]
      exact h2 j a1 (by omega)
  · by_cases hdc : d = c
    · exact ⟨my, h0, by omega, by rw [upI_self, hdc]⟩
    · rw [upI_ne _ _ hdc] at hd
      obtain ⟨j, a1, a2, a3⟩ := h3 d hd
      exact ⟨j, a1, by omega, by rw [upI_ne _ _ (by omega)]; exact a3⟩
  · by_cases hj : j = my
    · by_cases hj' : j' = my
      · omega
      · rw [hj, upI_self, upI_ne _ _ hj'] at hjj
        exact absurd hjj.symm (hold j' b1 (by omega))
    · by_cases hj' : j' = my
      · rw [hj', upI_self, upI_ne _ _ hj] at hjj
        exact absurd hjj (hold j a1 (by omega))
      · rw [upI_ne _ _ hj, upI_ne _ _ hj'] at hjj
        exact h4 j j' a1 (by omega) b1 (by omega) hjj
theorem SetR.nil {it : Int → Int} : SetR it 0 (fun _ => false) := ⟨⟨by omega, (cnt_none (by omega) (fun j _ _ h => by cases h)).symm⟩, fun j a1 a2 => by omega, (fun c h => by cases h), fun j j' a1 a2 => by omega⟩
theorem clw_9 {it : Int → Int} {my : Int} {th : Int → Bool} (h : SetR it my th) : clw th 9 = fun _ => false := by
  funext c
  unfold clw
  by_cases hc : 0 ≤ c ∧ c < 64 * 9
  · exact if_pos hc
  · rw [if_neg hc]
    cases ht : th c with
    | false => rfl
    | true =>
      have := h.code ht
      omega
def SO (it : Int → Int → Int) (th : Int → Int → Bool) (my : Int → Int) : Prop := ∀ k, 0 ≤ k → k < 13 → SetR (it k) (my k) (th k)
/-- the set a has grown -/
def Gro (a : Int) (it : Int → Int → Int) (th : Int → Int → Bool) (my : Int → Int) (it' : Int → Int → Int) (th' : Int → Int → Bool) (my' : Int → Int) : Prop :=
  (∀ k, k ≠ a → it' k = it k ∧ my' k = my k ∧ th' k = th k) ∧ (∀ j, 0 ≤ j → j < my a → it' a j = it a j) ∧ my a ≤ my' a ∧ (∀ c, th a c = true → th' a c = true) ∧ SO it' th' my'
section PC1
variable {a k c : Int} {it it1 it2 : Int → Int → Int} {th th1 th2 : Int → Int → Bool} {my my1 my2 : Int → Int}
theorem Gro.rf (h : SO it th my) : Gro a it th my it th my := ⟨fun _ _ => ⟨rfl, rfl, rfl⟩, fun _ _ _ => rfl, Int.le_refl _, fun _ h => h, h⟩
theorem Gro.trans (h : Gro a it th my it1 th1 my1) (g : Gro a it1 th1 my1 it2 th2 my2) : Gro a it th my it2 th2 my2 := by
  obtain ⟨h1, h2, h3, h4, h5⟩ := h
  obtain ⟨g1, g2, g3, g4, g5⟩ := g
  refine ⟨fun k hk => ?_, fun j a1 a2 => (g2 j a1 (by omega)).trans (h2 j a1 a2), by omega, fun c hc => g4 c (h4 c hc), g5⟩
  obtain ⟨b1, b2, b3⟩ := h1 k hk
  obtain ⟨c1, c2, c3⟩ := g1 k hk
  exact ⟨c1.trans b1, c2.trans b2, c3.trans b3⟩
theorem Gro.item (h : Gro a it th my it1 th1 my1) {j : Int} (hj : 0 ≤ j ∧ j < my k) : it1 k j = it k j := by
  by_cases hk : k = a
  · subst hk
    exact h.2.1 j hj.1 hj.2
  · rw [(h.1 k hk).1]
theorem Gro.many (h : Gro a it th my it1 th1 my1) : my k ≤ my1 k := by
  by_cases hk : k = a
  · subst hk
    exact h.2.2.1
  · rw [(h.1 k hk).2.1]
    omega
theorem Gro.has (h : Gro a it th my it1 th1 my1) (hc : th k c = true) : th1 k c = true := by
  by_cases hk : k = a
  · subst hk
    exact h.2.2.2.1 c hc
  · rw [(h.1 k hk).2.2]
    exact hc
/-- one item comes -/
theorem Gro.one (h : SO it th my) (ha : 0 ≤ a ∧ a < 13) (hc : 0 ≤ c ∧ c < 572) (hn : th a c = false) : Gro a it th my (upI it a (upI (it a) (my a) c)) (upI th a (upI (th a) c true)) (upI my a (my a + 1)) := by
  obtain ⟨hs, -⟩ := (h a ha.1 ha.2).add hc hn
  refine ⟨fun k hk => ⟨upI_ne _ _ hk, upI_ne _ _ hk, upI_ne _ _ hk⟩, fun j a1 a2 => ?_, by rw [upI_self]; omega, fun d hd => ?_, fun k a1 a2 => ?_⟩
  · rw [upI_self, upI_ne _ _ (by omega)]
  · rw [upI_self, upI_ap]
    split
    · rfl
    · exact hd
  · by_cases hk : k = a
    · rw [hk, upI_self, upI_self, upI_self]
      exact hs
    · rw [upI_ne _ _ hk, upI_ne _ _ hk, upI_ne _ _ hk]
      exact h k a1 a2
end PC1
/-- a good item of the set k -/
def IOK (nr : Int) (ln : Int → Int) (k c : Int) : Prop := (0 ≤ c ∧ c < 572) ∧ c / 52 - 1 < nr ∧ c % 52 / 13 ≤ lenOf ln (c / 52 - 1) ∧ c % 13 ≤ k
/-- a set has grown by the items d with Q d -/
def GroQ (a : Int) (it : Int → Int → Int) (th : Int → Int → Bool) (my : Int → Int) (it' : Int → Int → Int) (th' : Int → Int → Bool) (my' : Int → Int) (Q : Int → Prop) : Prop := Gro a it th my it' th' my' ∧ ∀ d, th' a d = true ↔ th a d = true ∨ Q d
section PC2
variable {a k c x : Int} {it it1 it2 : Int → Int → Int} {th th1 th2 : Int → Int → Bool} {my my1 my2 : Int → Int} {Q Q' : Int → Prop}
theorem GroQ.rf (h : SO it th my) : GroQ a it th my it th my (fun _ => False) := ⟨Gro.rf h, fun d => ⟨Or.inl, fun h => h.elim id False.elim⟩⟩
theorem GroQ.trans (h : GroQ a it th my it1 th1 my1 Q) (g : GroQ a it1 th1 my1 it2 th2 my2 Q') : GroQ a it th my it2 th2 my2 (fun d => Q d ∨ Q' d) := ⟨h.1.trans g.1, fun d => by rw [g.2 d, h.2 d, or_assoc]⟩
theorem GroQ.of (h : GroQ a it th my it1 th1 my1 Q) (hq : ∀ d, Q d ↔ Q' d) : GroQ a it th my it1 th1 my1 Q' := ⟨h.1, fun d => by rw [h.2 d, hq d]⟩
theorem GroQ.one (h : SO it th my) (ha : 0 ≤ a ∧ a < 13) (hc : 0 ≤ c ∧ c < 572) (hn : th a c = false) : GroQ a it th my (upI it a (upI (it a) (my a) c)) (upI th a (upI (th a) c true)) (upI my a (my a + 1)) (fun d => d = c) := by
  refine ⟨Gro.one h ha hc hn, fun d => ?_⟩
  rw [upI_self, upI_ap]
  by_cases hd : d = c
  · rw [if_pos hd]
    exact ⟨fun _ => Or.inr hd, fun _ => rfl⟩
  · rw [if_neg hd]
    exact ⟨Or.inl, fun h => h.elim id (fun e => absurd e hd)⟩
theorem GroQ.same (h : SO it th my) (hc : th a c = true) : GroQ a it th my it th my (fun d => d = c) := ⟨Gro.rf h, fun d => ⟨Or.inl, fun h => h.elim id (fun e => e ▸ hc)⟩⟩
end PC2
