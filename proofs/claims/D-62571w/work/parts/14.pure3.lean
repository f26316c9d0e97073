/-! steps of leapOf, follow, close in words -/
section P3
variable {it it0 it1 : Int → Bool} {nr : Int} {lf ln bd : Int → Int} {lp : Bool} {s x k n i c : Int}
theorem lpW_t (h1 : it (572 * s + k) = true) (h2 : bhM ln bd (k / 52 - 1) (k % 52 / 13) = x) : lpW it ln bd s x k = true := by
  unfold lpW bc
  rw [h1, decide_eq_true h2]
  rfl
theorem lpW_f1 (h1 : it (572 * s + k) = false) : ¬ lpW it ln bd s x k = true := by
  unfold lpW
  rw [h1]
  simp
theorem lpW_f2 (h2 : bhM ln bd (k / 52 - 1) (k % 52 / 13) ≠ x) : ¬ lpW it ln bd s x k = true := by
  unfold lpW bc
  rw [decide_eq_false h2]
  simp
theorem lp_end1 {nm : Int} (h0 : 0 ≤ s) (h : cnt (lpW it ln bd s x) 572 ≠ 1 ∨ lpC it ln bd s x % 52 / 13 + 1 ≠ lenOf ln (lpC it ln bd s x / 52 - 1)) : lpN it lf ln bd s.toNat x nm = nm := by
  rw [lpN_eq, show ((s.toNat : Nat) : Int) = s by omega, if_pos h]
theorem lp_go {nm : Int} (h0 : 0 ≤ s) (h : cnt (lpW it ln bd s x) 572 = 1) (h2 : lpC it ln bd s x % 52 / 13 + 1 = lenOf ln (lpC it ln bd s x / 52 - 1)) (h3 : lpC it ln bd s x % 13 < s ∧ 0 ≤ lpC it ln bd s x / 52 - 1) : lpN it lf ln bd s.toNat x nm = lpN it lf ln bd (lpC it ln bd s x % 13).toNat (lf (lpC it ln bd s x / 52 - 1)) (lpC it ln bd s x + 13) := by
  rw [lpN_eq, show ((s.toNat : Nat) : Int) = s by omega, if_neg (by omega), if_pos h3]
theorem lp_end2 {nm : Int} (h0 : 0 ≤ s) (h : cnt (lpW it ln bd s x) 572 = 1) (h2 : lpC it ln bd s x % 52 / 13 + 1 = lenOf ln (lpC it ln bd s x / 52 - 1)) (h3 : ¬ (lpC it ln bd s x % 13 < s ∧ 0 ≤ lpC it ln bd s x / 52 - 1)) : lpN it lf ln bd s.toNat x nm = lpC it ln bd s x + 13 := by
  rw [lpN_eq, show ((s.toNat : Nat) : Int) = s by omega, if_neg (by omega), if_neg h3]
theorem ntB_of {z : Int} (h : ntB z = true) : 0 ≤ z ∧ z ≤ 4 := of_decide_eq_true h
theorem ntB_no {z : Int} (h : ntB z = false) : ¬ (0 ≤ z ∧ z ≤ 4) := of_decide_eq_false h
theorem tmB_of {z : Int} (h : tmB z = true) : 8 ≤ z ∧ z ≤ 11 := of_decide_eq_true h
theorem tmB_no {z : Int} (h : tmB z = false) : ¬ (8 ≤ z ∧ z ≤ 11) := of_decide_eq_false h
/-- the end of follow: n items have come out of the item c -/
def Fol (lp : Bool) (nr : Int) (lf ln bd : Int → Int) (i c : Int) (it0 it : Int → Bool) (n : Int) : Prop :=
  Ext i it0 it n ∧ Snd lp nr lf ln bd i it0 it ∧ n ≤ 572 ∧ (n = 0 → ∀ d, stp lp nr lf ln bd it0 i c d → it0 (572 * i + d) = true)
theorem ext_eq {m : Int} (h : Ext i it0 it m) (e : m = 0) : it = it0 := h.2.2.2.1 e
theorem stp_T {T : Int → Bool} {d : Int} (hi : 0 ≤ i) (hle : ∀ p, it p = true → T p = true) (hoff : ∀ p, ¬ (572 * i ≤ p ∧ p < 572 * i + 572) → T p = it p) (hc : 0 ≤ c ∧ c < 572) (hs : stp lp nr lf ln bd it i c d) : stp lp nr lf ln bd T i c d := by
  have key : c % 13 < i → lpN T lf ln bd (c % 13).toNat (lf (c / 52 - 1)) (-1) = lpN it lf ln bd (c % 13).toNat (lf (c / 52 - 1)) (-1) := fun ho => lpN_congr _ _ _ (fun p hp => hoff p (by omega))
  rcases hs with h | ⟨h1, h2, h3⟩
  · exact Or.inl h
  · refine Or.inr ⟨h1, h2, ?_⟩
    rcases h3 with ⟨a1, a2, a3, a4⟩ | ⟨a1, kk, b1, b2, b3, b4, b5⟩
    · left
      rw [key a2]
      exact ⟨a1, a2, a3, a4⟩
    · right
      refine ⟨fun hh => a1 ⟨hh.1, hh.2.1, ?_⟩, kk, b1, b2, hle _ b3, b4, b5⟩
      rw [← key hh.2.1]
      exact hh.2.2
/-- one more item that follows from c has been added -/
theorem fol_add {m d : Int} (hi : 0 ≤ i) (hc : 0 ≤ c ∧ c < 572) (hin : it0 (572 * i + c) = true) (he : Ext i it0 it m) (hs : Snd lp nr lf ln bd i it0 it) (hd : 0 ≤ d ∧ d < 572) (hst : stp lp nr lf ln bd it i c d) :
    Ext i it0 (upI it (572 * i + d) true) (m + if it (572 * i + d) = true then 0 else 1) ∧ Snd lp nr lf ln bd i it0 (upI it (572 * i + d) true) := by
  refine ⟨he.add (by omega), hs.add (fun T a1 a2 a3 a4 => ?_)⟩
  exact a3 c d hc.1 hc.2 (a1 _ hin) (stp_T hi a4 (fun p hp => (a2 p hp).trans (he.2.1 p hp).symm) hc hst)
theorem if_rng {P : Prop} [Decidable P] : 0 ≤ (if P then (0 : Int) else 1) ∧ (if P then (0 : Int) else 1) ≤ 1 := by split <;> omega
theorem if_zero {P : Prop} [Decidable P] {m : Int} (hm : 0 ≤ m) (h : m + (if P then (0 : Int) else 1) = 0) : P ∧ m = 0 := by
  split at h
  · exact ⟨by assumption, by omega⟩
  · omega
theorem lpN_off {i o x nm : Int} (h : Ext i it0 it n) (hi : 0 ≤ o ∧ o < i) : lpN it lf ln bd o.toNat x nm = lpN it0 lf ln bd o.toNat x nm := lpN_congr _ _ _ (fun p hp => h.2.1 p (by omega))
end P3
