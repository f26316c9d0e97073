/-! what derives one stretch, given all others: in words -/
def dvI (dv : Int → Int → Int → Bool) (i j : Int) (X : Int → Bool) : Int → Int → Int → Bool := fun s a b => if a = i ∧ b = j then X s else dv s a b
def LClD (nr : Int) (lf ln bd tm : Int → Int) (dv : Int → Int → Int → Bool) (i j : Int) (X : Int → Bool) : Prop := ∀ s, 0 ≤ s → s ≤ 4 → (∃ q ∈ wl nr lf ln s i j 0, wayT tm (dvI dv i j X) ln (bsM bd) i j q = true) → X s = true
def LSnD (nr : Int) (lf ln bd tm : Int → Int) (dv : Int → Int → Int → Bool) (i j : Int) (X : Int → Bool) : Prop := ∀ Y, LClD nr lf ln bd tm dv i j Y → ∀ s, 0 ≤ s → s ≤ 4 → X s = true → Y s = true
def mkI (mk : Int → Int → Int) (i j m : Int) : Int → Int → Int := upI mk j (upI (mk j) i m)
theorem dvM_mkI (mk : Int → Int → Int) (i j m : Int) : dvM (mkI mk i j m) = dvI (dvM mk) i j (bit m) := by
  funext s a b
  unfold dvM mkI dvI
  rw [upI_ap]
  by_cases hb : b = j
  · rw [if_pos hb, upI_ap]
    by_cases ha : a = i
    · rw [if_pos ha, if_pos ⟨ha, hb⟩]
    · rw [if_neg ha, if_neg (fun h => ha h.1), hb]
  · rw [if_neg hb, if_neg (fun h => hb h.2)]
theorem mkI_up (mk : Int → Int → Int) (i j m m' : Int) : upI (mkI mk i j m) j (upI (mkI mk i j m j) i m') = mkI mk i j m' := by
  unfold mkI
  rw [upI_up, upI_self, upI_up]
theorem mkI_at (mk : Int → Int → Int) (i j m : Int) : mkI mk i j m j i = m := by
  unfold mkI
  rw [upI_self, upI_self]
theorem mkI_id {mk : Int → Int → Int} {i j m : Int} (h : mk j i = m) : mkI mk i j m = mk := by
  unfold mkI
  rw [upI_id h, upI_id rfl]
theorem MkR.mkI {mk : Int → Int → Int} {i j m : Int} (h : MkR mk) (hm : 0 ≤ m ∧ m ≤ 31) : MkR (mkI mk i j m) := by
  intro b a h1 h2 h3
  show 0 ≤ upI mk j (upI (mk j) i m) b a ∧ upI mk j (upI (mk j) i m) b a ≤ 31
  rw [upI_ap]
  split
  · rename_i e
    rw [upI_ap]
    split
    · exact hm
    · rw [← e]
      exact h b a h1 h2 h3
  · exact h b a h1 h2 h3
/-- a way stays one where more is derived; only what lies within the stretch is asked for -/
theorem wayT_monoG {nr : Int} {lf ln bd tm tm' : Int → Int} {dv dv' : Int → Int → Int → Bool} {s i j : Int} {q : Int × Int × Int} (hg : gOK nr lf ln bd) (hij : 0 ≤ i ∧ i ≤ j ∧ j ≤ 12) (hq : q ∈ wl nr lf ln s i j 0) (htm : ∀ x, i ≤ x → x < j → tm' x = tm x) (h : ∀ t a b, 0 ≤ t → t ≤ 4 → i ≤ a → a ≤ b → b ≤ j → dv t a b = true → dv' t a b = true) (hw : wayT tm dv ln (bsM bd) i j q = true) : wayT tm' dv' ln (bsM bd) i j q = true := by
  obtain ⟨w1, w2, w3, w4⟩ := wl_in (fun r a b => hg.2.2.1 r a (by have := hg.1; omega)) hij hq
  have hl := hg.2.2.1 q.1 w1 (by have := hg.1; omega)
  have hw' : wayB tm dv (ln q.1) (bsM bd q.1) q.2.1 q.2.2 i j = true := hw
  show wayB tm' dv' (ln q.1) (bsM bd q.1) q.2.1 q.2.2 i j = true
  unfold wayB at hw' ⊢
  by_cases e : ln q.1 = 0
  · rw [if_pos e] at hw' ⊢
    exact hw'
  · rw [if_neg e] at hw' ⊢
    rw [allB_iff hl.1] at hw' ⊢
    intro k a b
    have hk := hw' k a b
    unfold wayK at hk ⊢
    rw [Bool.and_eq_true] at hk ⊢
    refine ⟨hk.1, ?_⟩
    have hle := of_decide_eq_true hk.1
    have r1 := cutV_rng (n := ln q.1) (k := k) w4
    have r2 := cutV_rng (n := ln q.1) (k := k + 1) w4
    have hb1 := hg.2.2.2.1 (3 * q.1 + k) (by omega) (by have := hg.1; omega)
    have hb2 := hg.2.2.2.2 q.1 k w1 w2 a b
    have hd := hk.2
    unfold dsy at hd ⊢
    by_cases h8 : 8 ≤ bsM bd q.1 k
    · rw [if_pos h8] at hd ⊢
      have := of_decide_eq_true hd
      rw [decide_eq_true_iff]
      exact ⟨this.1, by rw [htm _ r1.1 (by omega)]; exact this.2⟩
    · rw [if_neg h8] at hd ⊢
      have hbe : bsM bd q.1 k = bd (3 * q.1 + k) := rfl
      exact h _ _ _ (by omega) (by omega) r1.1 hle r2.2 hd
theorem p2_31 {s : Int} (h : 0 ≤ s ∧ s ≤ 4) : 1 ≤ p2 s ∧ p2 s ≤ 31 := by
  have : s = 0 ∨ s = 1 ∨ s = 2 ∨ s = 3 ∨ s = 4 := by omega
  rcases this with rfl | rfl | rfl | rfl | rfl <;> decide
theorem orI_31 {a b : Int} (ha : 0 ≤ a ∧ a ≤ 31) (hb : 0 ≤ b ∧ b ≤ 31) : 0 ≤ orI a b ∧ orI a b ≤ 31 := by
  unfold orI
  have : a.toNat ||| b.toNat < 2 ^ 5 := Nat.or_lt_two_pow (by omega) (by omega)
  omega
section PG1
variable {nr : Int} {lf ln bd tm : Int → Int} {dv : Int → Int → Int → Bool} {i j m m0 m1 s : Int} {mo : Bool}
/-- a pass of grow's first loop up to s -/
def GD (nr : Int) (lf ln bd tm : Int → Int) (dv : Int → Int → Int → Bool) (i j m0 m1 : Int) (mo : Bool) (s : Int) : Prop :=
  (0 ≤ m1 ∧ m1 ≤ 31) ∧ LSnD nr lf ln bd tm dv i j (bit m1) ∧ (mo = false → m1 = m0 ∧ ∀ s', 0 ≤ s' → s' < s → (∃ q ∈ wl nr lf ln s' i j 0, wayT tm (dvI dv i j (bit m1)) ln (bsM bd) i j q = true) → bit m1 s' = true) ∧ (mo = true → cnt (bit m0) 5 < cnt (bit m1) 5) ∧ ∀ y, bit m0 y = true → bit m1 y = true
theorem gd_0 (h : 0 ≤ m0 ∧ m0 ≤ 31) (hs : LSnD nr lf ln bd tm dv i j (bit m0)) : GD nr lf ln bd tm dv i j m0 m0 false 0 := ⟨h, hs, fun _ => ⟨rfl, fun s' a b => by omega⟩, (fun e => by cases e), fun _ h => h⟩
theorem gd_no (h : GD nr lf ln bd tm dv i j m0 m1 mo s) (hk : bit m1 s = true ∨ ¬ ∃ q ∈ wl nr lf ln s i j 0, wayT tm (dvI dv i j (bit m1)) ln (bsM bd) i j q = true) : GD nr lf ln bd tm dv i j m0 m1 mo (s + 1) := by
  obtain ⟨h1, h2, h3, h4, h5⟩ := h
  refine ⟨h1, h2, fun e => ⟨(h3 e).1, fun s' a b c => ?_⟩, h4, h5⟩
  by_cases hs : s' = s
  · rw [hs] at c ⊢
    rcases hk with k | k
    · exact k
    · exact absurd c k
  · exact (h3 e).2 s' a (by omega) c
theorem gd_yes (hg : gOK nr lf ln bd) (hij : 0 ≤ i ∧ i ≤ j ∧ j ≤ 12) (h : GD nr lf ln bd tm dv i j m0 m1 mo s) (hs : 0 ≤ s ∧ s ≤ 4) (hb : bit m1 s = false) (hw : ∃ q ∈ wl nr lf ln s i j 0, wayT tm (dvI dv i j (bit m1)) ln (bsM bd) i j q = true) : GD nr lf ln bd tm dv i j m0 (orI m1 (p2 s)) true (s + 1) := by
  obtain ⟨h1, h2, h3, h4, h5⟩ := h
  have hp := p2_31 hs
  have hor : ∀ y, bit m1 y = true → bit (orI m1 (p2 s)) y = true := fun y e => by rw [bit_or, e]; rfl
  refine ⟨orI_31 h1 (by omega), fun Y hY s' a b c => ?_, (fun e => by cases e), fun _ => ?_, fun y e => hor y (h5 y e)⟩
  · rw [bit_or, bit_p2 hs.1 a, Bool.or_eq_true, decide_eq_true_iff] at c
    rcases c with c | c
    · exact h2 Y hY s' a b c
    · subst c
      obtain ⟨q, q1, q2⟩ := hw
      refine hY s hs.1 hs.2 ⟨q, q1, wayT_monoG hg hij q1 (fun _ _ _ => rfl) (fun t a' b' t1 t2 t3 t4 t5 e => ?_) q2⟩
      unfold dvI at e ⊢
      split at e
      · rename_i hc
        rw [if_pos hc]
        exact h2 Y hY t t1 t2 e
      · rename_i hc
        rw [if_neg hc]
        exact e
  · have : cnt (bit m1) 5 < cnt (bit (orI m1 (p2 s))) 5 := cnt_lt (by omega) (fun y _ _ e => hor y e) (c := s) (by omega) (by rw [hb]; decide) (by rw [bit_or, bit_p2 hs.1 hs.1, decide_eq_true rfl, Bool.or_true])
    have h6 := cnt_le (P := bit m0) (Q := bit m1) (k := 5) (by omega) (fun y _ _ e => h5 y e)
    omega
theorem gd_end (h : GD nr lf ln bd tm dv i j m0 m1 mo s) (hs : 5 ≤ s) (hm : mo = false) : LClD nr lf ln bd tm dv i j (bit m1) := fun s' a b c => (h.2.2.1 hm).2 s' a (by omega) c
theorem gd_mu (h : GD nr lf ln bd tm dv i j m0 m1 mo s) : (5 - cnt (bit m1) 5).toNat + (if mo = true then 1 else 0) < (5 - cnt (bit m0) 5).toNat + (if true = true then 1 else 0) := by
  obtain ⟨-, -, h3, h4, -⟩ := h
  have r1 := cnt_rng (bit m0) (show (0 : Int) ≤ 5 by omega)
  have r2 := cnt_rng (bit m1) (show (0 : Int) ≤ 5 by omega)
  cases mo with
  | false =>
    rw [(h3 rfl).1]
    simp
  | true =>
    have := h4 rfl
    simp
    omega
end PG1
