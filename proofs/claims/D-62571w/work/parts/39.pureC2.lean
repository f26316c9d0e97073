/-! close and leapFor of the component in words -/
theorem upI_up {α : Type} (f : Int → α) (k : Int) (x y : α) : upI (upI f k x) k y = upI f k y := by
  funext j
  unfold upI
  split <;> rfl
/-- the sets as one table -/
def tab (th : Int → Int → Bool) : Int → Bool := fun p => th (p / 572) (p % 572)
theorem tab_at (th : Int → Int → Bool) {k c : Int} (hc : 0 ≤ c ∧ c < 572) : tab th (572 * k + c) = th k c := by
  unfold tab
  rw [show (572 * k + c) / 572 = k by omega, show (572 * k + c) % 572 = c by omega]
section PC3
variable {lp : Bool} {nr : Int} {lf ln bd tm : Int → Int} {it it1 it2 : Int → Int → Int} {th th1 th2 : Int → Int → Bool} {my my1 my2 em : Int → Int} {lps : Int → Int → Int} {i k c x : Int}
theorem tab_has {d : Int} (hs : SetR (it i) (my i) (th i)) : th i d = true ↔ (0 ≤ d ∧ d < 572) ∧ tab th (572 * i + d) = true :=
  ⟨fun h => ⟨hs.code h, by rw [tab_at th (hs.code h)]; exact h⟩, fun h => by rw [tab_at th h.1] at h; exact h.2⟩
theorem Gro.off (h : Gro i it th my it1 th1 my1) {p : Int} (hp : ¬ (572 * i ≤ p ∧ p < 572 * i + 572)) : tab th1 p = tab th p := by
  unfold tab
  rw [(h.1 (p / 572) (by omega)).2.2]
theorem Gro.tab (h : Gro i it th my it1 th1 my1) {p : Int} (hp : tab th p = true) : tab th1 p = true := h.has hp
theorem snd_grow {t0 t1 t2 : Int → Bool} (hi : 0 ≤ i) (h : Snd lp nr lf ln bd i t0 t1) (ho : ∀ p, ¬ (572 * i ≤ p ∧ p < 572 * i + 572) → t1 p = t0 p) (hg : ∀ p, t2 p = true → t1 p = true ∨ ∃ c d, (0 ≤ c ∧ c < 572) ∧ t1 (572 * i + c) = true ∧ stp lp nr lf ln bd t1 i c d ∧ p = 572 * i + d) : Snd lp nr lf ln bd i t0 t2 := by
  intro T a1 a2 a3 p hp
  have hT := h T a1 a2 a3
  rcases hg p hp with h1 | ⟨c, d, h1, h2, h3, h4⟩
  · exact hT p h1
  · rw [h4]
    exact a3 c d h1.1 h1.2 (hT _ h2) (stp_T hi hT (fun p hp => (a2 p hp).trans (ho p hp).symm) h1 h3)
theorem GroQ.snd {Q : Int → Prop} {t0 : Int → Bool} (hi : 0 ≤ i ∧ i < 13) (h : GroQ i it th my it1 th1 my1 Q) (h0 : Snd lp nr lf ln bd i t0 (tab th)) (ho : ∀ p, ¬ (572 * i ≤ p ∧ p < 572 * i + 572) → tab th p = t0 p) (hq : ∀ d, Q d → ∃ c, (0 ≤ c ∧ c < 572) ∧ th i c = true ∧ stp lp nr lf ln bd (tab th) i c d) : Snd lp nr lf ln bd i t0 (tab th1) := by
  refine snd_grow hi.1 h0 ho (fun p hp => ?_)
  by_cases hb : 572 * i ≤ p ∧ p < 572 * i + 572
  · have e1 : p / 572 = i := by omega
    have hp' : th1 i (p % 572) = true := by
      unfold tab at hp
      rw [e1] at hp
      exact hp
    rcases (h.2 _).mp hp' with h1 | h1
    · left
      unfold tab
      rw [e1]
      exact h1
    · right
      obtain ⟨c, h2, h3, h4⟩ := hq _ h1
      exact ⟨c, p % 572, h2, by rw [tab_at th h2]; exact h3, h4, by omega⟩
  · left
    rw [← h.1.off hb]
    exact hp
/-- what holds of an item that has been gone through -/
def Prc (nr : Int) (lf ln bd : Int → Int) (lps : Int → Int → Int) (th : Int → Int → Bool) (em : Int → Int) (i c : Int) : Prop :=
  (ntB (bc ln bd c) = true → (∀ q, 0 ≤ q → q < nr → lf q = bc ln bd c → th i (52 * (q + 1) + i) = true) ∧ (bit (em i) (bc ln bd c) = true → th i (c + 13) = true)) ∧
  (bc ln bd c = -1 → 0 ≤ c / 52 - 1 → (c % 13 = i → bit (em i) (lf (c / 52 - 1)) = true) ∧ (c % 13 ≠ i → 0 ≤ lps (c % 13) (lf (c / 52 - 1)) → th i (lps (c % 13) (lf (c / 52 - 1))) = true) ∧ (c % 13 ≠ i → lps (c % 13) (lf (c / 52 - 1)) < 0 → ∀ c2, th (c % 13) c2 = true → bc ln bd c2 = lf (c / 52 - 1) → th i (c2 + 13) = true))
theorem Prc.gro (h : Prc nr lf ln bd lps th em i c) (g : Gro i it th my it1 th1 my1) : Prc nr lf ln bd lps th1 em i c := by
  obtain ⟨h1, h2⟩ := h
  refine ⟨fun a => ⟨fun q b1 b2 b3 => g.has ((h1 a).1 q b1 b2 b3), fun b => g.has ((h1 a).2 b)⟩, fun a b => ⟨(h2 a b).1, fun e f => g.has ((h2 a b).2.1 e f), fun e f c2 e2 e3 => g.has ((h2 a b).2.2 e f c2 ?_ e3)⟩⟩
  rw [(g.1 _ e).2.2] at e2
  exact e2
/-- the bits of the nonterminals that are complete over nothing -/
def EmS (lf ln bd : Int → Int) (th : Int → Int → Bool) (em : Int → Int) (i : Int) : Prop := (0 ≤ em i ∧ em i ≤ 31) ∧ ∀ y, 0 ≤ y → bit (em i) y = true → ∃ c, th i c = true ∧ bc ln bd c = -1 ∧ 0 ≤ c / 52 - 1 ∧ lf (c / 52 - 1) = y ∧ c % 13 = i
theorem EmS.gro (h : EmS lf ln bd th em i) (g : Gro i it th my it1 th1 my1) : EmS lf ln bd th1 em i := by
  refine ⟨h.1, fun y a b => ?_⟩
  obtain ⟨c, h1, h2⟩ := h.2 y a b
  exact ⟨c, g.has h1, h2⟩
/-- while close goes: the first k items have been gone through -/
def CI (lp : Bool) (nr : Int) (lf ln bd : Int → Int) (lps : Int → Int → Int) (i k : Int) (it : Int → Int → Int) (th : Int → Int → Bool) (my : Int → Int) (it1 : Int → Int → Int) (th1 : Int → Int → Bool) (my1 em : Int → Int) : Prop :=
  Gro i it th my it1 th1 my1 ∧ Snd lp nr lf ln bd i (tab th) (tab th1) ∧ EmS lf ln bd th1 em i ∧ (∀ j, 0 ≤ j → j < k → j < my1 i → Prc nr lf ln bd lps th1 em i (it1 i j)) ∧ ∀ c, th1 i c = true → IOK nr ln i c
/-- what close rests on: the sets before -/
def CL (lp : Bool) (nr : Int) (lf ln bd : Int → Int) (lps : Int → Int → Int) (i : Int) (th : Int → Int → Bool) : Prop :=
  ∀ o, 0 ≤ o → o < i → (∀ c, th o c = true → IOK nr ln o c) ∧ ∀ y, 0 ≤ y → y ≤ 4 → lps o y = if lp = true then lpN (tab th) lf ln bd o.toNat y (-1) else -1
theorem CL.gro (h : CL lp nr lf ln bd lps i th) (g : Gro i it th my it1 th1 my1) : CL lp nr lf ln bd lps i th1 := by
  intro o a1 a2
  obtain ⟨h1, h2⟩ := h o a1 a2
  refine ⟨fun c hc => h1 c (by rw [(g.1 o (by omega)).2.2] at hc; exact hc), fun y b1 b2 => ?_⟩
  rw [h2 y b1 b2, lpN_congr (it := tab th1) (it' := tab th) o.toNat y (-1) (fun p hp => g.off (by omega))]
theorem iok_13 (hg : gOK nr lf ln bd) (h : IOK nr ln k c) (hb : ¬ bc ln bd c = -1) : IOK nr ln k (c + 13) := by
  obtain ⟨h1, h2, h3, h4⟩ := h
  have hd := bc_dot hb
  have hl := hg.len (q := c / 52 - 1) (by have := hg.1; omega)
  have e1 : (c + 13) / 52 = c / 52 := by omega
  have e2 : (c + 13) % 52 / 13 = c % 52 / 13 + 1 := by omega
  refine ⟨by have := hg.1; omega, by omega, ?_, by omega⟩
  rw [e1, e2]
  omega
theorem iok_up {k' : Int} (h : IOK nr ln k c) (hk : k ≤ k') : IOK nr ln k' c := ⟨h.1, h.2.1, h.2.2.1, by have := h.2.2.2; omega⟩
theorem lpN_ok {t : Int → Bool} (hg : gOK nr lf ln bd) : ∀ (s : Nat) (x named : Int), 0 ≤ x → (∀ o, 0 ≤ o → o ≤ (s : Int) → ∀ c, 0 ≤ c → c < 572 → t (572 * o + c) = true → IOK nr ln o c) → lpN t lf ln bd s x named = named ∨ IOK nr ln s (lpN t lf ln bd s x named) := by
  intro s
  induction s using Nat.strongRecOn with
  | _ s ih =>
    intro x named hx hI
    rw [lpN_eq t lf ln bd s x named]
    by_cases h1 : cnt (lpW t ln bd s x) 572 ≠ 1 ∨ lpC t ln bd s x % 52 / 13 + 1 ≠ lenOf ln (lpC t ln bd s x / 52 - 1)
    · rw [if_pos h1]
      exact Or.inl rfl
    · rw [if_neg h1]
      have hf := fnd_of (P := lpW t ln bd s x) (k := 572) (by omega) (by omega)
      have hC : lpC t ln bd s x = fnd (lpW t ln bd s x) 572 := rfl
      rw [← hC] at hf
      have hw : t (572 * s + lpC t ln bd s x) = true ∧ bc ln bd (lpC t ln bd s x) = x := by
        have := hf.1
        unfold lpW at this
        rw [Bool.and_eq_true, decide_eq_true_iff] at this
        exact this
      have hok := hI s (by omega) (by omega) _ hf.2.1 hf.2.2 hw.1
      have hok2 := iok_13 hg hok (by omega)
      right
      by_cases h2 : lpC t ln bd s x % 13 < s ∧ 0 ≤ lpC t ln bd s x / 52 - 1
      · rw [if_pos h2]
        have hlf := hg.2.1 (lpC t ln bd s x / 52 - 1) h2.2 (by have := hok.2.1; have := hg.1; omega)
        rcases ih (lpC t ln bd s x % 13).toNat (by omega) (lf (lpC t ln bd s x / 52 - 1)) (lpC t ln bd s x + 13) hlf.1 (fun o a1 a2 => hI o a1 (by omega)) with h | h
        · rw [h]
          exact hok2
        · exact iok_up h (show (((lpC t ln bd s x % 13).toNat : Nat) : Int) ≤ s by omega)
      · rw [if_neg h2]
        exact hok2
theorem lpN_nn {t : Int → Bool} (hg : gOK nr lf ln bd) : ∀ (s : Nat) (x named : Int), 0 ≤ named → 0 ≤ lpN t lf ln bd s x named := by
  intro s
  induction s using Nat.strongRecOn with
  | _ s ih =>
    intro x named hn
    rw [lpN_eq t lf ln bd s x named]
    have hf := fnd_rng (lpW t ln bd s x) (show (0 : Int) ≤ 572 by omega)
    have hC : lpC t ln bd s x = fnd (lpW t ln bd s x) 572 := rfl
    split
    · exact hn
    · split
      · exact ih _ (by omega) _ _ (by omega)
      · omega
theorem lpN_named {t : Int → Bool} (hg : gOK nr lf ln bd) (s : Nat) (x named : Int) : lpN t lf ln bd s x named = if lpN t lf ln bd s x (-1) = -1 then named else lpN t lf ln bd s x (-1) := by
  rw [lpN_eq t lf ln bd s x named, lpN_eq t lf ln bd s x (-1)]
  have hf := fnd_rng (lpW t ln bd s x) (show (0 : Int) ≤ 572 by omega)
  have hC : lpC t ln bd s x = fnd (lpW t ln bd s x) 572 := rfl
  by_cases h1 : cnt (lpW t ln bd s x) 572 ≠ 1 ∨ lpC t ln bd s x % 52 / 13 + 1 ≠ lenOf ln (lpC t ln bd s x / 52 - 1)
  · rw [if_pos h1, if_pos h1, if_pos rfl]
  · rw [if_neg h1, if_neg h1]
    by_cases h2 : lpC t ln bd s x % 13 < s ∧ 0 ≤ lpC t ln bd s x / 52 - 1
    · rw [if_pos h2]
      have := lpN_nn (t := t) hg (lpC t ln bd s x % 13).toNat (lf (lpC t ln bd s x / 52 - 1)) (lpC t ln bd s x + 13) (by omega)
      rw [if_neg (by omega)]
    · rw [if_neg h2, if_neg (by omega)]
/-- the leaps of the sets before are codes of good items -/
theorem CL.leap {y o : Int} (h : CL lp nr lf ln bd lps i th) (hs : SO it th my) (hg : gOK nr lf ln bd) (ho : 0 ≤ o ∧ o < i) (hi : i < 13) (hy : 0 ≤ y ∧ y ≤ 4) : (-1 ≤ lps o y ∧ lps o y < 572) ∧ (0 ≤ lps o y → lp = true ∧ lps o y = lpN (tab th) lf ln bd o.toNat y (-1) ∧ IOK nr ln o (lps o y)) := by
  obtain ⟨-, h2⟩ := h o ho.1 ho.2
  rw [h2 y hy.1 hy.2]
  cases lp with
  | false => exact ⟨by simp, fun h => absurd h (by simp)⟩
  | true =>
    rw [if_pos rfl]
    refine ⟨lpN_rng hg _ _ _ (by omega), fun h3 => ⟨rfl, rfl, ?_⟩⟩
    rcases lpN_ok (t := tab th) hg o.toNat y (-1) hy.1 (fun o' a1 a2 c b1 b2 b3 => (h o' a1 (by omega)).1 c (by rw [tab_at th ⟨b1, b2⟩] at b3; exact b3)) with h4 | h4
    · omega
    · rw [show ((o.toNat : Nat) : Int) = o by omega] at h4
      exact h4
/-- the start -/
theorem ci_0 (h : SO it th my) (hI : ∀ c, th i c = true → IOK nr ln i c) (he : em i = 0) : CI lp nr lf ln bd lps i 0 it th my it th my em :=
  ⟨Gro.rf h, Snd.rf, ⟨by omega, fun y a b => by rw [he, bit_0] at b; cases b⟩, fun j a1 a2 => by omega, hI⟩
/-- an item with a nonterminal behind its dot -/
theorem ci_nt {Q : Int → Prop} (hg : gOK nr lf ln bd) (hi : 0 ≤ i ∧ i < 13) (h : CI lp nr lf ln bd lps i k it th my it1 th1 my1 em) (hk : 0 ≤ k ∧ k < my1 i) (hn : ntB (bc ln bd (it1 i k)) = true) (g : GroQ i it1 th1 my1 it2 th2 my2 Q) (hq : ∀ d, Q d ↔ (∃ q, 0 ≤ q ∧ q < nr ∧ lf q = bc ln bd (it1 i k) ∧ d = 52 * (q + 1) + i) ∨ (bit (em i) (bc ln bd (it1 i k)) = true ∧ d = it1 i k + 13)) : CI lp nr lf ln bd lps i (k + 1) it th my it2 th2 my2 em := by
  obtain ⟨h1, h2, h3, h4, h5⟩ := h
  have hs := h1.2.2.2.2 i hi.1 hi.2
  have hin := (hs.2.1 k hk.1 hk.2).2
  have hcc := (hs.2.1 k hk.1 hk.2).1
  have hnt := ntB_of hn
  refine ⟨h1.trans g.1, g.snd hi h2 (fun p hp => h1.off hp) (fun d hd => ?_), h3.gro g.1, fun j a1 a2 a3 => ?_, fun c hc => ?_⟩
  · rcases (hq d).mp hd with ⟨q, b1, b2, b3, b4⟩ | ⟨b1, b2⟩
    · exact ⟨it1 i k, hcc, hin, Or.inl ⟨hn, q, b1, b2, b3, b4⟩⟩
    · obtain ⟨c', e1, e2, e3, e4, e5⟩ := h3.2 _ hnt.1 b1
      refine ⟨c', hs.code e1, e1, Or.inr ⟨e2, e3, Or.inr ⟨fun hh => by omega, it1 i k, hcc.1, hcc.2, ?_, e4.symm, b2⟩⟩⟩
      rw [e5, tab_at th1 hcc]
      exact hin
  · by_cases hj : j = k
    · subst hj
      rw [g.1.2.1 j hk.1 hk.2]
      refine ⟨fun _ => ⟨fun q b1 b2 b3 => (g.2 _).mpr (Or.inr ((hq _).mpr (Or.inl ⟨q, b1, b2, b3, rfl⟩))), fun b => (g.2 _).mpr (Or.inr ((hq _).mpr (Or.inr ⟨b, rfl⟩)))⟩, fun e => by omega⟩
    · have hj2 : j < my1 i := by omega
      rw [g.1.2.1 j a1 hj2]
      exact (h4 j a1 (by omega) hj2).gro g.1
  · rcases (g.2 c).mp hc with h6 | h6
    · exact h5 c h6
    · rcases (hq c).mp h6 with ⟨q, b1, b2, b3, b4⟩ | ⟨b1, b2⟩
      · have hl := hg.len (q := q) (by have := hg.1; omega)
        have e1 : c / 52 = q + 1 := by omega
        have e2 : c % 52 / 13 = 0 := by omega
        refine ⟨by have := hg.1; omega, by omega, ?_, by omega⟩
        rw [e2, e1, show q + 1 - 1 = q by omega]
        omega
      · rw [b2]
        exact iok_13 hg (h5 _ hin) (by omega)
/-- an item that is of no use -/
theorem ci_no (hi : 0 ≤ i ∧ i < 13) (h : CI lp nr lf ln bd lps i k it th my it1 th1 my1 em) (hk : 0 ≤ k ∧ k < my1 i) (hn : ntB (bc ln bd (it1 i k)) = false) (hb : bc ln bd (it1 i k) = -1 → it1 i k / 52 - 1 < 0) : CI lp nr lf ln bd lps i (k + 1) it th my it1 th1 my1 em := by
  obtain ⟨h1, h2, h3, h4, h5⟩ := h
  refine ⟨h1, h2, h3, fun j a1 a2 a3 => ?_, h5⟩
  by_cases hj : j = k
  · subst hj
    refine ⟨fun e => ?_, fun e e2 => ?_⟩
    · rw [hn] at e
      cases e
    · have := hb e
      omega
  · exact h4 j a1 (by omega) a3
/-- an item that is complete over nothing -/
theorem ci_em {Q : Int → Prop} (hg : gOK nr lf ln bd) (hi : 0 ≤ i ∧ i < 13) (h : CI lp nr lf ln bd lps i k it th my it1 th1 my1 em) (hk : 0 ≤ k ∧ k < my1 i) (hb : bc ln bd (it1 i k) = -1) (hr : 0 ≤ it1 i k / 52 - 1) (ho : it1 i k % 13 = i) (g : GroQ i it1 th1 my1 it2 th2 my2 Q) (hq : ∀ d, Q d ↔ ∃ c, th1 i c = true ∧ bc ln bd c = lf (it1 i k / 52 - 1) ∧ d = c + 13) : CI lp nr lf ln bd lps i (k + 1) it th my it2 th2 my2 (upI em i (orI (em i) (p2 (lf (it1 i k / 52 - 1))))) := by
  obtain ⟨h1, h2, h3, h4, h5⟩ := h
  have hs := h1.2.2.2.2 i hi.1 hi.2
  have hin := (hs.2.1 k hk.1 hk.2).2
  have hcc := (hs.2.1 k hk.1 hk.2).1
  have hio := h5 _ hin
  have hlf := hg.2.1 (it1 i k / 52 - 1) hr (by have := hio.2.1; have := hg.1; omega)
  have hbit : ∀ y, 0 ≤ y → (bit (upI em i (orI (em i) (p2 (lf (it1 i k / 52 - 1)))) i) y = true ↔ bit (em i) y = true ∨ lf (it1 i k / 52 - 1) = y) := by
    intro y hy
    rw [upI_self, bit_or, bit_p2 hlf.1 hy, Bool.or_eq_true, decide_eq_true_iff]
  refine ⟨h1.trans g.1, g.snd hi h2 (fun p hp => h1.off hp) (fun d hd => ?_), ⟨?_, fun y a b => ?_⟩, fun j a1 a2 a3 => ?_, fun c hc => ?_⟩
  · obtain ⟨c, b1, b2, b3⟩ := (hq d).mp hd
    refine ⟨it1 i k, hcc, hin, Or.inr ⟨hb, hr, Or.inr ⟨fun hh => by omega, c, (hs.code b1).1, (hs.code b1).2, ?_, b2, b3⟩⟩⟩
    rw [ho, tab_at th1 (hs.code b1)]
    exact b1
  · rw [upI_self]
    have hp : 0 ≤ p2 (lf (it1 i k / 52 - 1)) ∧ p2 (lf (it1 i k / 52 - 1)) ≤ 31 := by
      have : lf (it1 i k / 52 - 1) = 0 ∨ lf (it1 i k / 52 - 1) = 1 ∨ lf (it1 i k / 52 - 1) = 2 ∨ lf (it1 i k / 52 - 1) = 3 ∨ lf (it1 i k / 52 - 1) = 4 := by omega
      rcases this with e | e | e | e | e <;> rw [e] <;> decide
    have he := h3.1
    unfold orI
    have : (em i).toNat ||| (p2 (lf (it1 i k / 52 - 1))).toNat < 2 ^ 5 := Nat.or_lt_two_pow (by omega) (by omega)
    omega
  · rcases (hbit y a).mp b with e | e
    · exact (h3.gro g.1).2 y a e
    · exact ⟨it1 i k, g.1.has hin, hb, hr, e, ho⟩
  · have key : ∀ j, 0 ≤ j → j < my1 i → Prc nr lf ln bd lps th1 em i (it1 i j) → Prc nr lf ln bd lps th2 (upI em i (orI (em i) (p2 (lf (it1 i k / 52 - 1))))) i (it1 i j) := by
      intro j b1 b2 hp
      have hp2 := hp.gro g.1
      refine ⟨fun e => ⟨(hp2.1 e).1, fun e2 => ?_⟩, fun e e2 => ⟨fun e3 => ?_, (hp2.2 e e2).2.1, (hp2.2 e e2).2.2⟩⟩
      · rcases (hbit _ (ntB_of e).1).mp e2 with e3 | e3
        · exact (hp2.1 e).2 e3
        · exact (g.2 _).mpr (Or.inr ((hq _).mpr ⟨it1 i j, (hs.2.1 j b1 b2).2, e3.symm, rfl⟩))
      · have hio := h5 _ (hs.2.1 j b1 b2).2
        have hlf := hg.2.1 (it1 i j / 52 - 1) e2 (by have := hio.2.1; have := hg.1; omega)
        exact (hbit _ hlf.1).mpr (Or.inl ((hp2.2 e e2).1 e3))
    by_cases hj : j = k
    · subst hj
      rw [g.1.2.1 j hk.1 hk.2]
      refine ⟨fun e => ?_, fun e e2 => ⟨fun _ => (hbit _ hlf.1).mpr (Or.inr rfl), fun e3 => absurd ho e3, fun e3 => absurd ho e3⟩⟩
      have := ntB_of e
      omega
    · have hj2 : j < my1 i := by omega
      rw [g.1.2.1 j a1 hj2]
      exact key j a1 hj2 (h4 j a1 (by omega) hj2)
  · rcases (g.2 c).mp hc with h6 | h6
    · exact h5 c h6
    · obtain ⟨c2, b1, b2, b3⟩ := (hq c).mp h6
      rw [b3]
      exact iok_13 hg (h5 _ b1) (by omega)
/-- an item that is complete over something -/
theorem ci_co {Q : Int → Prop} (hg : gOK nr lf ln bd) (hi : 0 ≤ i ∧ i < 13) (hL : CL lp nr lf ln bd lps i th) (h : CI lp nr lf ln bd lps i k it th my it1 th1 my1 em) (hk : 0 ≤ k ∧ k < my1 i) (hb : bc ln bd (it1 i k) = -1) (hr : 0 ≤ it1 i k / 52 - 1) (ho : it1 i k % 13 ≠ i) (g : GroQ i it1 th1 my1 it2 th2 my2 Q)
    (hq : (0 ≤ lps (it1 i k % 13) (lf (it1 i k / 52 - 1)) ∧ ∀ d, Q d ↔ d = lps (it1 i k % 13) (lf (it1 i k / 52 - 1))) ∨ (lps (it1 i k % 13) (lf (it1 i k / 52 - 1)) < 0 ∧ ∀ d, Q d ↔ ∃ c, th1 (it1 i k % 13) c = true ∧ bc ln bd c = lf (it1 i k / 52 - 1) ∧ d = c + 13)) : CI lp nr lf ln bd lps i (k + 1) it th my it2 th2 my2 em := by
  obtain ⟨h1, h2, h3, h4, h5⟩ := h
  have hs := h1.2.2.2.2 i hi.1 hi.2
  have hin := (hs.2.1 k hk.1 hk.2).2
  have hcc := (hs.2.1 k hk.1 hk.2).1
  have hio := h5 _ hin
  have hlf := hg.2.1 (it1 i k / 52 - 1) hr (by have := hio.2.1; have := hg.1; omega)
  have hoo : it1 i k % 13 < i := by have := hio.2.2.2; omega
  have hL1 := hL.gro h1
  have hlp := hL1.leap h1.2.2.2.2 hg (o := it1 i k % 13) (y := lf (it1 i k / 52 - 1)) (by omega) hi.2 hlf
  have hso := h1.2.2.2.2 (it1 i k % 13) (by omega) (by omega)
  refine ⟨h1.trans g.1, g.snd hi h2 (fun p hp => h1.off hp) (fun d hd => ?_), h3.gro g.1, fun j a1 a2 a3 => ?_, fun c hc => ?_⟩
  · rcases hq with ⟨q1, q2⟩ | ⟨q1, q2⟩
    · obtain ⟨l1, l2, l3⟩ := hlp.2 q1
      refine ⟨it1 i k, hcc, hin, Or.inr ⟨hb, hr, Or.inl ⟨l1, hoo, ?_, ?_⟩⟩⟩
      · rw [← l2]
        exact q1
      · rw [← l2]
        exact (q2 d).mp hd
    · obtain ⟨c, b1, b2, b3⟩ := (q2 d).mp hd
      refine ⟨it1 i k, hcc, hin, Or.inr ⟨hb, hr, Or.inr ⟨fun hh => ?_, c, (hso.code b1).1, (hso.code b1).2, ?_, b2, b3⟩⟩⟩
      · have := (hL1 _ (by omega) hoo).2 _ hlf.1 hlf.2
        rw [if_pos hh.1] at this
        omega
      · rw [tab_at th1 (hso.code b1)]
        exact b1
  · by_cases hj : j = k
    · subst hj
      rw [g.1.2.1 j hk.1 hk.2]
      refine ⟨fun e => ?_, fun e e2 => ⟨fun e3 => absurd e3 ho, fun _ e4 => ?_, fun _ e4 c2 e5 e6 => ?_⟩⟩
      · have := ntB_of e
        omega
      · rcases hq with ⟨q1, q2⟩ | ⟨q1, q2⟩
        · exact (g.2 _).mpr (Or.inr ((q2 _).mpr rfl))
        · omega
      · rcases hq with ⟨q1, q2⟩ | ⟨q1, q2⟩
        · omega
        · refine (g.2 _).mpr (Or.inr ((q2 _).mpr ⟨c2, ?_, e6, rfl⟩))
          rw [(g.1.1 _ ho).2.2] at e5
          exact e5
    · have hj2 : j < my1 i := by omega
      rw [g.1.2.1 j a1 hj2]
      exact (h4 j a1 (by omega) hj2).gro g.1
  · rcases (g.2 c).mp hc with h6 | h6
    · exact h5 c h6
    · rcases hq with ⟨q1, q2⟩ | ⟨q1, q2⟩
      · obtain ⟨l1, l2, l3⟩ := hlp.2 q1
        rw [(q2 c).mp h6]
        exact iok_up l3 (by omega)
      · obtain ⟨c2, b1, b2, b3⟩ := (q2 c).mp h6
        rw [b3]
        exact iok_up (iok_13 hg ((hL1 _ (by omega) hoo).1 c2 b1) (by omega)) (by omega)
/-- the end -/
theorem ci_end (hg : gOK nr lf ln bd) (hi : 0 ≤ i ∧ i < 13) (hL : CL lp nr lf ln bd lps i th) (h : CI lp nr lf ln bd lps i k it th my it1 th1 my1 em) (hk : my1 i ≤ k) : Clo lp nr lf ln bd i (tab th) (tab th1) := by
  obtain ⟨h1, h2, h3, h4, h5⟩ := h
  have hs := h1.2.2.2.2 i hi.1 hi.2
  have hL1 := hL.gro h1
  have prc : ∀ c, th1 i c = true → Prc nr lf ln bd lps th1 em i c := by
    intro c hc
    obtain ⟨j, b1, b2, b3⟩ := hs.2.2.1 c hc
    rw [← b3]
    exact h4 j b1 (by omega) b2
  refine ⟨fun p hp => h1.tab hp, fun p hp => h1.off hp, h2, fun c d a1 a2 a3 a4 => ?_⟩
  rw [tab_at th1 ⟨a1, a2⟩] at a3
  have hp := prc c a3
  have hio := h5 c a3
  have fin : th1 i d = true → tab th1 (572 * i + d) = true := fun h => ((tab_has hs).mp h).2
  apply fin
  rcases a4 with ⟨b1, q, b2, b3, b4, b5⟩ | ⟨b1, b2, b3⟩
  · rw [b5]
    exact (hp.1 b1).1 q b2 b3 b4
  · have hlf := hg.2.1 (c / 52 - 1) b2 (by have := hio.2.1; have := hg.1; omega)
    obtain ⟨p1, p2, p3⟩ := hp.2 b1 b2
    rcases b3 with ⟨e1, e2, e3, e4⟩ | ⟨e1, kk, e2, e3, e4, e5, e6⟩
    · have hl := (hL1 (c % 13) (by omega) e2).2 _ hlf.1 hlf.2
      rw [if_pos e1] at hl
      rw [e4, ← hl]
      exact p2 (by omega) (by omega)
    · rw [tab_at th1 ⟨e2, e3⟩] at e4
      rw [e6]
      by_cases ho : c % 13 = i
      · rw [ho] at e4
        exact ((prc kk e4).1 (ntB_t (by omega))).2 (by rw [e5]; exact p1 ho)
      · have hlt : c % 13 < i := by have := hio.2.2.2; omega
        have hl := (hL1 (c % 13) (by omega) hlt).2 _ hlf.1 hlf.2
        refine p3 ho ?_ kk e4 e5
        rw [hl]
        by_cases hlp : lp = true
        · rw [if_pos hlp]
          exact Int.not_le.mp (fun hh => e1 ⟨hlp, hlt, hh⟩)
        · rw [if_neg hlp]
          omega
end PC3
/-! one or two places of a count -/
theorem cnt_two {P : Int → Bool} {k a b : Int} (hk : 0 ≤ k) (ha : 0 ≤ a ∧ a < k) (hb : 0 ≤ b ∧ b < k) (hab : a ≠ b) (pa : P a = true) (pb : P b = true) : 2 ≤ cnt P k := by
  have h1 : cnt (fun _ => false) k < cnt (upI (fun _ => false) a true) k := cnt_lt hk (fun j _ _ h => by cases h) ha (by decide) (upI_self _ _ _)
  have h2 : cnt (upI (fun _ => false) a true) k < cnt P k := by
    refine cnt_lt hk (fun j _ _ h => ?_) hb ?_ pb
    · rw [upI_ap] at h
      split at h
      · rename_i e
        rw [e]
        exact pa
      · cases h
    · rw [upI_ne _ _ (fun e => hab e.symm)]
      decide
  have := cnt_rng (fun _ => false) hk
  omega
theorem cnt_one {P : Int → Bool} {k a : Int} (hk : 0 ≤ k) (ha : 0 ≤ a ∧ a < k) (pa : P a = true) (hu : ∀ b, 0 ≤ b → b < k → P b = true → b = a) : cnt P k = 1 ∧ fnd P k = a := by
  have e : cnt P k = 1 := by
    rw [cnt_congr (Q := upI (fun _ => false) a true) hk (fun j h1 h2 => ?_), cnt_up1 k hk ⟨ha.1, by decide⟩, if_pos ha.2, cnt_none hk (fun j _ _ h => by cases h)]
    · rfl
    · rw [upI_ap]
      by_cases hj : j = a
      · rw [if_pos hj, hj]
        exact pa
      · rw [if_neg hj]
        cases hp : P j with
        | false => rfl
        | true => exact absurd (hu j h1 h2 hp) hj
  have hf := fnd_of (P := P) hk (by omega)
  exact ⟨e, hu _ hf.2.1 hf.2.2 hf.1⟩
