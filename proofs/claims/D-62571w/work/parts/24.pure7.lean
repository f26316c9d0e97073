/-! sum and work in words -/
/-- while sum goes over the ways: what is left of them is rest -/
def SI (f : Int × Int × Int → Bool) (g : Int × Int × Int → Int) (ok : Int × Int × Int → Prop) (W0 : List (Int × Int × Int)) (al : Int) (rest : List (Int × Int × Int)) : Prop :=
  sumL f g al rest = sumL f g 0 W0 ∧ (0 ≤ al ∧ al ≤ 1000000000000) ∧ ((∀ q ∈ rest, f q = true → ok q) → ∀ q ∈ W0, f q = true → ok q) ∧ ∀ q ∈ rest, q ∈ W0
section P7
variable {f : Int × Int × Int → Bool} {g : Int × Int × Int → Int} {ok : Int × Int × Int → Prop} {W0 rest : List (Int × Int × Int)} {al z : Int} {q : Int × Int × Int}
theorem si_0 : SI f g ok W0 0 W0 := ⟨rfl, by omega, fun h => h, fun _ h => h⟩
theorem si_way (h : SI f g ok W0 al (q :: rest)) (hf : f q = true) (hk : ok q) (hz : z = g q) (h0 : 0 ≤ z) : SI f g ok W0 (cs al z) rest := by
  obtain ⟨h1, h2, h3, h4⟩ := h
  refine ⟨?_, cs_rng h2.1 h0, fun h => h3 (fun p hp hfp => ?_), fun p hp => h4 p (List.mem_cons_of_mem _ hp)⟩
  · rw [← h1, sumL_cons, if_pos hf, hz]
  · rcases List.mem_cons.mp hp with rfl | hp
    · exact hk
    · exact h p hp hfp
theorem si_no (h : SI f g ok W0 al (q :: rest)) (hf : f q = false) : SI f g ok W0 al rest := by
  obtain ⟨h1, h2, h3, h4⟩ := h
  refine ⟨?_, h2, fun h => h3 (fun p hp hfp => ?_), fun p hp => h4 p (List.mem_cons_of_mem _ hp)⟩
  · rw [← h1, sumL_cons, if_neg (by rw [hf]; decide)]
  · rcases List.mem_cons.mp hp with rfl | hp
    · rw [hf] at hfp
      cases hfp
    · exact h p hp hfp
theorem si_bad (h : SI f g ok W0 al (q :: rest)) (hf : f q = true) (hk : ¬ ok q) : ¬ ∀ q ∈ W0, f q = true → ok q := fun hh => hk (hh q (h.2.2.2 q List.mem_cons_self) hf)
theorem si_end (h : SI f g ok W0 al []) : (∀ q ∈ W0, f q = true → ok q) ∧ al = sumL f g 0 W0 := ⟨h.2.2.1 (fun p hp => by cases hp), h.1⟩
end P7
/-- what is left of the ways: of the rule r from the cuts (x, y) on if mo, then of the rules behind it -/
def rs (nr : Int) (lf ln : Int → Int) (s i j : Int) (mo : Bool) (r x y : Int) : List (Int × Int × Int) := (if mo = true then (sfx (ln r) j x y).map (fun p => (r, p)) else []) ++ wl nr lf ln s i j (r + 1)
section P7b
variable {nr : Int} {lf ln : Int → Int} {s i j r x y : Int}
theorem rs_nx {m : Bool} {x' y' : Int} (h : Nxt (ln r) j x y m x' y') (hx : x ≤ j) : rs nr lf ln s i j true r x y = (r, x, y) :: rs nr lf ln s i j m r x' y' := by
  unfold rs
  rw [if_pos rfl, sfx_nx h hx]
  cases m <;> rfl
theorem rs_in (h : r < nr) (hs : lf r = s) : wl nr lf ln s i j r = rs nr lf ln s i j true r i i := by
  rw [wl_eq h, if_pos hs]
  unfold rs
  rw [if_pos rfl]
theorem rs_out (h : r < nr) (hs : ¬ lf r = s) : wl nr lf ln s i j r = rs nr lf ln s i j false r x y := by
  rw [wl_eq h, if_neg hs]
  unfold rs
  rw [if_neg (by decide)]
theorem rs_f : rs nr lf ln s i j false r x y = wl nr lf ln s i j (r + 1) := by
  unfold rs
  rw [if_neg (by decide)]
  rfl
/-- the ways are such cuts -/
theorem wl_in {q : Int × Int × Int} (hg : ∀ r, 0 ≤ r → r < nr → 0 ≤ ln r ∧ ln r ≤ 3) (hij : 0 ≤ i ∧ i ≤ j ∧ j ≤ 12) (h : q ∈ wl nr lf ln s i j 0) : 0 ≤ q.1 ∧ q.1 < nr ∧ lf q.1 = s ∧ i ≤ q.2.1 ∧ q.2.1 ≤ q.2.2 ∧ q.2.2 ≤ j := by
  obtain ⟨h1, h2, h3, h4⟩ := wl_mem (nr - 0).toNat 0 rfl q h
  have hl := hg q.1 h1 h2
  have := sfx_mem (i := i) (by omega) ((j - i).toNat * 20 + (j - i).toNat) i i (Nat.le_refl _) (by omega) (by omega) q.2 h4
  exact ⟨h1, h2, h3, this⟩
end P7b
theorem sumL_congr {f : Int × Int × Int → Bool} {g g' : Int × Int × Int → Int} : ∀ (l : List (Int × Int × Int)) (a : Int), (∀ q ∈ l, f q = true → g q = g' q) → sumL f g a l = sumL f g' a l
  | [], a, _ => rfl
  | q :: l, a, h => by
    rw [sumL_cons, sumL_cons]
    have e : (if f q = true then cs a (g q) else a) = (if f q = true then cs a (g' q) else a) := by
      split
      · rename_i hf
        rw [h q List.mem_cons_self hf]
      · rfl
    rw [e]
    exact sumL_congr l _ (fun p hp => h p (List.mem_cons_of_mem _ hp))
theorem pV_congr {nu nu' : Int → Int → Int → Int} {ln : Int → Int} {bs : Int → Int → Int} {i j : Int} {q : Int × Int × Int} (hn : 0 ≤ ln q.1) (h : ∀ k, 0 ≤ k → k < ln q.1 → bs q.1 k < 8 → nu (bs q.1 k) (cutV (ln q.1) q.2.1 q.2.2 k i j) (cutV (ln q.1) q.2.1 q.2.2 (k + 1) i j) = nu' (bs q.1 k) (cutV (ln q.1) q.2.1 q.2.2 k i j) (cutV (ln q.1) q.2.1 q.2.2 (k + 1) i j)) : pV nu ln bs i j q = pV nu' ln bs i j q := by
  have key : ∀ m, 0 ≤ m → m ≤ ln q.1 → pVk nu ln bs i j q m = pVk nu' ln bs i j q m := by
    intro m hm
    refine int_ind (Q := fun m => m ≤ ln q.1 → pVk nu ln bs i j q m = pVk nu' ln bs i j q m) (fun _ => rfl) ?_ m hm
    intro k hk ih hle
    rw [pVk_s _ _ _ _ _ _ hk, pVk_s _ _ _ _ _ _ hk, ih (by omega)]
    split
    · rename_i hb
      rw [h k hk (by omega) hb]
    · rfl
  exact key _ hn (Int.le_refl _)
def okN (nr : Int) (lf ln bd tm : Int → Int) (dv ct : Int → Bool) (s i j : Int) : Prop := ∀ q ∈ wl nr lf ln s i j 0, wayT tm (dvT dv) ln (bsM bd) i j q = true → wOk (dvT ct) ln (bsM bd) i j q
def sumN (nr : Int) (lf ln bd tm : Int → Int) (dv : Int → Bool) (nu : Int → Int) (s i j : Int) : Int := sumL (wayT tm (dvT dv) ln (bsM bd) i j) (pV (nuT nu) ln (bsM bd) i j) 0 (wl nr lf ln s i j 0)
def CCl (nr : Int) (lf ln bd tm : Int → Int) (fd : Int) (dv U : Int → Bool) : Prop := ∀ s i j, 0 ≤ s → s ≤ 4 → 0 ≤ i → i ≤ j → j ≤ fd → okN nr lf ln bd tm dv U s i j → U (169 * s + 13 * i + j) = true
def CEq (nr : Int) (lf ln bd tm : Int → Int) (fd : Int) (dv ct : Int → Bool) (nu : Int → Int) : Prop := (∀ s i j, 0 ≤ s → s ≤ 4 → 0 ≤ i → i ≤ j → j ≤ fd → ct (169 * s + 13 * i + j) = true → okN nr lf ln bd tm dv ct s i j ∧ nu (169 * s + 13 * i + j) = sumN nr lf ln bd tm dv nu s i j) ∧ (∀ x, 0 ≤ x → x < 845 → ct x = true → 0 ≤ nu x ∧ nu x ≤ 1000000000000)
def CSn (nr : Int) (lf ln bd tm : Int → Int) (fd : Int) (dv ct : Int → Bool) : Prop := ∀ U, CCl nr lf ln bd tm fd dv U → ∀ k, ct k = true → U k = true
/-- all is counted that can be -/
def CntL (nr : Int) (lf ln bd tm : Int → Int) (fd : Int) (dv ct : Int → Bool) (nu : Int → Int) : Prop := CCl nr lf ln bd tm fd dv ct ∧ CEq nr lf ln bd tm fd dv ct nu ∧ CSn nr lf ln bd tm fd dv ct
def Wkd (nr : Int) (lf ln bd tm : Int → Int) (fd : Int) (dv ct : Int → Bool) (nu : Int → Int) : Prop := DerL nr lf ln bd tm fd dv ∧ CntL nr lf ln bd tm fd dv ct nu
/-- a pass of work up to (s, i, j) -/
def PW (nr : Int) (lf ln bd tm : Int → Int) (fd : Int) (dv ct0 ct1 : Int → Bool) (nu1 : Int → Int) (mo : Bool) (s i j : Int) : Prop :=
  (∀ k, ct0 k = true → ct1 k = true) ∧ CSn nr lf ln bd tm fd dv ct1 ∧ CEq nr lf ln bd tm fd dv ct1 nu1 ∧ (mo = false → ct1 = ct0 ∧ ∀ s' i' j', 0 ≤ s' → s' ≤ 4 → 0 ≤ i' → i' ≤ j' → j' ≤ fd → (s' < s ∨ (s' = s ∧ i' < i) ∨ (s' = s ∧ i' = i ∧ j' < j)) → okN nr lf ln bd tm dv ct0 s' i' j' → ct0 (169 * s' + 13 * i' + j') = true) ∧ (mo = true → cnt ct0 845 < cnt ct1 845)
section P7c
variable {nr fd s i j : Int} {lf ln bd tm : Int → Int} {dv ct ct0 ct1 : Int → Bool} {nu nu1 : Int → Int} {mo : Bool} {z : Int}
theorem okN_mono (h : ∀ k, ct k = true → ct1 k = true) (ho : okN nr lf ln bd tm dv ct s i j) : okN nr lf ln bd tm dv ct1 s i j := fun q hq hw k a1 a2 a3 => h _ (ho q hq hw k a1 a2 a3)
theorem pw_0 (h : CSn nr lf ln bd tm fd dv ct0) (he : CEq nr lf ln bd tm fd dv ct0 nu1) : PW nr lf ln bd tm fd dv ct0 ct0 nu1 false 0 0 0 := ⟨fun _ h => h, h, he, fun _ => ⟨rfl, fun s' i' j' a1 a2 a3 a4 a5 a6 => by omega⟩, (fun h => by cases h)⟩
theorem pw_move {s2 i2 j2 : Int} (h : PW nr lf ln bd tm fd dv ct0 ct1 nu1 mo s i j) (hm : ∀ s' i' j', 0 ≤ s' → s' ≤ 4 → 0 ≤ i' → i' ≤ j' → j' ≤ fd → (s' < s2 ∨ (s' = s2 ∧ i' < i2) ∨ (s' = s2 ∧ i' = i2 ∧ j' < j2)) → (s' < s ∨ (s' = s ∧ i' < i) ∨ (s' = s ∧ i' = i ∧ j' < j))) : PW nr lf ln bd tm fd dv ct0 ct1 nu1 mo s2 i2 j2 :=
  ⟨h.1, h.2.1, h.2.2.1, fun e => ⟨(h.2.2.2.1 e).1, fun s' i' j' a1 a2 a3 a4 a5 a6 => (h.2.2.2.1 e).2 s' i' j' a1 a2 a3 a4 a5 (hm s' i' j' a1 a2 a3 a4 a5 a6)⟩, h.2.2.2.2⟩
theorem pw_skip (h : PW nr lf ln bd tm fd dv ct0 ct1 nu1 mo s i j) (hk : ct1 (169 * s + 13 * i + j) = true ∨ ¬ okN nr lf ln bd tm dv ct1 s i j) : PW nr lf ln bd tm fd dv ct0 ct1 nu1 mo s i (j + 1) := by
  refine ⟨h.1, h.2.1, h.2.2.1, fun e => ⟨(h.2.2.2.1 e).1, fun s' i' j' a1 a2 a3 a4 a5 a6 a7 => ?_⟩, h.2.2.2.2⟩
  by_cases hh : s' = s ∧ i' = i ∧ j' = j
  · obtain ⟨rfl, rfl, rfl⟩ := hh
    have e1 := (h.2.2.2.1 e).1
    rw [e1] at hk
    rcases hk with hk | hk
    · exact hk
    · exact absurd a7 hk
  · exact (h.2.2.2.1 e).2 s' i' j' a1 a2 a3 a4 a5 (by omega) a7
theorem pw_set (h : PW nr lf ln bd tm fd dv ct0 ct1 nu1 mo s i j) (hg : gOK nr lf ln bd) (hs : 0 ≤ s ∧ s ≤ 4) (hij : 0 ≤ i ∧ i ≤ j ∧ j ≤ fd ∧ fd ≤ 12) (hk : ct1 (169 * s + 13 * i + j) = false) (ho : okN nr lf ln bd tm dv ct1 s i j) (hz : z = sumN nr lf ln bd tm dv nu1 s i j) (hzr : 0 ≤ z ∧ z ≤ 1000000000000) :
    PW nr lf ln bd tm fd dv ct0 (upI ct1 (169 * s + 13 * i + j) true) (upI nu1 (169 * s + 13 * i + j) z) true s i (j + 1) := by
  have hg1 := hg.1
  have hup : ∀ k, ct1 k = true → upI ct1 (169 * s + 13 * i + j) true k = true := fun k hk => by
    unfold upI
    split
    · rfl
    · exact hk
  have hsame : ∀ k, ct1 k = true → upI nu1 (169 * s + 13 * i + j) z k = nu1 k := fun k h2 => upI_ne _ _ (fun e => by rw [e, hk] at h2; cases h2)
  have hsum : ∀ s' i' j', 0 ≤ i' → i' ≤ j' → j' ≤ fd → okN nr lf ln bd tm dv ct1 s' i' j' → sumN nr lf ln bd tm dv (upI nu1 (169 * s + 13 * i + j) z) s' i' j' = sumN nr lf ln bd tm dv nu1 s' i' j' := by
    intro s' i' j' b1 b2 b3 ho'
    refine sumL_congr _ _ (fun q hq hw => ?_)
    have hl := wl_in (fun r h1 h2 => hg.2.2.1 r h1 (by omega)) (by omega) hq
    exact pV_congr (hg.2.2.1 q.1 (by omega) (by omega)).1 (fun k a1 a2 a3 => hsame _ (ho' q hq hw k a1 a2 a3))
  refine ⟨fun k hk => hup k (h.1 k hk), fun U hU k hk => ?_, ⟨fun s' i' j' a1 a2 a3 a4 a5 a6 => ?_, fun x a1 a2 a3 => ?_⟩, (fun h => by cases h), fun _ => ?_⟩
  · unfold upI at hk
    split at hk
    · rename_i e
      rw [e]
      exact hU s i j (by omega) (by omega) (by omega) (by omega) (by omega) (okN_mono (h.2.1 U hU) ho)
    · exact h.2.1 U hU k hk
  · by_cases hx : 169 * s' + 13 * i' + j' = 169 * s + 13 * i + j
    · have e1 : s' = s := by omega
      have e2 : i' = i := by omega
      have e3 : j' = j := by omega
      subst e1; subst e2; subst e3
      refine ⟨okN_mono hup ho, ?_⟩
      rw [upI_self, hsum _ _ _ a3 a4 a5 ho]
      exact hz
    · rw [upI_ne _ _ hx] at a6 ⊢
      obtain ⟨b1, b2⟩ := h.2.2.1.1 s' i' j' a1 a2 a3 a4 a5 a6
      exact ⟨okN_mono hup b1, by rw [hsum _ _ _ a3 a4 a5 b1]; exact b2⟩
  · by_cases hx : x = 169 * s + 13 * i + j
    · rw [hx, upI_self]
      exact hzr
    · rw [upI_ne _ _ hx] at a3 ⊢
      exact h.2.2.1.2 x a1 a2 a3
  · have h1 : cnt ct0 845 ≤ cnt ct1 845 := cnt_le (by omega) (fun k _ _ => h.1 k)
    have h2 : cnt ct1 845 < cnt (upI ct1 (169 * s + 13 * i + j) true) 845 := cnt_lt (by omega) (fun k _ _ => hup k) (c := 169 * s + 13 * i + j) (by omega) (by rw [hk]; decide) (upI_self _ _ _)
    omega
theorem pw_cl (h : PW nr lf ln bd tm fd dv ct0 ct1 nu1 mo s i j) (hs : 5 ≤ s) (hm : mo = false) : CCl nr lf ln bd tm fd dv ct1 := by
  obtain ⟨e, h2⟩ := h.2.2.2.1 hm
  rw [e]
  exact fun s' i' j' a1 a2 a3 a4 a5 a6 => h2 s' i' j' a1 a2 a3 a4 a5 (by omega) a6
theorem pw_mu (h : PW nr lf ln bd tm fd dv ct0 ct1 nu1 mo s i j) : (845 - cnt ct1 845).toNat + (if mo = true then 1 else 0) < (845 - cnt ct0 845).toNat + (if true = true then 1 else 0) := by
  have h1 := cnt_rng ct0 (show (0 : Int) ≤ 845 by omega)
  have h2 := cnt_rng ct1 (show (0 : Int) ≤ 845 by omega)
  cases mo with
  | false =>
    rw [(h.2.2.2.1 rfl).1]
    simp
  | true =>
    have := h.2.2.2.2 rfl
    simp
    omega
end P7c
