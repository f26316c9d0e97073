/-! counting the trees of one stretch, given all others: in words -/
def ctM (tr : Int → Int → Int → Int) : Int → Int → Int → Bool := fun s a b => decide (tr b a s ≠ -1)
def nuI (nu : Int → Int → Int → Int) (i j : Int) (T : Int → Int) : Int → Int → Int → Int := fun s a b => if a = i ∧ b = j then T s else nu s a b
def trI (tr : Int → Int → Int → Int) (i j : Int) (T : Int → Int) : Int → Int → Int → Int := upI tr j (upI (tr j) i T)
theorem nuM_trI (tr : Int → Int → Int → Int) (i j : Int) (T : Int → Int) : nuM (trI tr i j T) = nuI (nuM tr) i j T := by
  funext s a b
  unfold nuM trI nuI
  rw [upI_ap]
  by_cases hb : b = j
  · rw [if_pos hb, upI_ap]
    by_cases ha : a = i
    · rw [if_pos ha, if_pos ⟨ha, hb⟩]
    · rw [if_neg ha, if_neg (fun h => ha h.1), hb]
  · rw [if_neg hb, if_neg (fun h => hb h.2)]
theorem trI_up (tr : Int → Int → Int → Int) (i j : Int) (T : Int → Int) (s z : Int) : upI (trI tr i j T) j (upI (trI tr i j T j) i (upI (trI tr i j T j i) s z)) = trI tr i j (upI T s z) := by
  unfold trI
  rw [upI_up, upI_self, upI_up, upI_self]
theorem trI_id (tr : Int → Int → Int → Int) (i j : Int) : trI tr i j (tr j i) = tr := by
  unfold trI
  rw [upI_id rfl, upI_id rfl]
def cT (T : Int → Int) : Int → Bool := fun s => decide (T s ≠ -1)
def okQ (nr : Int) (lf ln bd tm : Int → Int) (dv ct : Int → Int → Int → Bool) (s i j : Int) : Prop := ∀ q ∈ wl nr lf ln s i j 0, wayT tm dv ln (bsM bd) i j q = true → wOk ct ln (bsM bd) i j q
def sumT (nr : Int) (lf ln bd tm : Int → Int) (dv : Int → Int → Int → Bool) (nu : Int → Int → Int → Int) (s i j : Int) : Int := sumL (wayT tm dv ln (bsM bd) i j) (pV nu ln (bsM bd) i j) 0 (wl nr lf ln s i j 0)
def LClC (nr : Int) (lf ln bd tm : Int → Int) (dv ct : Int → Int → Int → Bool) (i j : Int) (X : Int → Bool) : Prop := ∀ s, 0 ≤ s → s ≤ 4 → okQ nr lf ln bd tm dv (dvI ct i j X) s i j → X s = true
/-- the row T holds the numbers of trees of the stretch i .. j -/
def LCnt (nr : Int) (lf ln bd tm : Int → Int) (dv : Int → Int → Int → Bool) (tr : Int → Int → Int → Int) (i j : Int) (T : Int → Int) : Prop :=
  LClC nr lf ln bd tm dv (ctM tr) i j (cT T) ∧ (∀ Y, LClC nr lf ln bd tm dv (ctM tr) i j Y → ∀ s, 0 ≤ s → s ≤ 4 → cT T s = true → Y s = true) ∧
  ∀ s, 0 ≤ s → s ≤ 4 → T s = -1 ∨ ((0 ≤ T s ∧ T s ≤ 1000000000000) ∧ T s = sumT nr lf ln bd tm dv (nuI (nuM tr) i j T) s i j ∧ okQ nr lf ln bd tm dv (dvI (ctM tr) i j (cT T)) s i j)
section PT1
variable {nr : Int} {lf ln bd tm : Int → Int} {dv : Int → Int → Int → Bool} {tr : Int → Int → Int → Int} {i j s : Int}
/-- what nearOf has noted -/
def N0f (nr : Int) (lf ln bd tm : Int → Int) (dv : Int → Int → Int → Bool) (tr : Int → Int → Int → Int) (i j : Int) (s y : Int) : Prop := ∃ q ∈ wl nr lf ln s i j 0, wayT tm dv ln (bsM bd) i j q = true ∧ ∃ k, NB ln bd tr i j q k y
theorem n0_bits (hg : gOK nr lf ln bd) (hij : 0 ≤ i ∧ i ≤ j ∧ j ≤ 12) {y : Int} (h : N0f nr lf ln bd tm dv tr i j s y) : y ≤ 4 ∨ y = 30 := by
  obtain ⟨q, h1, h2, k, h3, h4, h5⟩ := h
  rcases h5 with ⟨-, -, e⟩ | ⟨-, -, e⟩
  · left
    rw [e]
    exact h4
  · exact Or.inr e
theorem ok_iff (hg : gOK nr lf ln bd) (hij : 0 ≤ i ∧ i ≤ j ∧ j ≤ 12) {X : Int → Bool} : okQ nr lf ln bd tm dv (dvI (ctM tr) i j X) s i j ↔ ¬ N0f nr lf ln bd tm dv tr i j s 30 ∧ ∀ t, 0 ≤ t → t ≤ 4 → N0f nr lf ln bd tm dv tr i j s t → X t = true := by
  have body : ∀ q ∈ wl nr lf ln s i j 0, ∀ k, 0 ≤ k → k < ln q.1 → bsM bd q.1 k < 8 → 0 ≤ bsM bd q.1 k ∧ bsM bd q.1 k ≤ 4 := by
    intro q hq k a b c
    obtain ⟨w1, w2, -⟩ := wl_in (fun r a b => hg.2.2.1 r a (by have := hg.1; omega)) hij hq
    have hl := hg.2.2.1 q.1 w1 (by have := hg.1; omega)
    have h1 := hg.2.2.2.1 (3 * q.1 + k) (by omega) (by have := hg.1; omega)
    have h2 := hg.2.2.2.2 q.1 k w1 w2 a b
    have hb : bsM bd q.1 k = bd (3 * q.1 + k) := rfl
    omega
  constructor
  · intro h
    refine ⟨?_, ?_⟩
    · rintro ⟨q, h1, h2, k, h3, h4, h5⟩
      rcases h5 with ⟨-, -, e⟩ | ⟨e1, e2, -⟩
      · omega
      · have := h q h1 h2 k h3.1 h3.2 (by omega)
        unfold dvI at this
        rw [if_neg e1] at this
        exact of_decide_eq_true this e2
    · rintro t t1 t2 ⟨q, h1, h2, k, h3, h4, h5⟩
      rcases h5 with ⟨e1, e2, e3⟩ | ⟨-, -, e⟩
      · have := h q h1 h2 k h3.1 h3.2 (by omega)
        unfold dvI at this
        rw [if_pos ⟨e1, e2⟩, ← e3] at this
        exact this
      · omega
  · rintro ⟨h1, h2⟩ q hq hw k a b c
    have hb := body q hq k a b c
    unfold dvI
    by_cases e : cutV (ln q.1) q.2.1 q.2.2 k i j = i ∧ cutV (ln q.1) q.2.1 q.2.2 (k + 1) i j = j
    · rw [if_pos e]
      exact h2 _ hb.1 hb.2 ⟨q, hq, hw, k, ⟨a, b⟩, hb.2, Or.inl ⟨e.1, e.2, rfl⟩⟩
    · rw [if_neg e]
      refine decide_eq_true fun e2 => h1 ⟨q, hq, hw, k, ⟨a, b⟩, hb.2, Or.inr ⟨e, e2, rfl⟩⟩
/-- a sum asks only for the kids -/
theorem sumT_congr (hg : gOK nr lf ln bd) (hij : 0 ≤ i ∧ i ≤ j ∧ j ≤ 12) {T T' : Int → Int} (h : ∀ t, 0 ≤ t → t ≤ 4 → N0f nr lf ln bd tm dv tr i j s t → T t = T' t) : sumT nr lf ln bd tm dv (nuI (nuM tr) i j T) s i j = sumT nr lf ln bd tm dv (nuI (nuM tr) i j T') s i j := by
  refine sumL_congr _ _ (fun q hq hw => ?_)
  obtain ⟨w1, w2, -⟩ := wl_in (fun r a b => hg.2.2.1 r a (by have := hg.1; omega)) hij hq
  have hl := hg.2.2.1 q.1 w1 (by have := hg.1; omega)
  refine pV_congr hl.1 (fun k a b c => ?_)
  have h1 := hg.2.2.2.1 (3 * q.1 + k) (by omega) (by have := hg.1; omega)
  have h2 := hg.2.2.2.2 q.1 k w1 w2 a b
  have hb : bsM bd q.1 k = bd (3 * q.1 + k) := rfl
  unfold nuI
  by_cases e : cutV (ln q.1) q.2.1 q.2.2 k i j = i ∧ cutV (ln q.1) q.2.1 q.2.2 (k + 1) i j = j
  · rw [if_pos e, if_pos e]
    exact h _ (by omega) (by omega) ⟨q, hq, hw, k, ⟨a, b⟩, by omega, Or.inl ⟨e.1, e.2, rfl⟩⟩
  · rw [if_neg e, if_neg e]
end PT1
/-- those with endless many trees -/
def EnA (ne : Int → Int) (e s : Int) : Prop := bit e s = true ∨ ∃ t, (0 ≤ t ∧ t ≤ 4) ∧ bS (ne s) t ∧ bit e t = true
def EnE (ne : Int → Int) (e : Int) : Prop := (0 ≤ e ∧ e ≤ 31) ∧ ∀ s, 0 ≤ s → s ≤ 4 → (bit e s = true ↔ bS (ne s) s ∨ bS (ne s) 30)
def rkN (ne : Int → Int) (s : Int) : Int := cnt (bit (ne s)) 5
/-- while countAll's last loops go -/
def CP (nr : Int) (lf ln bd tm : Int → Int) (dv : Int → Int → Int → Bool) (tr : Int → Int → Int → Int) (i j : Int) (ne : Int → Int) (e d : Int) (T : Int → Int) (n s : Int) : Prop :=
  (0 ≤ d ∧ d ≤ 31) ∧ (∀ x, 0 ≤ x → x ≤ 4 → EnA ne e x → bit d x = true ∧ T x = -1) ∧
  (∀ x, 0 ≤ x → x ≤ 4 → ¬ EnA ne e x → bit d x = true → (0 ≤ T x ∧ T x ≤ 1000000000000) ∧ (∀ t, 0 ≤ t → t ≤ 4 → bS (ne x) t → bit d t = true) ∧ T x = sumT nr lf ln bd tm dv (nuI (nuM tr) i j T) x i j) ∧
  (∀ Y, LClC nr lf ln bd tm dv (ctM tr) i j Y → ∀ x, 0 ≤ x → x ≤ 4 → ¬ EnA ne e x → bit d x = true → Y x = true) ∧
  (∀ x, 0 ≤ x → x ≤ 4 → ¬ EnA ne e x → rkN ne x < n → bit d x = true) ∧ ∀ x, 0 ≤ x → x < s → ¬ EnA ne e x → rkN ne x ≤ n → bit d x = true
section PT2
variable {nr : Int} {lf ln bd tm : Int → Int} {dv : Int → Int → Int → Bool} {tr : Int → Int → Int → Int} {i j s n e d z : Int} {ne T : Int → Int}
/-- near those that are not endless none is endless, and all that is near has a lower rank -/
theorem en_near (hN : NRs (N0f nr lf ln bd tm dv tr i j) ne) (hE : EnE ne e) (hs : 0 ≤ s ∧ s ≤ 4) (ha : ¬ EnA ne e s) {t : Int} (ht : 0 ≤ t ∧ t ≤ 4) (h : bS (ne s) t) : ¬ EnA ne e t ∧ rkN ne t < rkN ne s := by
  have hna : ¬ EnA ne e t := by
    rintro (g | ⟨u, g1, g2, g3⟩)
    · exact ha (Or.inr ⟨t, ht, h, g⟩)
    · exact ha (Or.inr ⟨u, g1, hN.2.2.1 s t u hs ht h g2, g3⟩)
  refine ⟨hna, cnt_lt (by omega) (fun y a b g => (hN.2.2.1 s t y hs ht h ⟨a, g⟩).2) (c := t) (by omega) (fun g => ?_) h.2⟩
  exact hna (Or.inl ((hE.2 t ht.1 ht.2).mpr (Or.inl ⟨ht.1, g⟩)))
theorem cp_0 (hd : 0 ≤ d ∧ d ≤ 31) (h : ∀ x, 0 ≤ x → x ≤ 4 → (bit d x = true ↔ EnA ne e x) ∧ (EnA ne e x → T x = -1)) : CP nr lf ln bd tm dv tr i j ne e d T 0 0 := by
  refine ⟨hd, fun x a b c => ⟨(h x a b).1.mpr c, (h x a b).2 c⟩, fun x a b c g => absurd ((h x a b).1.mp g) c, fun Y _ x a b c g => absurd ((h x a b).1.mp g) c, fun x a b c g => ?_, fun x a b => by omega⟩
  have : 0 ≤ rkN ne x := (cnt_rng _ (by omega)).1
  omega
/-- not counted now -/
theorem cp_no (hN : NRs (N0f nr lf ln bd tm dv tr i j) ne) (hE : EnE ne e) (h : CP nr lf ln bd tm dv tr i j ne e d T n s) (hs : 0 ≤ s ∧ s ≤ 4) (hc : bit d s = true ∨ ∃ t, (0 ≤ t ∧ t ≤ 4) ∧ bS (ne s) t ∧ ¬ bit d t = true) : CP nr lf ln bd tm dv tr i j ne e d T n (s + 1) := by
  obtain ⟨h1, h2, h3, h4, h5, h6⟩ := h
  refine ⟨h1, h2, h3, h4, h5, fun x a b c g => ?_⟩
  by_cases hx : x = s
  · rw [hx] at c g ⊢
    rcases hc with hc | ⟨t, t1, t2, t3⟩
    · exact hc
    · obtain ⟨k1, k2⟩ := en_near hN hE hs c t1 t2
      exact absurd (h5 t t1.1 t1.2 k1 (by omega)) t3
  · exact h6 x a (by omega) c g
/-- counted now -/
theorem cp_yes (hg : gOK nr lf ln bd) (hij : 0 ≤ i ∧ i ≤ j ∧ j ≤ 12) (hN : NRs (N0f nr lf ln bd tm dv tr i j) ne) (hE : EnE ne e) (h : CP nr lf ln bd tm dv tr i j ne e d T n s) (hs : 0 ≤ s ∧ s ≤ 4) (hb : ¬ bit d s = true) (hc : ∀ t, 0 ≤ t → t ≤ 4 → bS (ne s) t → bit d t = true) (hz : z = sumT nr lf ln bd tm dv (nuI (nuM tr) i j T) s i j) (hzr : 0 ≤ z ∧ z ≤ 1000000000000) : CP nr lf ln bd tm dv tr i j ne e (orI d (p2 s)) (upI T s z) n (s + 1) := by
  obtain ⟨h1, h2, h3, h4, h5, h6⟩ := h
  have hna : ¬ EnA ne e s := fun g => hb (h2 s hs.1 hs.2 g).1
  have hbit : ∀ y, 0 ≤ y → (bit (orI d (p2 s)) y = true ↔ bit d y = true ∨ y = s) := by
    intro y hy
    rw [bit_or, bit_p2 hs.1 hy, Bool.or_eq_true, decide_eq_true_iff, eq_comm (a := s)]
  have n0ne : ∀ x t, (0 ≤ x ∧ x ≤ 4) → N0f nr lf ln bd tm dv tr i j x t → bS (ne x) t := hN.2.1
  -- the sums of those that were counted before stay
  have keep : ∀ x, 0 ≤ x → x ≤ 4 → (∀ t, 0 ≤ t → t ≤ 4 → bS (ne x) t → bit d t = true) → sumT nr lf ln bd tm dv (nuI (nuM tr) i j (upI T s z)) x i j = sumT nr lf ln bd tm dv (nuI (nuM tr) i j T) x i j := by
    intro x a b g
    refine sumT_congr hg hij (fun t t1 t2 t3 => ?_)
    rw [upI_ne _ _ (fun q => hb (by rw [← q]; exact g t t1 t2 (n0ne x t ⟨a, b⟩ t3)))]
  refine ⟨orI_31 h1 (by have := p2_31 hs; omega), fun x a b c => ?_, fun x a b c g => ?_, fun Y hY x a b c g => ?_, fun x a b c g => (hbit x a).mpr (Or.inl (h5 x a b c g)), fun x a b c g => ?_⟩
  · have hxs : x ≠ s := fun q => hna (by rw [← q]; exact c)
    rw [upI_ne _ _ hxs]
    exact ⟨(hbit x a).mpr (Or.inl (h2 x a b c).1), (h2 x a b c).2⟩
  · by_cases hx : x = s
    · rw [hx, upI_self, keep s hs.1 hs.2 hc]
      exact ⟨hzr, fun t t1 t2 t3 => (hbit t t1).mpr (Or.inl (hc t t1 t2 t3)), hz⟩
    · obtain ⟨k1, k2, k3⟩ := h3 x a b c (((hbit x a).mp g).resolve_right hx)
      rw [upI_ne _ _ hx, keep x a b k2]
      exact ⟨k1, fun t t1 t2 t3 => (hbit t t1).mpr (Or.inl (k2 t t1 t2 t3)), k3⟩
  · by_cases hx : x = s
    · rw [hx]
      refine hY s hs.1 hs.2 ((ok_iff hg hij).mpr ⟨fun q => hna (Or.inl ((hE.2 s hs.1 hs.2).mpr (Or.inr (n0ne s 30 hs q)))), fun t t1 t2 t3 => ?_⟩)
      have t4 := n0ne s t hs t3
      exact h4 Y hY t t1 t2 (en_near hN hE hs hna ⟨t1, t2⟩ t4).1 (hc t t1 t2 t4)
    · exact h4 Y hY x a b c (((hbit x a).mp g).resolve_right hx)
  · by_cases hx : x = s
    · exact (hbit x a).mpr (Or.inr hx)
    · exact (hbit x a).mpr (Or.inl (h6 x a (by omega) c g))
theorem cp_s (h : CP nr lf ln bd tm dv tr i j ne e d T n s) (hs : s = 5) : CP nr lf ln bd tm dv tr i j ne e d T (n + 1) 0 := by
  obtain ⟨h1, h2, h3, h4, h5, h6⟩ := h
  exact ⟨h1, h2, h3, h4, fun x a b c g => h6 x a (by omega) c (by omega), fun x a b => by omega⟩
/-- what counted asks for -/
theorem cp_kids (hN : NRs (N0f nr lf ln bd tm dv tr i j) ne) (hE : EnE ne e) (hg : gOK nr lf ln bd) (hij : 0 ≤ i ∧ i ≤ j ∧ j ≤ 12) (htr : TrR tr) (h : CP nr lf ln bd tm dv tr i j ne e d T n s) (hs : 0 ≤ s ∧ s ≤ 4) (hb : ¬ bit d s = true) (hc : ∀ t, 0 ≤ t → t ≤ 4 → bS (ne s) t → bit d t = true) :
    ∀ q ∈ wl nr lf ln s i j 0, wayT tm dv ln (bsM bd) i j q = true → ∀ k, 0 ≤ k → k < ln q.1 → bsM bd q.1 k < 8 → 0 ≤ nuM (trI tr i j T) (bsM bd q.1 k) (cutV (ln q.1) q.2.1 q.2.2 k i j) (cutV (ln q.1) q.2.1 q.2.2 (k + 1) i j) ∧ nuM (trI tr i j T) (bsM bd q.1 k) (cutV (ln q.1) q.2.1 q.2.2 k i j) (cutV (ln q.1) q.2.1 q.2.2 (k + 1) i j) ≤ 1000000000000 := by
  intro q hq hw k a b c
  have hna : ¬ EnA ne e s := fun g => hb (h.2.1 s hs.1 hs.2 g).1
  obtain ⟨w1, w2, w3, w4⟩ := wl_in (fun r a b => hg.2.2.1 r a (by have := hg.1; omega)) hij hq
  have hl := hg.2.2.1 q.1 w1 (by have := hg.1; omega)
  have h1 := hg.2.2.2.1 (3 * q.1 + k) (by omega) (by have := hg.1; omega)
  have h2 := hg.2.2.2.2 q.1 k w1 w2 a b
  have hbb : bsM bd q.1 k = bd (3 * q.1 + k) := rfl
  have r1 := cutV_rng (n := ln q.1) (k := k) w4
  have r2 := cutV_rng (n := ln q.1) (k := k + 1) w4
  have r3 := cutV_mono (k := k) w4 hl.2 ⟨a, b⟩
  rw [nuM_trI]
  unfold nuI
  by_cases e9 : cutV (ln q.1) q.2.1 q.2.2 k i j = i ∧ cutV (ln q.1) q.2.1 q.2.2 (k + 1) i j = j
  · rw [if_pos e9]
    have n1 : bS (ne s) (bsM bd q.1 k) := hN.2.1 s _ hs ⟨q, hq, hw, k, ⟨a, b⟩, by omega, Or.inl ⟨e9.1, e9.2, rfl⟩⟩
    have n2 := en_near hN hE hs hna (t := bsM bd q.1 k) (by omega) n1
    exact (h.2.2.1 _ (by omega) (by omega) n2.1 (hc _ (by omega) (by omega) n1)).1
  · rw [if_neg e9]
    have n1 := htr (cutV (ln q.1) q.2.1 q.2.2 (k + 1) i j) (cutV (ln q.1) q.2.1 q.2.2 k i j) (bsM bd q.1 k) (by omega) (by omega) (by omega) (by omega) (by omega)
    have n2 : nuM tr (bsM bd q.1 k) (cutV (ln q.1) q.2.1 q.2.2 k i j) (cutV (ln q.1) q.2.1 q.2.2 (k + 1) i j) ≠ -1 := fun n3 => hna (Or.inl ((hE.2 s hs.1 hs.2).mpr (Or.inr (hN.2.1 s 30 hs ⟨q, hq, hw, k, ⟨a, b⟩, by omega, Or.inr ⟨e9, n3, rfl⟩⟩))))
    have n4 : nuM tr (bsM bd q.1 k) (cutV (ln q.1) q.2.1 q.2.2 k i j) (cutV (ln q.1) q.2.1 q.2.2 (k + 1) i j) = tr (cutV (ln q.1) q.2.1 q.2.2 (k + 1) i j) (cutV (ln q.1) q.2.1 q.2.2 k i j) (bsM bd q.1 k) := rfl
    omega
theorem cp_end (hg : gOK nr lf ln bd) (hij : 0 ≤ i ∧ i ≤ j ∧ j ≤ 12) (hN : NRs (N0f nr lf ln bd tm dv tr i j) ne) (hE : EnE ne e) (h : CP nr lf ln bd tm dv tr i j ne e d T 5 0) : LCnt nr lf ln bd tm dv tr i j T := by
  obtain ⟨h1, h2, h3, h4, h5, -⟩ := h
  have all : ∀ x, 0 ≤ x → x ≤ 4 → ¬ EnA ne e x → bit d x = true := by
    intro x a b c
    refine h5 x a b c ?_
    have : rkN ne x < cnt (fun _ => true) 5 := cnt_lt (by omega) (fun _ _ _ _ => rfl) (c := x) (by omega) (fun g => c (Or.inl ((hE.2 x a b).mpr (Or.inl ⟨a, g⟩)))) rfl
    have := cnt_rng (fun _ => true) (show (0 : Int) ≤ 5 by omega)
    omega
  have cA : ∀ x, 0 ≤ x → x ≤ 4 → (cT T x = true ↔ ¬ EnA ne e x) := by
    intro x a b
    refine ⟨fun g c => of_decide_eq_true g (h2 x a b c).2, fun g => decide_eq_true fun c => ?_⟩
    have := (h3 x a b g (all x a b g)).1
    omega
  refine ⟨fun s a b g => (cA s a b).mpr fun ha => ?_, fun Y hY s a b g => ?_, fun s a b => ?_⟩
  · obtain ⟨g1, g2⟩ := (ok_iff hg hij).mp g
    have kid : ∀ t, (0 ≤ t ∧ t ≤ 4) → N0f nr lf ln bd tm dv tr i j s t → ¬ EnA ne e t := fun t ht n0 => (cA t ht.1 ht.2).mp (g2 t ht.1 ht.2 n0)
    have hs : 0 ≤ s ∧ s ≤ 4 := ⟨a, b⟩
    rcases ha with ha | ⟨u, u1, u2, u3⟩
    · rcases (hE.2 s a b).mp ha with m | m
      · rcases hN.2.2.2.1 s s hs m with m | ⟨t, t1, t2, t3⟩
        · exact kid s hs m (Or.inl ha)
        · exact kid t t1 t2 (Or.inl ((hE.2 t t1.1 t1.2).mpr (Or.inl (hN.2.2.1 t s t t1 hs t3 (hN.2.1 s t hs t2)))))
      · rcases hN.2.2.2.1 s 30 hs m with m | ⟨t, t1, t2, t3⟩
        · exact g1 m
        · exact kid t t1 t2 (Or.inl ((hE.2 t t1.1 t1.2).mpr (Or.inr t3)))
    · rcases hN.2.2.2.1 s u hs u2 with m | ⟨t, t1, t2, t3⟩
      · exact kid u u1 m (Or.inl u3)
      · exact kid t t1 t2 (Or.inr ⟨u, u1, t3, u3⟩)
  · exact h4 Y hY s a b ((cA s a b).mp g) (all s a b ((cA s a b).mp g))
  · by_cases ha : EnA ne e s
    · exact Or.inl (h2 s a b ha).2
    · obtain ⟨k1, k2, k3⟩ := h3 s a b ha (all s a b ha)
      refine Or.inr ⟨k1, k3, (ok_iff hg hij).mpr ⟨fun q => ha (Or.inl ((hE.2 s a b).mpr (Or.inr (hN.2.1 s 30 ⟨a, b⟩ q)))), fun t t1 t2 t3 => (cA t t1 t2).mpr ?_⟩⟩
      exact (en_near hN hE ⟨a, b⟩ ha ⟨t1, t2⟩ (hN.2.1 s t ⟨a, b⟩ t3)).1
end PT2
