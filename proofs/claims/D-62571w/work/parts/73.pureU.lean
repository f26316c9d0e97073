/-! both sides agree on what is derived and counted -/
/-- a table of three numbers as the reference keeps it -/
def tbI {α : Type} (f : Int → Int → Int → α) : Int → α := fun k => f (k / 169) (k % 169 / 13) (k % 13)
theorem tbI_at {α : Type} (f : Int → Int → Int → α) {s i j : Int} (hs : 0 ≤ s ∧ s ≤ 4) (hi : 0 ≤ i ∧ i ≤ 12) (hj : 0 ≤ j ∧ j ≤ 12) : tbI f (169 * s + 13 * i + j) = f s i j := by
  unfold tbI
  rw [show (169 * s + 13 * i + j) / 169 = s by omega, show (169 * s + 13 * i + j) % 169 / 13 = i by omega, show (169 * s + 13 * i + j) % 13 = j by omega]
theorem dvI_self {dv : Int → Int → Int → Bool} {i j : Int} {X : Int → Bool} (h : ∀ t, X t = dv t i j) : dvI dv i j X = dv := by
  funext t a b
  unfold dvI
  split
  · rename_i e
    rw [e.1, e.2]
    exact h t
  · rfl
theorem nuI_self {nu : Int → Int → Int → Int} {i j : Int} {X : Int → Int} (h : ∀ t, X t = nu t i j) : nuI nu i j X = nu := by
  funext t a b
  unfold nuI
  split
  · rename_i e
    rw [e.1, e.2]
    exact h t
  · rfl
theorem dvI_mk (mk : Int → Int → Int) (i j : Int) : dvI (dvM mk) i j (bit (mk j i)) = dvM mk := dvI_self (fun _ => rfl)
theorem dvI_ct (tr : Int → Int → Int → Int) (i j : Int) : dvI (ctM tr) i j (cT (tr j i)) = ctM tr := dvI_self (fun _ => rfl)
theorem nuI_tr (tr : Int → Int → Int → Int) (i j : Int) : nuI (nuM tr) i j (tr j i) = nuM tr := nuI_self (fun _ => rfl)
def LDs (nr : Int) (lf ln bd tm : Int → Int) (mk : Int → Int → Int) (tr : Int → Int → Int → Int) (fd : Int) : Prop := ∀ i j, 0 ≤ i → i ≤ j → j ≤ fd → LD nr lf ln bd tm mk tr i j
theorem sumL_congr3 {f f' : Int × Int × Int → Bool} {g g' : Int × Int × Int → Int} : ∀ (l : List (Int × Int × Int)) (a : Int), (∀ q ∈ l, f q = f' q) → (∀ q ∈ l, f q = true → g q = g' q) → sumL f g a l = sumL f' g' a l
  | [], a, _, _ => rfl
  | q :: l, a, h1, h2 => by
    rw [sumL_cons, sumL_cons, ← h1 q List.mem_cons_self]
    have e : (if f q = true then cs a (g q) else a) = (if f q = true then cs a (g' q) else a) := by
      split
      · rename_i hf
        rw [h2 q List.mem_cons_self hf]
      · rfl
    rw [e]
    exact sumL_congr3 l _ (fun p hp => h1 p (List.mem_cons_of_mem _ hp)) (fun p hp => h2 p (List.mem_cons_of_mem _ hp))
theorem findL_congr3 {f f' : Int × Int × Int → Bool} {g g' : Int × Int × Int → Int} : ∀ (l : List (Int × Int × Int)) (t : Int), (∀ q ∈ l, f q = f' q) → (∀ q ∈ l, f q = true → g q = g' q) → findL f g l t = findL f' g' l t
  | [], t, _, _ => rfl
  | q :: l, t, h1, h2 => by
    rw [findL_cons, findL_cons, ← h1 q List.mem_cons_self]
    by_cases hf : f q = true
    · rw [if_pos hf, if_pos hf, h2 q List.mem_cons_self hf, findL_congr3 l (t - g' q) (fun p hp => h1 p (List.mem_cons_of_mem _ hp)) (fun p hp => h2 p (List.mem_cons_of_mem _ hp))]
    · rw [if_neg hf, if_neg hf]
      exact findL_congr3 l t (fun p hp => h1 p (List.mem_cons_of_mem _ hp)) (fun p hp => h2 p (List.mem_cons_of_mem _ hp))
theorem cntW_congr {f f' : Int × Int × Int → Bool} : ∀ (l : List (Int × Int × Int)), (∀ q ∈ l, f q = f' q) → cntW f l = cntW f' l
  | [], _ => rfl
  | q :: l, h => by
    unfold cntW
    rw [h q List.mem_cons_self, cntW_congr l (fun p hp => h p (List.mem_cons_of_mem _ hp))]
section PU
variable {nr fd : Int} {lf ln bd tm : Int → Int} {mk : Int → Int → Int} {tr : Int → Int → Int → Int} {dv ct : Int → Bool} {nu : Int → Int} {s i j : Int}
theorem wOk_mono {c0 c1 : Int → Int → Int → Bool} {q : Int × Int × Int} (hg : gOK nr lf ln bd) (hij : 0 ≤ i ∧ i ≤ j ∧ j ≤ 12) (hq : q ∈ wl nr lf ln s i j 0) (h : ∀ t a b, 0 ≤ t → t ≤ 4 → i ≤ a → a ≤ b → b ≤ j → c0 t a b = true → c1 t a b = true) (ho : wOk c0 ln (bsM bd) i j q) : wOk c1 ln (bsM bd) i j q := by
  intro k a b c
  obtain ⟨w1, w2, w3, w4⟩ := wl_in (fun r a b => hg.2.2.1 r a (by have := hg.1; omega)) hij hq
  have hl := hg.2.2.1 q.1 w1 (by have := hg.1; omega)
  have h1 := hg.2.2.2.1 (3 * q.1 + k) (by omega) (by have := hg.1; omega)
  have h2 := hg.2.2.2.2 q.1 k w1 w2 a b
  have hbb : bsM bd q.1 k = bd (3 * q.1 + k) := rfl
  have r1 := cutV_rng (n := ln q.1) (k := k) w4
  have r2 := cutV_rng (n := ln q.1) (k := k + 1) w4
  have r3 := cutV_mono (k := k) w4 hl.2 ⟨a, b⟩
  exact h _ _ _ (by omega) (by omega) r1.1 r3 r2.2 (ho k a b c)
theorem dcl_mk (hg : gOK nr lf ln bd) (hf : 0 ≤ fd ∧ fd ≤ 12) (hL : LDs nr lf ln bd tm mk tr fd) : DCl nr lf ln bd tm fd (tbI (dvM mk)) := by
  rintro r i j r1 r2 i1 ij j1 ⟨p, p1, p2⟩
  have hl := hg.2.1 r r1 (by have := hg.1; omega)
  rw [tbI_at _ hl (by omega) (by omega)]
  have hq := wl_of (lf := lf) (ln := ln) (s := lf r) (i := i) (j := j) (nr - 0).toNat 0 rfl r p r1 r2 rfl p1
  refine (hL i j i1 ij j1).1 (lf r) hl.1 hl.2 ⟨(r, p), hq, ?_⟩
  rw [dvI_mk]
  refine wayT_monoG hg ⟨i1, ij, by omega⟩ hq (fun _ _ _ => rfl) (fun t a b t1 t2 t3 t4 t5 e => ?_) p2
  have e' : tbI (dvM mk) (169 * t + 13 * a + b) = true := e
  rw [tbI_at _ ⟨t1, t2⟩ (by omega) (by omega)] at e'
  exact e'
theorem mk_dv (hg : gOK nr lf ln bd) (hf : 0 ≤ fd ∧ fd ≤ 12) (hL : LDs nr lf ln bd tm mk tr fd) (hd : DCl nr lf ln bd tm fd dv) : ∀ (n : Nat) (i j : Int), (j - i).toNat = n → 0 ≤ i → i ≤ j → j ≤ fd → ∀ s, 0 ≤ s → s ≤ 4 → dvM mk s i j = true → dvT dv s i j = true := by
  intro n
  induction n using Nat.strongRecOn with
  | _ n ih =>
    intro i j hn h1 h2 h3 s s1 s2 hs
    refine (hL i j h1 h2 h3).2.1 (fun t => dvT dv t i j) ?_ s s1 s2 hs
    rintro t t1 t2 ⟨q, q1, q2⟩
    show dv (169 * t + 13 * i + j) = true
    have hw := wl_mem (nr - 0).toNat 0 rfl q q1
    rw [← hw.2.2.1]
    refine hd q.1 i j hw.1 hw.2.1 h1 h2 h3 ⟨q.2, hw.2.2.2, ?_⟩
    show wayT tm (dvT dv) ln (bsM bd) i j q = true
    refine wayT_monoG hg ⟨h1, h2, by omega⟩ q1 (fun _ _ _ => rfl) (fun t a b t1 t2 t3 t4 t5 e => ?_) q2
    unfold dvI at e
    by_cases hc : a = i ∧ b = j
    · rw [if_pos hc] at e
      rw [hc.1, hc.2]
      exact e
    · rw [if_neg hc] at e
      exact ih (b - a).toNat (by omega) a b rfl (by omega) t4 (by omega) t t1 t2 e
theorem dv_eqM (hg : gOK nr lf ln bd) (hf : 0 ≤ fd ∧ fd ≤ 12) (hL : LDs nr lf ln bd tm mk tr fd) (hd : DerL nr lf ln bd tm fd dv) (hs : 0 ≤ s ∧ s ≤ 4) (hij : 0 ≤ i ∧ i ≤ j ∧ j ≤ fd) : dvT dv s i j = dvM mk s i j := by
  rw [Bool.eq_iff_iff]
  refine ⟨fun h => ?_, fun h => mk_dv hg hf hL hd.1 _ i j rfl hij.1 hij.2.1 hij.2.2 s hs.1 hs.2 h⟩
  have := hd.2 (tbI (dvM mk)) (dcl_mk hg hf hL) (169 * s + 13 * i + j) h
  rw [tbI_at _ hs (by omega) (by omega)] at this
  exact this
theorem way_eqM (hg : gOK nr lf ln bd) (hf : 0 ≤ fd ∧ fd ≤ 12) (hL : LDs nr lf ln bd tm mk tr fd) (hd : DerL nr lf ln bd tm fd dv) (hij : 0 ≤ i ∧ i ≤ j ∧ j ≤ fd) {q : Int × Int × Int} (hq : q ∈ wl nr lf ln s i j 0) : wayT tm (dvT dv) ln (bsM bd) i j q = wayT tm (dvM mk) ln (bsM bd) i j q :=
  wayT_eqG hg ⟨hij.1, hij.2.1, by omega⟩ hq (fun _ _ _ => rfl) (fun t a b t1 t2 t3 t4 t5 => dv_eqM hg hf hL hd ⟨t1, t2⟩ ⟨by omega, t4, by omega⟩)
theorem ccl_tr (hg : gOK nr lf ln bd) (hf : 0 ≤ fd ∧ fd ≤ 12) (hL : LDs nr lf ln bd tm mk tr fd) (hd : DerL nr lf ln bd tm fd dv) : CCl nr lf ln bd tm fd dv (tbI (ctM tr)) := by
  intro s i j s1 s2 i1 ij j1 ho
  rw [tbI_at _ ⟨s1, s2⟩ (by omega) (by omega)]
  refine (hL i j i1 ij j1).2.2.1 s s1 s2 ?_
  rw [dvI_ct]
  exact okQ_congr hg ⟨i1, ij, by omega⟩ (fun _ _ _ => rfl) (fun t a b t1 t2 t3 t4 t5 => dv_eqM hg hf hL hd ⟨t1, t2⟩ ⟨by omega, t4, by omega⟩) (fun t a b t1 t2 t3 t4 t5 => tbI_at _ ⟨t1, t2⟩ (by omega) (by omega)) ho
theorem tr_ct (hg : gOK nr lf ln bd) (hf : 0 ≤ fd ∧ fd ≤ 12) (hL : LDs nr lf ln bd tm mk tr fd) (hd : DerL nr lf ln bd tm fd dv) (hc : CCl nr lf ln bd tm fd dv ct) : ∀ (n : Nat) (i j : Int), (j - i).toNat = n → 0 ≤ i → i ≤ j → j ≤ fd → ∀ s, 0 ≤ s → s ≤ 4 → ctM tr s i j = true → dvT ct s i j = true := by
  intro n
  induction n using Nat.strongRecOn with
  | _ n ih =>
    intro i j hn h1 h2 h3 s s1 s2 hs
    refine (hL i j h1 h2 h3).2.2.2.1 (fun t => dvT ct t i j) ?_ s s1 s2 hs
    intro t t1 t2 ho
    refine hc t i j t1 t2 h1 h2 h3 (fun q hq hw => ?_)
    refine wOk_mono hg ⟨h1, h2, by omega⟩ hq (fun t a b t1 t2 t3 t4 t5 e => ?_) (ho q hq (by rw [← way_eqM hg hf hL hd ⟨h1, h2, h3⟩ hq]; exact hw))
    unfold dvI at e
    by_cases hc : a = i ∧ b = j
    · rw [if_pos hc] at e
      rw [hc.1, hc.2]
      exact e
    · rw [if_neg hc] at e
      exact ih (b - a).toNat (by omega) a b rfl (by omega) t4 (by omega) t t1 t2 e
theorem ct_eqM (hg : gOK nr lf ln bd) (hf : 0 ≤ fd ∧ fd ≤ 12) (hL : LDs nr lf ln bd tm mk tr fd) (hw : Wkd nr lf ln bd tm fd dv ct nu) (hs : 0 ≤ s ∧ s ≤ 4) (hij : 0 ≤ i ∧ i ≤ j ∧ j ≤ fd) : dvT ct s i j = ctM tr s i j := by
  rw [Bool.eq_iff_iff]
  refine ⟨fun h => ?_, fun h => tr_ct hg hf hL hw.1 hw.2.1 _ i j rfl hij.1 hij.2.1 hij.2.2 s hs.1 hs.2 h⟩
  have := hw.2.2.2 (tbI (ctM tr)) (ccl_tr hg hf hL hw.1) (169 * s + 13 * i + j) h
  rw [tbI_at _ hs (by omega) (by omega)] at this
  exact this
theorem nu_ccl (hg : gOK nr lf ln bd) (hf : 0 ≤ fd ∧ fd ≤ 12) (hL : LDs nr lf ln bd tm mk tr fd) (hw : Wkd nr lf ln bd tm fd dv ct nu) : CCl nr lf ln bd tm fd dv (tbI (fun s a b => dvT ct s a b && decide (nuT nu s a b = nuM tr s a b))) := by
  intro s i j s1 s2 i1 ij j1 ho
  rw [tbI_at _ ⟨s1, s2⟩ (by omega) (by omega), Bool.and_eq_true]
  have kid : ∀ q ∈ wl nr lf ln s i j 0, wayT tm (dvT dv) ln (bsM bd) i j q = true → ∀ k, 0 ≤ k → k < ln q.1 → bsM bd q.1 k < 8 → dvT ct (bsM bd q.1 k) (cutV (ln q.1) q.2.1 q.2.2 k i j) (cutV (ln q.1) q.2.1 q.2.2 (k + 1) i j) = true ∧ nuT nu (bsM bd q.1 k) (cutV (ln q.1) q.2.1 q.2.2 k i j) (cutV (ln q.1) q.2.1 q.2.2 (k + 1) i j) = nuM tr (bsM bd q.1 k) (cutV (ln q.1) q.2.1 q.2.2 k i j) (cutV (ln q.1) q.2.1 q.2.2 (k + 1) i j) := by
    intro q hq hwq k a b c
    obtain ⟨k1, k2, k3, -⟩ := kid_ok (k := k) hg.gB hf.2 ⟨i1, ij, j1⟩ hq hwq (ho q hq hwq) ⟨a, b⟩ c
    have k3' : tbI (fun s a b => dvT ct s a b && decide (nuT nu s a b = nuM tr s a b)) (169 * bsM bd q.1 k + 13 * cutV (ln q.1) q.2.1 q.2.2 k i j + cutV (ln q.1) q.2.1 q.2.2 (k + 1) i j) = true := k3
    rw [tbI_at _ k1 (by omega) (by omega), Bool.and_eq_true] at k3'
    exact ⟨k3'.1, of_decide_eq_true k3'.2⟩
  have hct : dvT ct s i j = true := hw.2.1 s i j s1 s2 i1 ij j1 (fun q hq hwq k a b c => (kid q hq hwq k a b c).1)
  refine ⟨hct, decide_eq_true ?_⟩
  have h1 : nuT nu s i j = sumN nr lf ln bd tm dv nu s i j := (hw.2.2.1.1 s i j s1 s2 i1 ij j1 hct).2
  have h2 : tr j i s = sumT nr lf ln bd tm (dvM mk) (nuM tr) s i j := by
    rcases (hL i j i1 ij j1).2.2.2.2 s s1 s2 with e | ⟨-, e, -⟩
    · have := ct_eqM hg hf hL hw ⟨s1, s2⟩ ⟨i1, ij, j1⟩
      rw [hct] at this
      exact absurd e (of_decide_eq_true this.symm)
    · rw [nuI_tr] at e
      exact e
  show nuT nu s i j = tr j i s
  rw [h1, h2]
  refine sumL_congr3 _ _ (fun q hq => way_eqM hg hf hL hw.1 ⟨i1, ij, j1⟩ hq) (fun q hq hwq => ?_)
  obtain ⟨w1, w2, -⟩ := wl_in (fun r a b => hg.2.2.1 r a (by have := hg.1; omega)) ⟨i1, ij, by omega⟩ hq
  exact pV_congr (hg.2.2.1 q.1 w1 (by have := hg.1; omega)).1 (fun k a b c => (kid q hq hwq k a b c).2)
theorem nu_eqM (hg : gOK nr lf ln bd) (hf : 0 ≤ fd ∧ fd ≤ 12) (hL : LDs nr lf ln bd tm mk tr fd) (hw : Wkd nr lf ln bd tm fd dv ct nu) (hs : 0 ≤ s ∧ s ≤ 4) (hij : 0 ≤ i ∧ i ≤ j ∧ j ≤ fd) (hc : dvT ct s i j = true) : nuT nu s i j = nuM tr s i j := by
  have := hw.2.2.2 _ (nu_ccl hg hf hL hw) (169 * s + 13 * i + j) hc
  rw [tbI_at _ hs (by omega) (by omega), Bool.and_eq_true] at this
  exact of_decide_eq_true this.2
/-- the number of trees is the same -/
theorem trees_eq (hg : gOK nr lf ln bd) (hf : 0 ≤ fd ∧ fd ≤ 12) (hL : LDs nr lf ln bd tm mk tr fd) (hw : Wkd nr lf ln bd tm fd dv ct nu) (hs : 0 ≤ s ∧ s ≤ 4) (hij : 0 ≤ i ∧ i ≤ j ∧ j ≤ fd) : (if ct (169 * s + 13 * i + j) = true then nu (169 * s + 13 * i + j) else -1) = tr j i s := by
  by_cases hc : ct (169 * s + 13 * i + j) = true
  · rw [if_pos hc]
    exact nu_eqM hg hf hL hw hs hij hc
  · rw [if_neg hc]
    have h := ct_eqM hg hf hL hw hs hij
    have h2 : ctM tr s i j = false := by
      cases e : ctM tr s i j with
      | false => rfl
      | true => exact absurd (h.trans e) hc
    have h3 := of_decide_eq_false h2
    omega
/-- and of ways -/
theorem ways_eq (hg : gOK nr lf ln bd) (hf : 0 ≤ fd ∧ fd ≤ 12) (hL : LDs nr lf ln bd tm mk tr fd) (hd : DerL nr lf ln bd tm fd dv) (hij : 0 ≤ i ∧ i ≤ j ∧ j ≤ fd) : cntW (wayT tm (dvT dv) ln (bsM bd) i j) (wl nr lf ln s i j 0) = cntW (wayT tm (dvM mk) ln (bsM bd) i j) (wl nr lf ln s i j 0) :=
  cntW_congr _ (fun q hq => way_eqM hg hf hL hd hij hq)
end PU
