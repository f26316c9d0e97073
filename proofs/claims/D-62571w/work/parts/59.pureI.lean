/-! the component's invariant -/
theorem lpN_congr0 {it it' : Int → Bool} {lf ln bd : Int → Int} : ∀ (s : Nat) (x named : Int), (∀ p, 0 ≤ p → p < 572 * (s : Int) + 572 → it p = it' p) → lpN it lf ln bd s x named = lpN it' lf ln bd s x named := by
  intro s
  induction s using Nat.strongRecOn with
  | _ s ih =>
    intro x named h
    have e : ∀ j : Int, 0 ≤ j → j < 572 → lpW it ln bd s x j = lpW it' ln bd s x j := fun j h1 h2 => by unfold lpW; rw [h _ (by omega) (by omega)]
    have e1 : cnt (lpW it ln bd s x) 572 = cnt (lpW it' ln bd s x) 572 := cnt_congr (by omega) e
    have e2 : lpC it ln bd s x = lpC it' ln bd s x := fnd_congr (by omega) e
    rw [lpN_eq it lf ln bd s x named, lpN_eq it' lf ln bd s x named, e1, e2]
    split
    · rfl
    · split
      · rename_i h8 h9
        exact ih _ (by omega) _ _ (fun p hq hp => h p hq (by omega))
      · rfl
section PI1
variable {lp : Bool} {nr : Int} {lf ln bd tm tm' : Int → Int} {th th' : Int → Int → Bool} {lps lps' : Int → Int → Int} {i j : Int} {mk mk' : Int → Int → Int} {tr tr' : Int → Int → Int → Int}
theorem CL.of (h : CL lp nr lf ln bd lps i th) (h1 : ∀ o, 0 ≤ o → o < i → th' o = th o ∧ lps' o = lps o) : CL lp nr lf ln bd lps' i th' := by
  intro o a1 a2
  obtain ⟨k1, k2⟩ := h o a1 a2
  obtain ⟨e1, e2⟩ := h1 o a1 a2
  refine ⟨fun c hc => k1 c (by rw [← e1]; exact hc), fun y b1 b2 => ?_⟩
  rw [e2, k2 y b1 b2, lpN_congr0 (it := tab th') (it' := tab th) o.toNat y (-1) (fun p p1 p2 => by unfold tab; rw [(h1 (p / 572) (by omega) (by omega)).1])]
theorem CL.less {k : Int} (h : CL lp nr lf ln bd lps i th) (hk : k ≤ i) : CL lp nr lf ln bd lps k th := fun o a b => h o a (by omega)
/-- a set that has been laid and closed is the one that the grammar makes -/
theorem mks_ofC {t0 t2 t3 : Int → Bool} (hc : Clo lp nr lf ln bd i t2 t3) (ho : ∀ p, ¬ (572 * i ≤ p ∧ p < 572 * i + 572) → t2 p = t0 p) (hin : ∀ d, 0 ≤ d → d < 572 → (t2 (572 * i + d) = true ↔ stt tm ln bd t0 i d)) (hst : ∀ d, stt tm ln bd t0 i d → 0 ≤ d ∧ d < 572) : Mks lp nr lf ln bd tm i t0 t3 := by
  obtain ⟨c1, c2, c3, c4⟩ := hc
  refine ⟨fun p hp => (c2 p hp).trans (ho p hp), fun d hd => c1 _ ((hin d (hst d hd).1 (hst d hd).2).mpr hd), c4, fun T t1 t2' t3' => ?_⟩
  refine c3 T (fun p hp => ?_) (fun p hp => (t1 p hp).trans (ho p hp).symm) t3'
  by_cases hb : 572 * i ≤ p ∧ p < 572 * i + 572
  · have e : p = 572 * i + (p - 572 * i) := by omega
    rw [e] at hp ⊢
    exact t2' _ ((hin _ (by omega) (by omega)).mp hp)
  · rw [t1 p hb, ← ho p hb]
    exact hp
theorem dvI_congr {dv dv' : Int → Int → Int → Bool} {X : Int → Bool} {t a b : Int} (h : ¬ (a = i ∧ b = j) → dv t a b = dv' t a b) : dvI dv i j X t a b = dvI dv' i j X t a b := by
  unfold dvI
  by_cases e : a = i ∧ b = j
  · rw [if_pos e, if_pos e]
  · rw [if_neg e, if_neg e]
    exact h e
/-- ways ask only for what lies within the stretch -/
theorem wayT_eqG {dv dv' : Int → Int → Int → Bool} {s : Int} {q : Int × Int × Int} (hg : gOK nr lf ln bd) (hij : 0 ≤ i ∧ i ≤ j ∧ j ≤ 12) (hq : q ∈ wl nr lf ln s i j 0) (htm : ∀ x, i ≤ x → x < j → tm' x = tm x) (h : ∀ t a b, 0 ≤ t → t ≤ 4 → i ≤ a → a ≤ b → b ≤ j → dv t a b = dv' t a b) : wayT tm dv ln (bsM bd) i j q = wayT tm' dv' ln (bsM bd) i j q := by
  cases h1 : wayT tm dv ln (bsM bd) i j q with
  | true => exact (wayT_monoG hg hij hq htm (fun t a b t1 t2 t3 t4 t5 e => by rw [← h t a b t1 t2 t3 t4 t5]; exact e) h1).symm
  | false =>
    cases h2 : wayT tm' dv' ln (bsM bd) i j q with
    | false => rfl
    | true =>
      rw [wayT_monoG hg hij hq (fun x a b => (htm x a b).symm) (fun t a b t1 t2 t3 t4 t5 e => by rw [h t a b t1 t2 t3 t4 t5]; exact e) h2] at h1
      cases h1
theorem LClD_congr {dv dv' : Int → Int → Int → Bool} {X : Int → Bool} (hg : gOK nr lf ln bd) (hij : 0 ≤ i ∧ i ≤ j ∧ j ≤ 12) (htm : ∀ x, i ≤ x → x < j → tm' x = tm x) (h : ∀ t a b, 0 ≤ t → t ≤ 4 → i ≤ a → a ≤ b → b ≤ j → ¬ (a = i ∧ b = j) → dv t a b = dv' t a b) (hc : LClD nr lf ln bd tm dv i j X) : LClD nr lf ln bd tm' dv' i j X := by
  rintro s a b ⟨q, h1, h2⟩
  refine hc s a b ⟨q, h1, ?_⟩
  rw [wayT_eqG hg hij h1 htm (fun t a b t1 t2 t3 t4 t5 => dvI_congr (h t a b t1 t2 t3 t4 t5))]
  exact h2
theorem wOk_congr {ct ct' : Int → Int → Int → Bool} {s : Int} {q : Int × Int × Int} (hg : gOK nr lf ln bd) (hij : 0 ≤ i ∧ i ≤ j ∧ j ≤ 12) (hq : q ∈ wl nr lf ln s i j 0) (h : ∀ t a b, 0 ≤ t → t ≤ 4 → i ≤ a → a ≤ b → b ≤ j → ct t a b = ct' t a b) (ho : wOk ct ln (bsM bd) i j q) : wOk ct' ln (bsM bd) i j q := by
  intro k a b c
  obtain ⟨w1, w2, w3, w4⟩ := wl_in (fun r a b => hg.2.2.1 r a (by have := hg.1; omega)) hij hq
  have hl := hg.2.2.1 q.1 w1 (by have := hg.1; omega)
  have h1 := hg.2.2.2.1 (3 * q.1 + k) (by omega) (by have := hg.1; omega)
  have h2 := hg.2.2.2.2 q.1 k w1 w2 a b
  have hbb : bsM bd q.1 k = bd (3 * q.1 + k) := rfl
  have r1 := cutV_rng (n := ln q.1) (k := k) w4
  have r2 := cutV_rng (n := ln q.1) (k := k + 1) w4
  have r3 := cutV_mono (k := k) w4 hl.2 ⟨a, b⟩
  rw [← h _ _ _ (by omega) (by omega) r1.1 r3 r2.2]
  exact ho k a b c
theorem okQ_congr {dv dv' ct ct' : Int → Int → Int → Bool} {s : Int} (hg : gOK nr lf ln bd) (hij : 0 ≤ i ∧ i ≤ j ∧ j ≤ 12) (htm : ∀ x, i ≤ x → x < j → tm' x = tm x) (h : ∀ t a b, 0 ≤ t → t ≤ 4 → i ≤ a → a ≤ b → b ≤ j → dv t a b = dv' t a b) (hct : ∀ t a b, 0 ≤ t → t ≤ 4 → i ≤ a → a ≤ b → b ≤ j → ct t a b = ct' t a b) (ho : okQ nr lf ln bd tm dv ct s i j) : okQ nr lf ln bd tm' dv' ct' s i j := by
  intro q hq hw
  rw [← wayT_eqG hg hij hq htm h] at hw
  exact wOk_congr hg hij hq hct (ho q hq hw)
theorem sumT_congr2 {dv dv' : Int → Int → Int → Bool} {nu nu' : Int → Int → Int → Int} {s : Int} (hg : gOK nr lf ln bd) (hij : 0 ≤ i ∧ i ≤ j ∧ j ≤ 12) (htm : ∀ x, i ≤ x → x < j → tm' x = tm x) (h : ∀ t a b, 0 ≤ t → t ≤ 4 → i ≤ a → a ≤ b → b ≤ j → dv t a b = dv' t a b) (hnu : ∀ t a b, 0 ≤ t → t ≤ 4 → i ≤ a → a ≤ b → b ≤ j → nu t a b = nu' t a b) : sumT nr lf ln bd tm dv nu s i j = sumT nr lf ln bd tm' dv' nu' s i j := by
  have key : ∀ (l : List (Int × Int × Int)) (a : Int), (∀ q ∈ l, q ∈ wl nr lf ln s i j 0) → sumL (wayT tm dv ln (bsM bd) i j) (pV nu ln (bsM bd) i j) a l = sumL (wayT tm' dv' ln (bsM bd) i j) (pV nu' ln (bsM bd) i j) a l := by
    intro l
    induction l with
    | nil => intro a _; rfl
    | cons q l ih =>
      intro a hl
      have hq := hl q List.mem_cons_self
      rw [sumL_cons, sumL_cons, wayT_eqG hg hij hq htm h]
      obtain ⟨w1, w2, w3, w4⟩ := wl_in (fun r a b => hg.2.2.1 r a (by have := hg.1; omega)) hij hq
      have hln := hg.2.2.1 q.1 w1 (by have := hg.1; omega)
      have e : pV nu ln (bsM bd) i j q = pV nu' ln (bsM bd) i j q := pV_congr hln.1 (fun k a b c => by
        have h1 := hg.2.2.2.1 (3 * q.1 + k) (by omega) (by have := hg.1; omega)
        have h2 := hg.2.2.2.2 q.1 k w1 w2 a b
        have hbb : bsM bd q.1 k = bd (3 * q.1 + k) := rfl
        have r1 := cutV_rng (n := ln q.1) (k := k) w4
        have r2 := cutV_rng (n := ln q.1) (k := k + 1) w4
        have r3 := cutV_mono (k := k) w4 hln.2 ⟨a, b⟩
        exact hnu _ _ _ (by omega) (by omega) r1.1 r3 r2.2)
      rw [e]
      exact ih _ (fun p hp => hl p (List.mem_cons_of_mem _ hp))
  exact key _ 0 (fun q h => h)
theorem nuI_congr {nu nu' : Int → Int → Int → Int} {T : Int → Int} {t a b : Int} (h : ¬ (a = i ∧ b = j) → nu t a b = nu' t a b) : nuI nu i j T t a b = nuI nu' i j T t a b := by
  unfold nuI
  by_cases e : a = i ∧ b = j
  · rw [if_pos e, if_pos e]
  · rw [if_neg e, if_neg e]
    exact h e
theorem LClC_congr {dv dv' ct ct' : Int → Int → Int → Bool} {X : Int → Bool} (hg : gOK nr lf ln bd) (hij : 0 ≤ i ∧ i ≤ j ∧ j ≤ 12) (htm : ∀ x, i ≤ x → x < j → tm' x = tm x) (h : ∀ t a b, 0 ≤ t → t ≤ 4 → i ≤ a → a ≤ b → b ≤ j → dv t a b = dv' t a b) (hct : ∀ t a b, 0 ≤ t → t ≤ 4 → i ≤ a → a ≤ b → b ≤ j → ¬ (a = i ∧ b = j) → ct t a b = ct' t a b) (hc : LClC nr lf ln bd tm dv ct i j X) : LClC nr lf ln bd tm' dv' ct' i j X :=
  fun s a b ho => hc s a b (okQ_congr hg hij (fun x a b => (htm x a b).symm) (fun t a b t1 t2 t3 t4 t5 => (h t a b t1 t2 t3 t4 t5).symm) (fun t a b t1 t2 t3 t4 t5 => (dvI_congr (hct t a b t1 t2 t3 t4 t5)).symm) ho)
theorem LCnt_congr {dv dv' : Int → Int → Int → Bool} {T : Int → Int} (hg : gOK nr lf ln bd) (hij : 0 ≤ i ∧ i ≤ j ∧ j ≤ 12) (htm : ∀ x, i ≤ x → x < j → tm' x = tm x) (h : ∀ t a b, 0 ≤ t → t ≤ 4 → i ≤ a → a ≤ b → b ≤ j → dv t a b = dv' t a b) (htr : ∀ t a b, 0 ≤ t → t ≤ 4 → i ≤ a → a ≤ b → b ≤ j → ¬ (a = i ∧ b = j) → tr b a t = tr' b a t) (hc : LCnt nr lf ln bd tm dv tr i j T) : LCnt nr lf ln bd tm' dv' tr' i j T := by
  have hct : ∀ t a b, 0 ≤ t → t ≤ 4 → i ≤ a → a ≤ b → b ≤ j → ¬ (a = i ∧ b = j) → ctM tr t a b = ctM tr' t a b := fun t a b t1 t2 t3 t4 t5 t6 => by unfold ctM; rw [htr t a b t1 t2 t3 t4 t5 t6]
  obtain ⟨h1, h2, h3⟩ := hc
  refine ⟨LClC_congr hg hij htm h hct h1, fun Y hY s a b c => ?_, fun s a b => ?_⟩
  · exact h2 Y (LClC_congr hg hij (fun x a b => (htm x a b).symm) (fun t a b t1 t2 t3 t4 t5 => (h t a b t1 t2 t3 t4 t5).symm) (fun t a b t1 t2 t3 t4 t5 t6 => (hct t a b t1 t2 t3 t4 t5 t6).symm) hY) s a b c
  · rcases h3 s a b with e | ⟨e1, e2, e3⟩
    · exact Or.inl e
    · refine Or.inr ⟨e1, ?_, okQ_congr hg hij htm h (fun t a b t1 t2 t3 t4 t5 => dvI_congr (hct t a b t1 t2 t3 t4 t5)) e3⟩
      rw [← sumT_congr2 (nu := nuI (nuM tr) i j T) (nu' := nuI (nuM tr') i j T) hg hij htm h (fun t a b t1 t2 t3 t4 t5 => nuI_congr (fun t6 => htr t a b t1 t2 t3 t4 t5 t6))]
      exact e2
/-- the stretch i .. j has been worked out -/
def LD (nr : Int) (lf ln bd tm : Int → Int) (mk : Int → Int → Int) (tr : Int → Int → Int → Int) (i j : Int) : Prop := LClD nr lf ln bd tm (dvM mk) i j (bit (mk j i)) ∧ LSnD nr lf ln bd tm (dvM mk) i j (bit (mk j i)) ∧ LCnt nr lf ln bd tm (dvM mk) tr i j (tr j i)
theorem LD_congr (hg : gOK nr lf ln bd) (hij : 0 ≤ i ∧ i ≤ j ∧ j ≤ 12) (htm : ∀ x, i ≤ x → x < j → tm' x = tm x) (hmk : ∀ a b, i ≤ a → a ≤ b → b ≤ j → mk' b a = mk b a) (htr : ∀ a b, i ≤ a → a ≤ b → b ≤ j → tr' b a = tr b a) (h : LD nr lf ln bd tm mk tr i j) : LD nr lf ln bd tm' mk' tr' i j := by
  obtain ⟨h1, h2, h3⟩ := h
  have hdv : ∀ t a b, 0 ≤ t → t ≤ 4 → i ≤ a → a ≤ b → b ≤ j → dvM mk t a b = dvM mk' t a b := fun t a b _ _ t3 t4 t5 => by unfold dvM; rw [hmk a b t3 t4 t5]
  refine ⟨?_, ?_, ?_⟩
  · rw [hmk i j (by omega) (by omega) (by omega)]
    exact LClD_congr hg hij htm (fun t a b t1 t2 t3 t4 t5 _ => hdv t a b t1 t2 t3 t4 t5) h1
  · rw [hmk i j (by omega) (by omega) (by omega)]
    exact fun Y hY => h2 Y (LClD_congr hg hij (fun x a b => (htm x a b).symm) (fun t a b t1 t2 t3 t4 t5 _ => (hdv t a b t1 t2 t3 t4 t5).symm) hY)
  · rw [htr i j (by omega) (by omega) (by omega)]
    exact LCnt_congr hg hij htm hdv (fun t a b _ _ t3 t4 t5 _ => by rw [htr a b t3 t4 t5]) h3
/-- grow's end -/
theorem LD_grow {m : Int} {T : Int → Int} (hg : gOK nr lf ln bd) (hij : 0 ≤ i ∧ i ≤ j ∧ j ≤ 12) (h1 : LClD nr lf ln bd tm (dvM mk) i j (bit m)) (h2 : LSnD nr lf ln bd tm (dvM mk) i j (bit m)) (h3 : LCnt nr lf ln bd tm (dvM (mkI mk i j m)) tr i j T) : LD nr lf ln bd tm (mkI mk i j m) (trI tr i j T) i j := by
  have hdv : ∀ t a b, 0 ≤ t → t ≤ 4 → i ≤ a → a ≤ b → b ≤ j → ¬ (a = i ∧ b = j) → dvM mk t a b = dvM (mkI mk i j m) t a b := by
    intro t a b _ _ _ _ _ e
    rw [dvM_mkI]
    unfold dvI
    rw [if_neg e]
  refine ⟨?_, ?_, ?_⟩
  · rw [mkI_at]
    exact LClD_congr hg hij (fun _ _ _ => rfl) hdv h1
  · rw [mkI_at]
    exact fun Y hY => h2 Y (LClD_congr hg hij (fun _ _ _ => rfl) (fun t a b t1 t2 t3 t4 t5 t6 => (hdv t a b t1 t2 t3 t4 t5 t6).symm) hY)
  · have e : trI tr i j T j i = T := by
      unfold trI
      rw [upI_self, upI_self]
    rw [e]
    refine LCnt_congr hg hij (fun _ _ _ => rfl) (fun _ _ _ _ _ _ _ _ => rfl) (fun t a b _ _ _ _ _ n => ?_) h3
    unfold trI
    rw [upI_ap]
    by_cases hb : b = j
    · rw [if_pos hb, upI_ne _ _ (fun ha => n ⟨ha, hb⟩), hb]
    · rw [if_neg hb]
theorem TrR_grow {T : Int → Int} {dv : Int → Int → Int → Bool} (h : TrR tr) (hL : LCnt nr lf ln bd tm dv tr i j T) : TrR (trI tr i j T) := by
  intro b a s a1 a2 a3 a4 a5
  unfold trI
  rw [upI_ap]
  by_cases hb : b = j
  · rw [if_pos hb, upI_ap]
    by_cases ha : a = i
    · rw [if_pos ha]
      rcases hL.2.2 s a4 a5 with e | ⟨e, -⟩ <;> omega
    · rw [if_neg ha, ← hb]
      exact h b a s a1 a2 a3 a4 a5
  · rw [if_neg hb]
    exact h b a s a1 a2 a3 a4 a5
end PI1
/-- the component's invariant: the grammar, what has been fed, the sets, the columns -/
def CInv (lp : Bool) (nr : Int) (lf ln bd : Int → Int) (fd : Int) (tm : Int → Int) (it : Int → Int → Int) (th : Int → Int → Bool) (my : Int → Int) (lps mk : Int → Int → Int) (tr : Int → Int → Int → Int) (mt : Int → Int → Bool) : Prop :=
  gOK nr lf ln bd ∧ (0 ≤ fd ∧ fd ≤ 12) ∧ (∀ x, 0 ≤ x → x < 12 → -2147483648 ≤ tm x ∧ tm x ≤ 2147483647) ∧ SO it th my ∧ CL lp nr lf ln bd lps (fd + 1) th ∧ MkR mk ∧ TrR tr ∧ (∀ i j, 0 ≤ i → i ≤ j → j ≤ fd → LD nr lf ln bd tm mk tr i j) ∧ MtR mt
