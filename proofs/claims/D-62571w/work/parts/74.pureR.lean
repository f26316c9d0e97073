/-! the rank on which a tree rests -/
/-- counted after n rounds -/
def lyP (N : Int → Int → Prop) : Nat → Int → Prop
  | 0, _ => False
  | n + 1, s => ¬ N s 30 ∧ ∀ t, 0 ≤ t → t ≤ 4 → N s t → lyP N n t
theorem lyP_up {N : Int → Int → Prop} : ∀ (n : Nat) (s : Int), lyP N n s → lyP N (n + 1) s
  | 0, _, h => False.elim h
  | n + 1, _, h => ⟨h.1, fun t a b c => lyP_up n t (h.2 t a b c)⟩
theorem lyP_nx {N : Int → Int → Prop} {n : Nat} (h : ∀ s, 0 ≤ s → s ≤ 4 → lyP N (n + 1) s → lyP N n s) : ∀ s, 0 ≤ s → s ≤ 4 → lyP N (n + 1 + 1) s → lyP N (n + 1) s :=
  fun _ _ _ e => ⟨e.1, fun t t1 t2 e2 => h t t1 t2 (e.2 t t1 t2 e2)⟩
theorem lyP_cnt {N : Int → Int → Prop} : ∀ n : Nat, (∃ P : Int → Bool, (∀ s, P s = true ↔ lyP N n s) ∧ (n : Int) ≤ cnt P 5) ∨ (∀ s, 0 ≤ s → s ≤ 4 → lyP N (n + 1) s → lyP N n s)
  | 0 => Or.inl ⟨fun _ => false, fun s => ⟨(fun h => by cases h), fun h => False.elim h⟩, (cnt_rng _ (by omega)).1⟩
  | n + 1 => by
    classical
    rcases lyP_cnt (N := N) n with ⟨P, h1, h2⟩ | h
    · by_cases hs : ∀ s, 0 ≤ s → s ≤ 4 → lyP N (n + 1) s → lyP N n s
      · exact Or.inr (lyP_nx hs)
      · have hc : ∃ c, (0 ≤ c ∧ c ≤ 4) ∧ lyP N (n + 1) c ∧ ¬ lyP N n c := Classical.byContradiction fun hn => hs fun s a b e => Classical.byContradiction fun e2 => hn ⟨s, ⟨a, b⟩, e, e2⟩
        obtain ⟨c, c1, c2, c3⟩ := hc
        refine Or.inl ⟨fun s => decide (lyP N (n + 1) s), fun s => decide_eq_true_iff, ?_⟩
        have h9 := cnt_lt (P := P) (Q := fun s => decide (lyP N (n + 1) s)) (k := 5) (by omega) (fun y _ _ e => decide_eq_true (lyP_up n y ((h1 y).mp e))) (c := c) (by omega) (fun e => c3 ((h1 c).mp e)) (decide_eq_true c2)
        omega
    · exact Or.inr (lyP_nx h)
theorem lyP_6 {N : Int → Int → Prop} : ∀ s, 0 ≤ s → s ≤ 4 → lyP N 7 s → lyP N 6 s := by
  rcases lyP_cnt (N := N) 6 with ⟨P, -, h⟩ | h
  · have := cnt_rng P (show (0 : Int) ≤ 5 by omega)
    omega
  · exact h
theorem ly_rank (N : Int → Int → Prop) : ∃ ρ : Int → Int, (∀ s, 0 ≤ ρ s ∧ ρ s ≤ 5) ∧ ∀ s t, 0 ≤ t → t ≤ 4 → lyP N 6 s → N s t → ρ t < ρ s := by
  classical
  refine ⟨fun s => cnt (fun n => decide (¬ lyP N (n.toNat + 1) s)) 5, fun s => cnt_rng _ (by omega), fun s t t1 t2 h6 hN => ?_⟩
  have key : ∃ m : Nat, m < 5 ∧ ¬ lyP N (m + 1) s ∧ lyP N (m + 1) t := by
    refine Classical.byContradiction fun hn => ?_
    have hno : ∀ m : Nat, m ≤ 5 → ¬ lyP N (m + 1) s := by
      intro m
      induction m with
      | zero => exact fun _ h => h.2 t t1 t2 hN
      | succ m ih => exact fun hm h => hn ⟨m, by omega, ih (by omega), h.2 t t1 t2 hN⟩
    exact hno 5 (Nat.le_refl _) h6
  obtain ⟨m, m1, m2, m3⟩ := key
  refine cnt_lt (by omega) (fun n n1 n2 e => ?_) (c := (m : Int)) (by omega) (fun e => ?_) ?_
  · have h9 := of_decide_eq_true e
    exact decide_eq_true fun h => h9 (lyP_up _ t (h.2 t t1 t2 hN))
  · refine of_decide_eq_true e ?_
    rw [Int.toNat_natCast]
    exact m3
  · refine decide_eq_true ?_
    rw [Int.toNat_natCast]
    exact m2
theorem cp_pos {a b : Int} (ha : 0 < a) (hb : 0 < b) : 0 < cp a b := by
  have := Int.mul_pos ha hb
  unfold cp
  split <;> omega
theorem pVk_pos {nu : Int → Int → Int → Int} {ln : Int → Int} {bs : Int → Int → Int} {i j : Int} {q : Int × Int × Int} (h : ∀ k, 0 ≤ k → k < ln q.1 → bs q.1 k < 8 → 0 < nu (bs q.1 k) (cutV (ln q.1) q.2.1 q.2.2 k i j) (cutV (ln q.1) q.2.1 q.2.2 (k + 1) i j)) : ∀ m, 0 ≤ m → m ≤ ln q.1 → 0 < pVk nu ln bs i j q m := by
  intro m hm
  refine int_ind (Q := fun m => m ≤ ln q.1 → 0 < pVk nu ln bs i j q m) (fun _ => show (0 : Int) < 1 by decide) ?_ m hm
  intro k hk ih hle
  rw [pVk_s _ _ _ _ _ _ hk]
  split
  · rename_i hb
    exact cp_pos (ih (by omega)) (h k hk (by omega) hb)
  · exact ih (by omega)
theorem sumL_gt {f : Int × Int × Int → Bool} {g : Int × Int × Int → Int} : ∀ (l : List (Int × Int × Int)) (a : Int), 0 ≤ a → (∀ q ∈ l, f q = true → 0 ≤ g q) → (0 < a ∨ ∃ q ∈ l, f q = true ∧ 0 < g q) → 0 < sumL f g a l
  | [], a, _, _, h => by
    rcases h with h | ⟨q, h, -⟩
    · exact h
    · cases h
  | p :: l, a, ha, hg, h => by
    rw [sumL_cons]
    by_cases hf : f p = true
    · rw [if_pos hf]
      have h0 := hg p List.mem_cons_self hf
      have hc := cs_rng ha h0
      refine sumL_gt l _ hc.1 (fun q hq => hg q (List.mem_cons_of_mem _ hq)) ?_
      by_cases hp : 0 < a ∨ 0 < g p
      · left
        unfold cs
        split <;> omega
      · right
        rcases h with h | ⟨q, h1, h2⟩
        · exact absurd (Or.inl h) hp
        · rcases List.mem_cons.mp h1 with rfl | h1
          · exact absurd (Or.inr h2.2) hp
          · exact ⟨q, h1, h2⟩
    · rw [if_neg hf]
      refine sumL_gt l a ha (fun q hq => hg q (List.mem_cons_of_mem _ hq)) ?_
      rcases h with h | ⟨q, h1, h2⟩
      · exact Or.inl h
      · rcases List.mem_cons.mp h1 with rfl | h1
        · exact absurd h2.1 hf
        · exact Or.inr ⟨q, h1, h2⟩
section PR
variable {nr fd : Int} {lf ln bd tm : Int → Int} {mk : Int → Int → Int} {tr : Int → Int → Int → Int} {dv ct : Int → Bool} {nu : Int → Int} {s i j : Int}
/-- what is derived has a way -/
theorem way_of (hg : gOK nr lf ln bd) (hij : 0 ≤ i ∧ i ≤ j ∧ j ≤ 12) (hL : LD nr lf ln bd tm mk tr i j) (hs : 0 ≤ s ∧ s ≤ 4) (h : dvM mk s i j = true) : ∃ q ∈ wl nr lf ln s i j 0, wayT tm (dvM mk) ln (bsM bd) i j q = true := by
  classical
  have key := hL.2.1 (fun t => decide (∃ q ∈ wl nr lf ln t i j 0, wayT tm (dvM mk) ln (bsM bd) i j q = true)) ?_ s hs.1 hs.2 h
  · exact of_decide_eq_true key
  · rintro t t1 t2 ⟨q, q1, q2⟩
    refine decide_eq_true ⟨q, q1, wayT_monoG hg hij q1 (fun _ _ _ => rfl) (fun t a b t1 t2 t3 t4 t5 e => ?_) q2⟩
    unfold dvI at e
    by_cases hc : a = i ∧ b = j
    · rw [if_pos hc] at e
      rw [hc.1, hc.2]
      obtain ⟨q', e1, e2⟩ := of_decide_eq_true e
      exact hL.1 t t1 t2 ⟨q', e1, by rw [dvI_mk]; exact e2⟩
    · rw [if_neg hc] at e
      exact e
theorem ly_of (hg : gOK nr lf ln bd) (hij : 0 ≤ i ∧ i ≤ j ∧ j ≤ 12) (hL : LD nr lf ln bd tm mk tr i j) (hs : 0 ≤ s ∧ s ≤ 4) (h : ctM tr s i j = true) : lyP (N0f nr lf ln bd tm (dvM mk) tr i j) 6 s := by
  classical
  have key := hL.2.2.2.1 (fun t => decide (lyP (N0f nr lf ln bd tm (dvM mk) tr i j) 6 t)) ?_ s hs.1 hs.2 h
  · exact of_decide_eq_true key
  · intro t t1 t2 ho
    obtain ⟨o1, o2⟩ := (ok_iff hg hij).mp ho
    exact decide_eq_true (lyP_6 t t1 t2 ⟨o1, fun x x1 x2 x3 => of_decide_eq_true (o2 x x1 x2 x3)⟩)
theorem trk_C (hg : gOK nr lf ln bd) (hf : 0 ≤ fd ∧ fd ≤ 12) (hL : LDs nr lf ln bd tm mk tr fd) : ∃ R, TRk nr lf ln (bsM bd) tm fd (dvM mk) (ctM tr) (nuM tr) R := by
  have hR : ∃ R : Int → Int → Int → Int, (∀ s i j, 6 * (j - i) ≤ R s i j ∧ R s i j ≤ 6 * (j - i) + 5) ∧ ∀ i j s t, 0 ≤ t → t ≤ 4 → lyP (N0f nr lf ln bd tm (dvM mk) tr i j) 6 s → N0f nr lf ln bd tm (dvM mk) tr i j s t → R t i j < R s i j := by
    refine ⟨fun s i j => 6 * (j - i) + Classical.choose (ly_rank (N0f nr lf ln bd tm (dvM mk) tr i j)) s, fun s i j => ?_, fun i j s t t1 t2 h1 h2 => ?_⟩
    · have := (Classical.choose_spec (ly_rank (N0f nr lf ln bd tm (dvM mk) tr i j))).1 s
      show 6 * (j - i) ≤ 6 * (j - i) + _ ∧ 6 * (j - i) + _ ≤ 6 * (j - i) + 5
      omega
    · have := (Classical.choose_spec (ly_rank (N0f nr lf ln bd tm (dvM mk) tr i j))).2 s t t1 t2 h1 h2
      show 6 * (j - i) + _ < 6 * (j - i) + _
      omega
  obtain ⟨R, r1, r2⟩ := hR
  refine ⟨R, ?_⟩
  -- the numbers
  have hn : ∀ s i j, 0 ≤ s → s ≤ 4 → 0 ≤ i → i ≤ j → j ≤ fd → ctM tr s i j = true → (0 ≤ tr j i s ∧ tr j i s ≤ 1000000000000) ∧ tr j i s = sumT nr lf ln bd tm (dvM mk) (nuM tr) s i j ∧ okQ nr lf ln bd tm (dvM mk) (ctM tr) s i j := by
    intro s i j s1 s2 i1 ij j1 hc
    rcases (hL i j i1 ij j1).2.2.2.2 s s1 s2 with e | ⟨e1, e2, e3⟩
    · exact absurd e (of_decide_eq_true hc)
    · rw [nuI_tr] at e2
      rw [dvI_ct] at e3
      exact ⟨e1, e2, e3⟩
  have hkid : ∀ s i j, 0 ≤ s → s ≤ 4 → 0 ≤ i → i ≤ j → j ≤ fd → ctM tr s i j = true → ∀ q ∈ wl nr lf ln s i j 0, wayT tm (dvM mk) ln (bsM bd) i j q = true → ∀ k, 0 ≤ k → k < ln q.1 → bsM bd q.1 k < 8 → R (bsM bd q.1 k) (cutV (ln q.1) q.2.1 q.2.2 k i j) (cutV (ln q.1) q.2.1 q.2.2 (k + 1) i j) < R s i j := by
    intro s i j s1 s2 i1 ij j1 hc q hq hw k a b c
    obtain ⟨-, -, ho⟩ := hn s i j s1 s2 i1 ij j1 hc
    obtain ⟨k1, k2, -, -⟩ := kid_ok (k := k) hg.gB hf.2 ⟨i1, ij, j1⟩ hq hw (ho q hq hw) ⟨a, b⟩ c
    have w4 := (wl_in (fun r a b => hg.2.2.1 r a (by have := hg.1; omega)) ⟨i1, ij, by omega⟩ hq).2.2.2
    have q1 := cutV_rng (n := ln q.1) (k := k) w4
    have q2 := cutV_rng (n := ln q.1) (k := k + 1) w4
    by_cases e : cutV (ln q.1) q.2.1 q.2.2 k i j = i ∧ cutV (ln q.1) q.2.1 q.2.2 (k + 1) i j = j
    · have := r2 i j s (bsM bd q.1 k) k1.1 k1.2 (ly_of hg ⟨i1, ij, by omega⟩ (hL i j i1 ij j1) ⟨s1, s2⟩ hc) ⟨q, hq, hw, k, ⟨a, b⟩, k1.2, Or.inl ⟨e.1, e.2, rfl⟩⟩
      rw [e.1, e.2]
      exact this
    · have u1 := r1 s i j
      have u2 := r1 (bsM bd q.1 k) (cutV (ln q.1) q.2.1 q.2.2 k i j) (cutV (ln q.1) q.2.1 q.2.2 (k + 1) i j)
      omega
  have hpos : ∀ (n : Nat) (s i j : Int), (R s i j).toNat = n → 0 ≤ s → s ≤ 4 → 0 ≤ i → i ≤ j → j ≤ fd → ctM tr s i j = true → dvM mk s i j = true → 0 < tr j i s := by
    intro n
    induction n using Nat.strongRecOn with
    | _ n ih =>
      intro s i j hRn s1 s2 i1 ij j1 hc hd
      obtain ⟨-, e2, ho⟩ := hn s i j s1 s2 i1 ij j1 hc
      obtain ⟨q, q1, q2⟩ := way_of hg ⟨i1, ij, by omega⟩ (hL i j i1 ij j1) ⟨s1, s2⟩ hd
      have hp : ∀ p ∈ wl nr lf ln s i j 0, wayT tm (dvM mk) ln (bsM bd) i j p = true → 0 < pV (nuM tr) ln (bsM bd) i j p := by
        intro p hp hw
        obtain ⟨w1, w2, -⟩ := wl_in (fun r a b => hg.2.2.1 r a (by have := hg.1; omega)) ⟨i1, ij, by omega⟩ hp
        refine pVk_pos (fun k a b c => ?_) _ (hg.2.2.1 p.1 w1 (by have := hg.1; omega)).1 (Int.le_refl _)
        obtain ⟨k1, k2, k3, k4⟩ := kid_ok (k := k) hg.gB hf.2 ⟨i1, ij, j1⟩ hp hw (ho p hp hw) ⟨a, b⟩ c
        have hlt := hkid s i j s1 s2 i1 ij j1 hc p hp hw k a b c
        have hb := r1 (bsM bd p.1 k) (cutV (ln p.1) p.2.1 p.2.2 k i j) (cutV (ln p.1) p.2.1 p.2.2 (k + 1) i j)
        exact ih _ (by omega) _ _ _ rfl k1.1 k1.2 k2.1 k2.2.1 k2.2.2 k3 k4
      rw [e2]
      exact sumL_gt _ 0 (Int.le_refl _) (fun p a b => Int.le_of_lt (hp p a b)) (Or.inr ⟨q, q1, q2, hp q q1 q2⟩)
  intro s i j s1 s2 i1 ij j1 hc
  obtain ⟨e1, e2, ho⟩ := hn s i j s1 s2 i1 ij j1 hc
  have hb := r1 s i j
  exact ⟨⟨by omega, by omega⟩, e1.1, e1.2, fun hd => hpos _ s i j rfl s1 s2 i1 ij j1 hc hd, e2, fun q hq hw => ⟨ho q hq hw, fun k a b c => hkid s i j s1 s2 i1 ij j1 hc q hq hw k a b c⟩⟩
theorem trk_T (hg : gOK nr lf ln bd) (hf : 0 ≤ fd ∧ fd ≤ 12) (hL : LDs nr lf ln bd tm mk tr fd) (hw : Wkd nr lf ln bd tm fd dv ct nu) : ∃ R, TRk nr lf ln (bsM bd) tm fd (dvT dv) (dvT ct) (nuT nu) R := by
  obtain ⟨R, hT⟩ := trk_C hg hf hL
  refine ⟨R, ?_⟩
  intro s i j s1 s2 i1 ij j1 hc
  have ec := ct_eqM hg hf hL hw ⟨s1, s2⟩ ⟨i1, ij, j1⟩
  have en := nu_eqM hg hf hL hw ⟨s1, s2⟩ ⟨i1, ij, j1⟩ hc
  have ed := dv_eqM hg hf hL hw.1 ⟨s1, s2⟩ ⟨i1, ij, j1⟩
  obtain ⟨a1, a2, a3, a4, -, a6⟩ := hT s i j s1 s2 i1 ij j1 (by rw [← ec]; exact hc)
  refine ⟨a1, by rw [en]; exact a2, by rw [en]; exact a3, fun h => by rw [en]; exact a4 (by rw [← ed]; exact h), (hw.2.2.1.1 s i j s1 s2 i1 ij j1 hc).2, fun q hq h => ⟨(hw.2.2.1.1 s i j s1 s2 i1 ij j1 hc).1 q hq h, (a6 q hq (by rw [← way_eqM hg hf hL hw.1 ⟨i1, ij, j1⟩ hq]; exact h)).2⟩⟩
end PR
/-! the same tables give the same tree -/
theorem kfN_congr {nu nu' : Int → Int → Int → Int} {ln : Int → Int} {bs : Int → Int → Int} {i j : Int} {q : Int × Int × Int} {t : Int} (h : ∀ k, 0 ≤ k → k < ln q.1 → bs q.1 k < 8 → nu (bs q.1 k) (cutV (ln q.1) q.2.1 q.2.2 k i j) (cutV (ln q.1) q.2.1 q.2.2 (k + 1) i j) = nu' (bs q.1 k) (cutV (ln q.1) q.2.1 q.2.2 k i j) (cutV (ln q.1) q.2.1 q.2.2 (k + 1) i j)) : ∀ m : Nat, (m : Int) ≤ ln q.1 → kfN nu ln bs i j q t m = kfN nu' ln bs i j q t m
  | 0, _ => rfl
  | m + 1, hm => by
    by_cases hb : bs q.1 (ln q.1 - 1 - m) < 8
    · rw [kfN_yes hb, kfN_yes hb, kfN_congr h m (by omega), h (ln q.1 - 1 - m) (by omega) (by omega) hb]
    · rw [kfN_no hb, kfN_no hb, kfN_congr h m (by omega)]
section PS
variable {nr fd : Int} {lf ln bd tm : Int → Int} {dv ct dv' : Int → Int → Int → Bool} {nu R nu' : Int → Int → Int → Int}
theorem step_eqM {e : En} {L : List En} (hg : gOK nr lf ln bd) (hf : 0 ≤ fd ∧ fd ≤ 12) (hT : TRk nr lf ln (bsM bd) tm fd dv ct nu R) (h : SOK fd dv ct nu R (e :: L)) (hdv : ∀ t a b, 0 ≤ t → t ≤ 4 → 0 ≤ a → a ≤ b → b ≤ fd → dv t a b = dv' t a b) (hnu : ∀ t a b, 0 ≤ t → t ≤ 4 → 0 ≤ a → a ≤ b → b ≤ fd → ct t a b = true → nu t a b = nu' t a b) :
    stepS nr lf ln (bsM bd) tm dv nu (e :: L) = stepS nr lf ln (bsM bd) tm dv' nu' (e :: L) ∧ ruleS nr lf ln (bsM bd) tm dv nu (e :: L) = ruleS nr lf ln (bsM bd) tm dv' nu' (e :: L) := by
  obtain ⟨q, t, h1, h2, h3, h4, h5, h6, h7, h8, h9, h10⟩ := step_ok hg.gB hf.2 hT h
  obtain ⟨⟨g1, g2, g3, g4, g5, g6⟩, -, -⟩ := h
  have hTs := hT e.1 e.2.1 e.2.2.1 g1.1 g1.2 g2.1 g2.2.1 g2.2.2 g3
  have kid : ∀ p ∈ wl nr lf ln e.1 e.2.1 e.2.2.1 0, wayT tm dv ln (bsM bd) e.2.1 e.2.2.1 p = true → ∀ k, 0 ≤ k → k < ln p.1 → bsM bd p.1 k < 8 → nu (bsM bd p.1 k) (cutV (ln p.1) p.2.1 p.2.2 k e.2.1 e.2.2.1) (cutV (ln p.1) p.2.1 p.2.2 (k + 1) e.2.1 e.2.2.1) = nu' (bsM bd p.1 k) (cutV (ln p.1) p.2.1 p.2.2 k e.2.1 e.2.2.1) (cutV (ln p.1) p.2.1 p.2.2 (k + 1) e.2.1 e.2.2.1) := by
    intro p hp hw k a b c
    obtain ⟨k1, k2, k3, -⟩ := kid_ok (k := k) hg.gB hf.2 g2 hp hw (hTs.2.2.2.2.2 p hp hw).1 ⟨a, b⟩ c
    exact hnu _ _ _ k1.1 k1.2 k2.1 k2.2.1 k2.2.2 k3
  have hl : ∀ p ∈ wl nr lf ln e.1 e.2.1 e.2.2.1 0, 0 ≤ ln p.1 := fun p hp => by
    obtain ⟨w1, w2, -⟩ := wl_in (fun r a b => hg.2.2.1 r a (by have := hg.1; omega)) ⟨g2.1, g2.2.1, by omega⟩ hp
    exact (hg.2.2.1 p.1 w1 (by have := hg.1; omega)).1
  have hf' : findL (wayT tm dv' ln (bsM bd) e.2.1 e.2.2.1) (pV nu' ln (bsM bd) e.2.1 e.2.2.1) (wl nr lf ln e.1 e.2.1 e.2.2.1 0) e.2.2.2 = some (q, t) := by
    rw [← findL_congr3 (f := wayT tm dv ln (bsM bd) e.2.1 e.2.2.1) (g := pV nu ln (bsM bd) e.2.1 e.2.2.1) _ _ (fun p hp => wayT_eqG hg ⟨g2.1, g2.2.1, by omega⟩ hp (fun _ _ _ => rfl) (fun t a b t1 t2 t3 t4 t5 => hdv t a b t1 t2 (by omega) t4 (by omega))) (fun p hp hw => pV_congr (hl p hp) (kid p hp hw))]
    exact h1
  have e1 : stepS nr lf ln (bsM bd) tm dv' nu' (e :: L) = kidsL nu' ln (bsM bd) e.2.1 e.2.2.1 q t ++ L := by
    show (match findL (wayT tm dv' ln (bsM bd) e.2.1 e.2.2.1) (pV nu' ln (bsM bd) e.2.1 e.2.2.1) (wl nr lf ln e.1 e.2.1 e.2.2.1 0) e.2.2.2 with | none => L | some (q, t) => kidsL nu' ln (bsM bd) e.2.1 e.2.2.1 q t ++ L) = _
    rw [hf']
  have e2 : ruleS nr lf ln (bsM bd) tm dv' nu' (e :: L) = q.1 := by
    show (match findL (wayT tm dv' ln (bsM bd) e.2.1 e.2.2.1) (pV nu' ln (bsM bd) e.2.1 e.2.2.1) (wl nr lf ln e.1 e.2.1 e.2.2.1 0) e.2.2.2 with | none => -1 | some (q, _) => q.1) = _
    rw [hf']
  have e3 : kidsL nu ln (bsM bd) e.2.1 e.2.2.1 q t = kidsL nu' ln (bsM bd) e.2.1 e.2.2.1 q t := by
    unfold kidsL kfI
    rw [kfN_congr (kid q h2 h3) (ln q.1 - 1 - (-1)).toNat (by have := hl q h2; omega)]
  exact ⟨by rw [h9, e1, e3], by rw [h10, e2]⟩
theorem itS_eqM {L : List En} (hg : gOK nr lf ln bd) (hf : 0 ≤ fd ∧ fd ≤ 12) (hT : TRk nr lf ln (bsM bd) tm fd dv ct nu R) (h : SOK fd dv ct nu R L) (hdv : ∀ t a b, 0 ≤ t → t ≤ 4 → 0 ≤ a → a ≤ b → b ≤ fd → dv t a b = dv' t a b) (hnu : ∀ t a b, 0 ≤ t → t ≤ 4 → 0 ≤ a → a ≤ b → b ≤ fd → ct t a b = true → nu t a b = nu' t a b) :
    ∀ n : Nat, SOK fd dv ct nu R (itS nr lf ln (bsM bd) tm dv nu L n) ∧ itS nr lf ln (bsM bd) tm dv nu L n = itS nr lf ln (bsM bd) tm dv' nu' L n
  | 0 => ⟨h, rfl⟩
  | n + 1 => by
    obtain ⟨i1, i2⟩ := itS_eqM hg hf hT h hdv hnu n
    show SOK fd dv ct nu R (stepS nr lf ln (bsM bd) tm dv nu (itS nr lf ln (bsM bd) tm dv nu L n)) ∧ stepS nr lf ln (bsM bd) tm dv nu (itS nr lf ln (bsM bd) tm dv nu L n) = stepS nr lf ln (bsM bd) tm dv' nu' (itS nr lf ln (bsM bd) tm dv' nu' L n)
    rw [← i2]
    cases hL : itS nr lf ln (bsM bd) tm dv nu L n with
    | nil => exact ⟨trivial, rfl⟩
    | cons e L' =>
      rw [hL] at i1
      obtain ⟨q, t, h1, h2, h3, h4, h5, h6, h7, h8, h9, h10⟩ := step_ok hg.gB hf.2 hT i1
      exact ⟨by rw [h9]; exact h7, (step_eqM hg hf hT i1 hdv hnu).1⟩
theorem ruleS_eqM {L : List En} (hg : gOK nr lf ln bd) (hf : 0 ≤ fd ∧ fd ≤ 12) (hT : TRk nr lf ln (bsM bd) tm fd dv ct nu R) (h : SOK fd dv ct nu R L) (hdv : ∀ t a b, 0 ≤ t → t ≤ 4 → 0 ≤ a → a ≤ b → b ≤ fd → dv t a b = dv' t a b) (hnu : ∀ t a b, 0 ≤ t → t ≤ 4 → 0 ≤ a → a ≤ b → b ≤ fd → ct t a b = true → nu t a b = nu' t a b) :
    ruleS nr lf ln (bsM bd) tm dv nu L = ruleS nr lf ln (bsM bd) tm dv' nu' L := by
  cases L with
  | nil => rfl
  | cons e L => exact (step_eqM hg hf hT h hdv hnu).2
end PS
