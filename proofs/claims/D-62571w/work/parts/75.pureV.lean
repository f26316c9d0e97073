/-! both sides agree on the nodes, and on the sets -/
section PV
variable {nr fd : Int} {lf ln bd tm : Int → Int} {mk : Int → Int → Int} {tr : Int → Int → Int → Int} {dv : Int → Bool} {n : Int}
theorem nodes_eq {mt : Int → Bool} {mt' : Int → Int → Bool} (hg : gOK nr lf ln bd) (hf : 0 ≤ fd ∧ fd ≤ 12) (hL : LDs nr lf ln bd tm mk tr fd) (hd : DerL nr lf ln bd tm fd dv) (hM : MetL nr lf ln bd tm fd dv (upI (fun _ => false) (169 * 0 + 13 * 0 + fd) true) mt) (hN : NE nr lf ln bd tm (dvM mk) fd mt' n) : cnt mt 845 = n := by
  obtain ⟨m1, m2, m3⟩ := hM
  obtain ⟨n1, n2, n3, n4⟩ := hN
  have hkz : ∀ x a b, 0 ≤ x → x ≤ 4 → 0 ≤ a → a ≤ b → b ≤ fd → ∀ y, Kd nr lf ln bd tm dv x a b y → (prB fd (-1) 0 y = true ∧ 0 ≤ y ∧ y < 845) ∧ Kz nr lf ln bd tm (dvM mk) x a b (5 * (y % 13) + y / 169, y % 169 / 13) := by
    rintro x a b x1 x2 a1 ab b1 y ⟨q, h1, h2, k, h3, h4, h5, rfl⟩
    obtain ⟨w1, w2, w3, w4⟩ := wl_in (fun r a b => hg.2.2.1 r a (by have := hg.1; omega)) ⟨a1, ab, by omega⟩ h1
    have hl := hg.2.2.1 q.1 w1 (by have := hg.1; omega)
    have hb1 := hg.2.2.2.1 (3 * q.1 + k) (by omega) (by have := hg.1; omega)
    have hb2 := hg.2.2.2.2 q.1 k w1 w2 h3 h4
    have hbb : bsM bd q.1 k = bd (3 * q.1 + k) := rfl
    have r1 := cutV_rng (n := ln q.1) (k := k) w4
    have r2 := cutV_rng (n := ln q.1) (k := k + 1) w4
    have r3 := cutV_mono (k := k) w4 hl.2 ⟨h3, h4⟩
    have ey : kidx ln (bsM bd) a b q k = 169 * bsM bd q.1 k + 13 * cutV (ln q.1) q.2.1 q.2.2 k a b + cutV (ln q.1) q.2.1 q.2.2 (k + 1) a b := rfl
    have d1 : kidx ln (bsM bd) a b q k / 169 = bsM bd q.1 k := by omega
    have d2 : kidx ln (bsM bd) a b q k % 169 / 13 = cutV (ln q.1) q.2.1 q.2.2 k a b := by omega
    have d3 : kidx ln (bsM bd) a b q k % 13 = cutV (ln q.1) q.2.1 q.2.2 (k + 1) a b := by omega
    refine ⟨⟨decide_eq_true ?_, by omega, by omega⟩, q, h1, ?_, k, ⟨h3, h4⟩, by omega, ?_⟩
    · rw [d2, d3]
      omega
    · rw [← way_eqM hg hf hL hd ⟨a1, ab, b1⟩ h1]
      exact h2
    · rw [d1, d2, d3]
  have hdec : ∀ y : Int, 0 ≤ y → y < 845 → y = 169 * (y / 169) + 13 * (y % 169 / 13) + y % 13 := fun y a b => by omega
  rw [n4]
  refine cnt_congr (by omega) (fun y y1 y2 => ?_)
  rw [Bool.eq_iff_iff]
  constructor
  · intro h
    refine m3 (fun y => prB fd (-1) 0 y && mY mt' y) (fun k hk => ?_) ?_ y h
    · have hk' : k = fd := by
        by_cases e : k = 169 * 0 + 13 * 0 + fd
        · omega
        · rw [upI_ne _ _ e] at hk
          cases hk
      rw [hk', Bool.and_eq_true]
      refine ⟨decide_eq_true (by omega), ?_⟩
      unfold mY
      rw [show fd % 13 = fd by omega, show fd / 169 = 0 by omega, show fd % 169 / 13 = 0 by omega, Int.add_zero]
      exact n1
    · intro x hx hU z hz
      rw [Bool.and_eq_true] at hU
      unfold vN at hx
      obtain ⟨⟨k1, k2, k3⟩, k4⟩ := hkz (x / 169) (x % 169 / 13) (x % 13) (by omega) (by omega) (by omega) hx.2.2.1 hx.2.2.2 z hz
      rw [Bool.and_eq_true]
      exact ⟨k1, n3 (x % 169 / 13) (x % 13) (x / 169) (by omega) hx.2.2.1 hx.2.2.2 (by omega) (by omega) (by omega) hU.2 _ k4⟩
  · intro h
    rw [Bool.and_eq_true] at h
    have hp := of_decide_eq_true h.1
    have key := n2 (fun z => ∃ x a b, (0 ≤ x ∧ x ≤ 4) ∧ (0 ≤ a ∧ a ≤ b ∧ b ≤ fd) ∧ z = (5 * b + x, a) ∧ mt (169 * x + 13 * a + b) = true) ?_ ?_ (5 * (y % 13) + y / 169, y % 169 / 13) h.2
    · obtain ⟨x, a, b, e1, e2, e3, e4⟩ := key
      have f1 := congrArg Prod.fst e3
      have f2 := congrArg Prod.snd e3
      simp only at f1 f2
      have hy : y = 169 * x + 13 * a + b := by
        have := hdec y y1 y2
        omega
      rw [hy]
      exact e4
    · exact ⟨0, 0, fd, by omega, by omega, by rw [Int.add_zero], m1 _ (upI_self _ _ _)⟩
    · rintro a b x a1 ab b1 x1 x2 ⟨x', a', b', e1, e2, e3, e4⟩ z hz
      have f1 := congrArg Prod.fst e3
      have f2 := congrArg Prod.snd e3
      simp only at f1 f2
      have g1 : x' = x := by omega
      have g2 : b' = b := by omega
      have g3 : a' = a := f2.symm
      subst g1; subst g2; subst g3
      obtain ⟨q, h1, h2, k, h3, h4, h5⟩ := hz
      obtain ⟨w1, w2, w3, w4⟩ := wl_in (fun r a b => hg.2.2.1 r a (by have := hg.1; omega)) ⟨a1, ab, by omega⟩ h1
      have hl := hg.2.2.1 q.1 w1 (by have := hg.1; omega)
      have hb1 := hg.2.2.2.1 (3 * q.1 + k) (by omega) (by have := hg.1; omega)
      have hbb : bsM bd q.1 k = bd (3 * q.1 + k) := rfl
      have r1 := cutV_rng (n := ln q.1) (k := k) w4
      have r2 := cutV_rng (n := ln q.1) (k := k + 1) w4
      have r3 := cutV_mono (k := k) w4 hl.2 h3
      refine ⟨bsM bd q.1 k, _, _, by omega, ⟨?_, r3, ?_⟩, h5, ?_⟩
      · omega
      · omega
      · obtain ⟨v1, v2, v3, v4⟩ := vN_nd (s := x') (i := a') (j := b') (fd := fd) e1 ⟨a1, ab, b1, hf.2⟩
        refine m2 _ v1 e4 _ ?_
        rw [v2, v3, v4]
        exact ⟨q, h1, by rw [way_eqM hg hf hL hd ⟨a1, ab, b1⟩ h1]; exact h2, k, h3.1, h3.2, by omega, rfl⟩
end PV
section PW
variable {lp : Bool} {nr i : Int} {lf ln bd tm : Int → Int} {th th' : Int → Int → Bool} {it it' T T' : Int → Bool} {c d : Int}
/-- what follows from an item asks only for the sets up to its own -/
theorem stp_congr (hc : c % 13 ≤ i) (h : ∀ p, 0 ≤ p → p < 572 * i + 572 → T p = T' p) (hs : stp lp nr lf ln bd T i c d) : stp lp nr lf ln bd T' i c d := by
  have e := lpN_congr0 (it := T) (it' := T') (lf := lf) (ln := ln) (bd := bd) (c % 13).toNat (lf (c / 52 - 1)) (-1) (fun p h1 h2 => h p h1 (by omega))
  rcases hs with h1 | ⟨h1, h2, h3⟩
  · exact Or.inl h1
  · refine Or.inr ⟨h1, h2, ?_⟩
    rw [e] at h3
    rcases h3 with h3 | ⟨h3, k, k1, k2, k3, k4⟩
    · exact Or.inl h3
    · exact Or.inr ⟨h3, k, k1, k2, by rw [← h _ (by omega) (by omega)]; exact k3, k4⟩
theorem stt_congr (h : ∀ k, 0 < i → 0 ≤ k → k < 572 → it (572 * (i - 1) + k) = it' (572 * (i - 1) + k)) (hs : stt tm ln bd it i d) : stt tm ln bd it' i d := by
  rcases hs with h1 | ⟨h1, k, k1, k2, k3, k4⟩
  · exact Or.inl h1
  · exact Or.inr ⟨h1, k, k1, k2, by rw [← h k h1 k1 k2]; exact k3, k4⟩
/-- where what follows lies -/
theorem stp_rng (hg : gOK nr lf ln bd) (hi : 0 ≤ i ∧ i ≤ 12) (hc : 0 ≤ c ∧ c < 572) (hn : c / 52 - 1 < nr) (hs : stp lp nr lf ln bd T i c d) : 0 ≤ d ∧ d < 572 := by
  have hg1 := hg.1
  rcases hs with ⟨-, q, h1, h2, h3, h4⟩ | ⟨h1, h2, h3⟩
  · omega
  · have hlf := hg.2.1 (c / 52 - 1) h2 (by omega)
    rcases h3 with ⟨-, -, h5, h6⟩ | ⟨-, k, k1, k2, k3, k4, k5⟩
    · have := lpN_rng (it := T) hg (c % 13).toNat (lf (c / 52 - 1)) (-1) (by omega)
      omega
    · have hdot := bc_dot (ln := ln) (bd := bd) (c := k) (by omega)
      have := hg.len (q := k / 52 - 1) (by omega)
      omega
theorem mks_eq (hg : gOK nr lf ln bd) (hi : 0 ≤ i ∧ i ≤ 12) (hR : ∀ k c, 0 ≤ k → k < i → 0 ≤ c → c < 572 → th k c = it (572 * k + c)) (htm : 0 < i → 8 ≤ tm (i - 1)) (hC : Mks lp nr lf ln bd tm i (tab th) (tab th')) (hM : Mks lp nr lf ln bd tm i it it') (hok : ∀ c, th' i c = true → IOK nr ln i c) (hokk : ∀ k c, 0 ≤ k → k < i → th k c = true → IOK nr ln k c) (hc : 0 ≤ c ∧ c < 572) : th' i c = it' (572 * i + c) := by
  obtain ⟨c1, c2, c3, c4⟩ := hC
  obtain ⟨m1, m2, m3, m4⟩ := hM
  have hb : ∀ {d : Int}, 0 ≤ d → d < 572 → 572 * i ≤ 572 * i + d ∧ 572 * i + d < 572 * i + 572 := fun h1 h2 => by omega
  -- below the set
  have low : ∀ p, 0 ≤ p → p < 572 * i → tab th p = it p := by
    intro p h1 h2
    have e : p = 572 * (p / 572) + p % 572 := by omega
    rw [e, tab_at th (by omega)]
    exact hR _ _ (by omega) (by omega) (by omega) (by omega)
  have prev : ∀ k, 0 < i → 0 ≤ k → k < 572 → tab th (572 * (i - 1) + k) = it (572 * (i - 1) + k) := fun k h1 h2 h3 => low _ (by omega) (by omega)
  have st_rng : ∀ d, stt tm ln bd (tab th) i d → (0 ≤ d ∧ d < 572) ∧ d % 13 ≤ i := by
    intro d hs
    rcases hs with ⟨h1, h2⟩ | ⟨h1, k, k1, k2, k3, k4, k5⟩
    · omega
    · rw [tab_at th ⟨k1, k2⟩] at k3
      have h9 := htm h1
      have ho := iok_13 hg (hokk (i - 1) k (by omega) (by omega) k3) (by omega)
      obtain ⟨o1, -, -, o4⟩ := ho
      omega
  have lowok : ∀ t : Int → Bool, (∀ p, 0 ≤ p → p < 572 * i → t p = tab th p) → ∀ o c, 0 ≤ o → o < i → 0 ≤ c → c < 572 → t (572 * o + c) = true → IOK nr ln o c := by
    intro t ht o c o1 o2 c1 c2 h
    rw [ht _ (by omega) (by omega), tab_at th ⟨c1, c2⟩] at h
    exact hokk o c o1 o2 h
  rw [Bool.eq_iff_iff]
  constructor
  · intro h
    have key := c4 (fun p => if 572 * i ≤ p ∧ p < 572 * i + 572 then it' p && decide ((p - 572 * i) % 13 ≤ i) else tab th p) (fun p hp => if_neg hp) (fun d hs => ?_) ?_ (572 * i + c) (by rw [tab_at th' hc]; exact h)
    · rw [if_pos (hb hc.1 hc.2), Bool.and_eq_true] at key
      exact key.1
    · obtain ⟨r1, r2⟩ := st_rng d hs
      show (if _ then _ else _) = true
      rw [if_pos (hb r1.1 r1.2), Bool.and_eq_true, show 572 * i + d - 572 * i = d by omega]
      exact ⟨m2 d (stt_congr prev hs), decide_eq_true r2⟩
    · -- closed
      intro c d hc1 hc2 hT hs
      have hT' : (if 572 * i ≤ 572 * i + c ∧ 572 * i + c < 572 * i + 572 then it' (572 * i + c) && decide ((572 * i + c - 572 * i) % 13 ≤ i) else tab th (572 * i + c)) = true := hT
      rw [if_pos (hb hc1 hc2), Bool.and_eq_true, show 572 * i + c - 572 * i = c by omega] at hT'
      obtain ⟨t1, t2⟩ := hT'
      have t2 := of_decide_eq_true t2
      generalize hTd : (fun p => if 572 * i ≤ p ∧ p < 572 * i + 572 then it' p && decide ((p - 572 * i) % 13 ≤ i) else tab th p) = TT at hs ⊢
      have eT : ∀ p, TT p = if 572 * i ≤ p ∧ p < 572 * i + 572 then it' p && decide ((p - 572 * i) % 13 ≤ i) else tab th p := fun p => by rw [← hTd]
      have lowT : ∀ p, 0 ≤ p → p < 572 * i → TT p = tab th p := fun p h1 h2 => by rw [eT, if_neg (by omega)]
      have lowI : ∀ p, 0 ≤ p → p < 572 * i → TT p = it' p := fun p h1 h2 => by rw [lowT p h1 h2, low p h1 h2, m1 p (by omega)]
      -- the same step in the reference, and the origin
      have hst : stp lp nr lf ln bd it' i c d ∧ d % 13 ≤ i := by
        rcases hs with h1 | ⟨h1, h2, h3⟩
        · obtain ⟨-, q, q1, q2, q3, q4⟩ := id h1
          exact ⟨Or.inl h1, by omega⟩
        · have hlf : 0 ≤ lf (c / 52 - 1) := by
            have hg1 := hg.1
            exact (hg.2.1 (c / 52 - 1) h2 (by omega)).1
          by_cases ho : c % 13 < i
          · have e := lpN_congr0 (it := TT) (it' := it') (lf := lf) (ln := ln) (bd := bd) (c % 13).toNat (lf (c / 52 - 1)) (-1) (fun p h1 h2 => lowI p h1 (by omega))
            rcases h3 with ⟨a1, a2, a3, a4⟩ | ⟨a1, k, k1, k2, k3, k4, k5⟩
            · rcases lpN_ok (t := TT) hg (c % 13).toNat (lf (c / 52 - 1)) (-1) hlf (fun o o1 o2 x x1 x2 x3 => lowok TT lowT o x o1 (by omega) x1 x2 x3) with z | z
              · omega
              · refine ⟨Or.inr ⟨h1, h2, Or.inl ⟨a1, a2, by rw [← e]; exact a3, by rw [← e]; exact a4⟩⟩, ?_⟩
                have := z.2.2.2
                omega
            · refine ⟨Or.inr ⟨h1, h2, Or.inr ⟨by rw [← e]; exact a1, k, k1, k2, by rw [← lowI _ (by omega) (by omega)]; exact k3, k4, k5⟩⟩, ?_⟩
              have := (lowok TT lowT (c % 13) k (by omega) ho k1 k2 k3).2.2.2
              omega
          · have ei : c % 13 = i := by omega
            rcases h3 with ⟨a1, a2, -⟩ | ⟨a1, k, k1, k2, k3, k4, k5⟩
            · exact absurd a2 ho
            · rw [ei, eT, if_pos (hb k1 k2), Bool.and_eq_true, show 572 * i + k - 572 * i = k by omega] at k3
              have k6 := of_decide_eq_true k3.2
              exact ⟨Or.inr ⟨h1, h2, Or.inr ⟨fun h => ho h.2.1, k, k1, k2, by rw [ei]; exact k3.1, k4, k5⟩⟩, by omega⟩
      have hit := m3 c d hc1 hc2 t1 hst.1
      -- d lies in the set
      have hd : 0 ≤ d ∧ d < 572 := by
        have hg1 := hg.1
        rcases hst.1 with ⟨-, q, h1, h2, h3, h4⟩ | ⟨h1, h2, h3⟩
        · omega
        · have hr := lpN_rng (it := it') hg (c % 13).toNat (lf (c / 52 - 1)) (-1) (by omega)
          have hlf := (hg.2.1 (c / 52 - 1) h2 (by omega)).1
          rcases h3 with ⟨-, -, h5, h6⟩ | ⟨-, k, k1, k2, k3, k4, k5⟩
          · omega
          · have hdot := bc_dot (ln := ln) (bd := bd) (c := k) (by omega)
            have := hg.len (q := k / 52 - 1) (by omega)
            omega
      rw [eT, if_pos (hb hd.1 hd.2), Bool.and_eq_true, show 572 * i + d - 572 * i = d by omega]
      exact ⟨hit, decide_eq_true hst.2⟩
  · intro h
    have key := m4 (fun p => if 572 * i ≤ p ∧ p < 572 * i + 572 then tab th' p else it p) (fun p hp => if_neg hp) (fun d hs => ?_) ?_ (572 * i + c) h
    · rw [if_pos (hb hc.1 hc.2), tab_at th' hc] at key
      exact key
    · have hs' := stt_congr (fun k h1 h2 h3 => (prev k h1 h2 h3).symm) hs
      obtain ⟨r1, r2⟩ := st_rng d hs'
      show (if _ then _ else _) = true
      rw [if_pos (hb r1.1 r1.2)]
      exact c2 d hs'
    · intro c d hc1 hc2 hT hs
      have hT' : (if 572 * i ≤ 572 * i + c ∧ 572 * i + c < 572 * i + 572 then tab th' (572 * i + c) else it (572 * i + c)) = true := hT
      rw [if_pos (hb hc1 hc2)] at hT'
      have ho := hok c (by rw [tab_at th' ⟨hc1, hc2⟩] at hT'; exact hT')
      have hs' := stp_congr (T' := tab th') ho.2.2.2 (fun p h1 h2 => by
        show (if _ then _ else _) = _
        by_cases hp : 572 * i ≤ p ∧ p < 572 * i + 572
        · rw [if_pos hp]
        · rw [if_neg hp, c1 p hp, low p h1 (by omega)]) hs
      have hd := stp_rng hg hi ⟨hc1, hc2⟩ ho.2.1 hs'
      show (if _ then _ else _) = true
      rw [if_pos (hb hd.1 hd.2)]
      exact c3 c d hc1 hc2 hT' hs'
end PW
