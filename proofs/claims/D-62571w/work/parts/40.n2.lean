section N2
variable {l : Launch} {D : jD} {b : Nat} {w : jW} {ad : Nat → Nat} {r : Nat → Option jE} {lp : Bool} {fd : Int} {nr : Int} {nc : Int} {nd : Int} {mc : Int} {lf : Int → Int} {ln : Int → Int} {bd : Int → Int} {tm : Int → Int} {it : Int → Int → Int} {th : Int → Int → Bool} {my : Int → Int} {lps : Int → Int → Int} {em : Int → Int} {mk : Int → Int → Int} {tr : Int → Int → Int → Int} {wg : Bool} {wr : Value} {we : Int} {wc : Int → Int} {wb : Bool} {vg : Bool} {vr : Value} {ve : Int} {vc : Int → Int} {vb : Bool} {sy : Int → Int} {sf : Int → Int} {so : Int → Int} {st : Int → Int} {sn : Int} {ne : Int → Int} {mt : Int → Int → Bool}
set_option maxHeartbeats 4000000 in
theorem c_Se_clear  {k : Int} (hk : 0 ≤ k ∧ k < 13) (hS : SO it th my) : Ct l D b Y_Se_clear { frames := 0, cells := 0, slots := 0, locals := 0 } [Value.ref (ad (idS k))] (ad, cC ad r lp fd nr nr nr mc lf ln bd tm it th my lps em mk tr wg wr we wc wb vg vr ve vc vb sy sf so st sn ne mt) (fun v w' => v = none ∧ ∃ lps', w' = (ad, cC ad r lp fd nr nr nr mc lf ln bd tm it (upI th k (fun _ => false)) (upI my k 0) lps' (upI em k 0) mk tr wg wr we wc wb vg vr ve vc vb sy sf so st sn ne mt) ∧ (∀ k', k' ≠ k → lps' k' = lps k') ∧ (∀ y, 0 ≤ y → y < 5 → lps' k y = -1) ∧ SO it (upI th k (fun _ => false)) (upI my k 0)) := by
  refine Ct_of (by decide) (Nat.le_of_ble_eq_true rfl) ?_
  show J l D b Y_Se_clear _ _ (ad, cC ad r lp fd nr nr nr mc lf ln bd tm it th my lps em mk tr wg wr we wc wb vg vr ve vc vb sy sf so st sn ne mt) 0 0 0 [(0, Value.ref (ad (idS k)))] []
  refine J_aload_n d_Se_clear_0 rfl 0 rfl ?_
  refine J_iconst d_Se_clear_1 ?_
  refine J_put fs_Se_23 (hidS (k := k) (by omega)) (Nat.le_of_ble_eq_true rfl) (fun _ h => by cases h; exact Or.inl rfl) rfl rfl (uidS_my (k := k) (by omega)) d_Se_clear_2 ?_
  refine J_aload_n d_Se_clear_5 rfl 0 rfl ?_
  refine J_iconst d_Se_clear_6 ?_
  refine J_put fs_Se_27 (hidS (k := k) (by omega)) (Nat.le_of_ble_eq_true rfl) (fun _ h => by cases h; exact Or.inl rfl) rfl rfl (uidS_em (k := k) (by omega)) d_Se_clear_7 ?_
  refine J_iconst d_Se_clear_10 ?_
  refine J_istore_n d_Se_clear_11 rfl (by decide) rfl ?_
  refine J.loop (σ := Int × (Int → Int → Bool)) (fun xx_ => match xx_ with | (j, th1) => (0 ≤ j ∧ j ≤ 9) ∧ (th1 = upI th k (clw (th k) j))) (fun xx_ => match xx_ with | (j, th1) => (9 - j).toNat) (ws := fun xx_ => match xx_ with | (j, th1) => (ad, cC ad r lp fd nr nr nr mc lf ln bd tm it th1 (upI my k 0) lps (upI em k 0) mk tr wg wr we wc wb vg vr ve vc vb sy sf so st sn ne mt)) (ks := fun _ => 0) (ns := fun _ => 0) (lvs := fun xx_ => match xx_ with | (j, th1) => [(1, Value.int (iI j)), (0, Value.ref (ad (idS k)))]) (sts := fun _ => []) ?_ (0, th) ?_
  · rintro ⟨j, th1⟩ hI ih1
    have hI : (0 ≤ j ∧ j ≤ 9) ∧ (th1 = upI th k (clw (th k) j)) := hI
    obtain ⟨hj, ht⟩ := hI
    show J l D b Y_Se_clear _ _ (ad, cC ad r lp fd nr nr nr mc lf ln bd tm it th1 (upI my k 0) lps (upI em k 0) mk tr wg wr we wc wb vg vr ve vc vb sy sf so st sn ne mt) 0 0 12 [(1, Value.int (iI j)), (0, Value.ref (ad (idS k)))] []
    refine J_iload_n d_Se_clear_12 rfl 0 rfl ?_
    refine J_aload_n d_Se_clear_13 rfl 1 rfl ?_
    refine J_get fs_Se_15 (hidS (k := k) (by omega)) rfl d_Se_clear_14 ?_
    refine J_alen (hidT (k := k) (by omega)) d_Se_clear_17 ?_
    refine J_icmp_ge (tgt := 34) d_Se_clear_18 rfl (by omega) (by omega) (fun h18_2 => ?_) (fun h18_2 => ?_)
    · have hth : th1 = upI th k (fun _ => false) := by rw [ht, show j = 9 by omega, clw_9 (hS k hk.1 hk.2)]
      refine J_iconst d_Se_clear_34 ?_
      refine J_istore_n d_Se_clear_35 rfl (by decide) rfl ?_
      have hS' := clw_9 (hS k hk.1 hk.2)
      refine J.loop (σ := Int × (Int → Int → Int)) (fun xx_ => match xx_ with | (y, lps1) => (0 ≤ y ∧ y ≤ 5) ∧ ((∀ k', k' ≠ k → lps1 k' = lps k') ∧ ∀ y', 0 ≤ y' → y' < y → lps1 k y' = -1)) (fun xx_ => match xx_ with | (y, lps1) => (5 - y).toNat) (ws := fun xx_ => match xx_ with | (y, lps1) => (ad, cC ad r lp fd nr nr nr mc lf ln bd tm it th1 (upI my k 0) lps1 (upI em k 0) mk tr wg wr we wc wb vg vr ve vc vb sy sf so st sn ne mt)) (ks := fun _ => 0) (ns := fun _ => 0) (lvs := fun xx_ => match xx_ with | (y, lps1) => [(1, Value.int (iI y)), (0, Value.ref (ad (idS k)))]) (sts := fun _ => []) ?_ (0, lps) ?_
      · rintro ⟨y, lps1⟩ hI ih3
        have hI : (0 ≤ y ∧ y ≤ 5) ∧ ((∀ k', k' ≠ k → lps1 k' = lps k') ∧ ∀ y', 0 ≤ y' → y' < y → lps1 k y' = -1) := hI
        obtain ⟨hy, hl⟩ := hI
        show J l D b Y_Se_clear _ _ (ad, cC ad r lp fd nr nr nr mc lf ln bd tm it th1 (upI my k 0) lps1 (upI em k 0) mk tr wg wr we wc wb vg vr ve vc vb sy sf so st sn ne mt) 0 0 36 [(1, Value.int (iI y)), (0, Value.ref (ad (idS k)))] []
        refine J_iload_n d_Se_clear_36 rfl 0 rfl ?_
        refine J_iconst d_Se_clear_37 ?_
        refine J_icmp_ge (tgt := 54) d_Se_clear_38 rfl (by omega) (by omega) (fun h38_4 => ?_) (fun h38_4 => ?_)
        · refine J_vret rfl d_Se_clear_54 ⟨Nat.le_of_ble_eq_true rfl, Nat.le_of_ble_eq_true rfl⟩ ?_
          rw [hth]
          refine ⟨rfl, lps1, rfl, hl.1, fun y' a1 a2 => hl.2 y' a1 (by omega), fun k' a1 a2 => ?_⟩
          by_cases hkk : k' = k
          · rw [hkk, upI_self, upI_self]
            exact SetR.nil
          · rw [upI_ne _ _ hkk, upI_ne _ _ hkk]
            exact hS k' a1 a2
        · refine J_aload_n d_Se_clear_41 rfl 1 rfl ?_
          refine J_get fs_Se_19 (hidS (k := k) (by omega)) rfl d_Se_clear_42 ?_
          refine J_iload_n d_Se_clear_45 rfl 0 rfl ?_
          refine J_iconst d_Se_clear_46 ?_
          refine J_iast (hidL (k := k) (by omega)) (by omega) (by decide) (uidL_lps (k := k) (by omega)) d_Se_clear_47 ?_
          refine J_iinc (j := 0) d_Se_clear_48 rfl (by decide) rfl ?_
          refine J_goto (tgt := 36) d_Se_clear_51 rfl ?_
          exact ih3 (y + 1, upI lps1 k (upI (lps1 k) y (-1))) (show (0 ≤ (y + 1) ∧ (y + 1) ≤ 5) ∧ ((∀ k', k' ≠ k → (upI lps1 k (upI (lps1 k) y (-1))) k' = lps k') ∧ ∀ y', 0 ≤ y' → y' < (y + 1) → (upI lps1 k (upI (lps1 k) y (-1))) k y' = -1) by
              refine ⟨by omega, fun k' h => by rw [upI_ne _ _ h]; exact hl.1 k' h, fun y' a1 a2 => ?_⟩
              rw [upI_self, upI_ap]
              split
              · rfl
              · exact hl.2 y' a1 (by omega)) (show ((5 - (y + 1)).toNat) < ((5 - y).toNat) by
              omega)
      · show (0 ≤ (0 : Int) ∧ (0 : Int) ≤ 5) ∧ ((∀ k', k' ≠ k → lps k' = lps k') ∧ ∀ y', 0 ≤ y' → y' < (0 : Int) → lps k y' = -1)
        exact ⟨by omega, fun _ _ => rfl, fun y' _ _ => by omega⟩
    · refine J_aload_n d_Se_clear_21 rfl 1 rfl ?_
      refine J_get fs_Se_15 (hidS (k := k) (by omega)) rfl d_Se_clear_22 ?_
      refine J_iload_n d_Se_clear_25 rfl 0 rfl ?_
      refine J_lconst (z := 0) d_Se_clear_26 rfl ?_
      refine J_lastR (hidT (k := k) (by omega)) (by omega) (by decide) (by rw [ht, upI_self]; exact clw_s (by omega)) (uidT_th (k := k) (by omega)) d_Se_clear_27 ?_
      refine J_iinc (j := 0) d_Se_clear_28 rfl (by decide) rfl ?_
      refine J_goto (tgt := 12) d_Se_clear_31 rfl ?_
      exact ih1 (j + 1, upI th1 k (clw (th k) (j + 1))) (show (0 ≤ (j + 1) ∧ (j + 1) ≤ 9) ∧ ((upI th1 k (clw (th k) (j + 1))) = upI th k (clw (th k) (j + 1))) by
          exact ⟨by omega, by rw [ht, upI_up]⟩) (show ((9 - (j + 1)).toNat) < ((9 - j).toNat) by
          omega)
  · show (0 ≤ (0 : Int) ∧ (0 : Int) ≤ 9) ∧ (th = upI th k (clw (th k) (0 : Int)))
    exact ⟨by omega, by rw [clw_0]; exact (upI_id rfl).symm⟩
set_option maxHeartbeats 4000000 in
theorem c_CF_predict {x : Int} {i : Int} {k : Int} (hg : gOK nr lf ln bd) (hk : 0 ≤ k ∧ k < 13) (hx : 0 ≤ x ∧ x ≤ 4) (hi : 0 ≤ i ∧ i < 13) (hS : SO it th my) : Ct l D b Y_CF_predict { frames := 3, cells := 0, slots := 0, locals := 64 } [Value.ref (ad 100), Value.ref (ad (idS k)), Value.int (iI x), Value.int (iI i)] (ad, cC ad r lp fd nr nr nr mc lf ln bd tm it th my lps em mk tr wg wr we wc wb vg vr ve vc vb sy sf so st sn ne mt) (fun v w' => v = none ∧ ∃ it' th' my', w' = (ad, cC ad r lp fd nr nr nr mc lf ln bd tm it' th' my' lps em mk tr wg wr we wc wb vg vr ve vc vb sy sf so st sn ne mt) ∧ GroQ k it th my it' th' my' (fun d => ∃ q, 0 ≤ q ∧ q < nr ∧ lf q = x ∧ d = 52 * (q + 1) + i)) := by
  refine Ct_of (by decide) (Nat.le_of_ble_eq_true rfl) ?_
  have hn := hg.1
  show J l D b Y_CF_predict _ _ (ad, cC ad r lp fd nr nr nr mc lf ln bd tm it th my lps em mk tr wg wr we wc wb vg vr ve vc vb sy sf so st sn ne mt) 0 0 0 [(0, Value.ref (ad 100)), (1, Value.ref (ad (idS k))), (2, Value.int (iI x)), (3, Value.int (iI i))] []
  refine J_iconst d_CF_predict_0 ?_
  refine J_istore d_CF_predict_1 (by decide) rfl ?_
  refine J.loop (σ := Int × (Int → Int → Int) × (Int → Int → Bool) × (Int → Int)) (fun xx_ => match xx_ with | (p, it1, th1, my1) => (0 ≤ p ∧ p ≤ nr) ∧ (GroQ k it th my it1 th1 my1 (fun d => ∃ q, 0 ≤ q ∧ q < p ∧ lf q = x ∧ d = 52 * (q + 1) + i))) (fun xx_ => match xx_ with | (p, it1, th1, my1) => (nr - p).toNat) (ws := fun xx_ => match xx_ with | (p, it1, th1, my1) => (ad, cC ad r lp fd nr nr nr mc lf ln bd tm it1 th1 my1 lps em mk tr wg wr we wc wb vg vr ve vc vb sy sf so st sn ne mt)) (ks := fun _ => 0) (ns := fun _ => 0) (lvs := fun xx_ => match xx_ with | (p, it1, th1, my1) => [(4, Value.int (iI p)), (0, Value.ref (ad 100)), (1, Value.ref (ad (idS k))), (2, Value.int (iI x)), (3, Value.int (iI i))]) (sts := fun _ => []) ?_ (0, it, th, my) ?_
  · rintro ⟨p, it1, th1, my1⟩ hI ih1
    have hI : (0 ≤ p ∧ p ≤ nr) ∧ (GroQ k it th my it1 th1 my1 (fun d => ∃ q, 0 ≤ q ∧ q < p ∧ lf q = x ∧ d = 52 * (q + 1) + i)) := hI
    obtain ⟨hp, hQ⟩ := hI
    show J l D b Y_CF_predict _ _ (ad, cC ad r lp fd nr nr nr mc lf ln bd tm it1 th1 my1 lps em mk tr wg wr we wc wb vg vr ve vc vb sy sf so st sn ne mt) 0 0 3 [(4, Value.int (iI p)), (0, Value.ref (ad 100)), (1, Value.ref (ad (idS k))), (2, Value.int (iI x)), (3, Value.int (iI i))] []
    refine J_iload d_CF_predict_3 0 rfl ?_
    refine J_aload_n d_CF_predict_5 rfl 1 rfl ?_
    refine J_get fs_CF_23 rfl rfl d_CF_predict_6 ?_
    refine J_callV (st := [Value.int (iI p)]) [] ms_CF_105 rfl (c_Al_size) rfl rfl ⟨Nat.le_of_ble_eq_true rfl, Nat.le_of_ble_eq_true rfl⟩ ⟨Nat.le_of_ble_eq_true rfl, Nat.le_of_ble_eq_true rfl⟩ (Nat.le_of_ble_eq_true rfl) d_CF_predict_9 (fun v w' hp => ?_)
    obtain ⟨rfl, rfl⟩ := hp
    show J l D b Y_CF_predict _ _ (ad, cC ad r lp fd nr nr nr mc lf ln bd tm it1 th1 my1 lps em mk tr wg wr we wc wb vg vr ve vc vb sy sf so st sn ne mt) 0 0 12 [(4, Value.int (iI p)), (0, Value.ref (ad 100)), (1, Value.ref (ad (idS k))), (2, Value.int (iI x)), (3, Value.int (iI i))] [Value.int (iI nr), Value.int (iI p)]
    refine J_icmp_ge (tgt := 51) d_CF_predict_12 rfl (by omega) (by omega) (fun h12_3 => ?_) (fun h12_3 => ?_)
    · refine J_vret rfl d_CF_predict_51 ⟨Nat.le_of_ble_eq_true rfl, Nat.le_of_ble_eq_true rfl⟩ ?_
      exact ⟨rfl, _, _, _, rfl, by rw [show p = nr by omega] at hQ; exact hQ⟩
    · have hlf := hg.2.1 p (by omega) (by omega)
      have hS := hQ.1.2.2.2.2
      refine J_aload_n d_CF_predict_15 rfl 1 rfl ?_
      refine J_get fs_CF_23 rfl rfl d_CF_predict_16 ?_
      refine J_iload d_CF_predict_19 0 rfl ?_
      refine J_callV (st := []) [Value.int (iI p)] ms_CF_87 rfl (c_Al_get (by omega)) rfl rfl ⟨Nat.le_of_ble_eq_true rfl, Nat.le_of_ble_eq_true rfl⟩ ⟨Nat.le_of_ble_eq_true rfl, Nat.le_of_ble_eq_true rfl⟩ (Nat.le_of_ble_eq_true rfl) d_CF_predict_21 (fun v w' hp => ?_)
      obtain ⟨rfl, rfl⟩ := hp
      show J l D b Y_CF_predict _ _ (ad, cC ad r lp fd nr nr nr mc lf ln bd tm it1 th1 my1 lps em mk tr wg wr we wc wb vg vr ve vc vb sy sf so st sn ne mt) 0 0 24 [(4, Value.int (iI p)), (0, Value.ref (ad 100)), (1, Value.ref (ad (idS k))), (2, Value.int (iI x)), (3, Value.int (iI i))] [Value.ref (ad (idR p))]
      refine J_cast (hidR (k := p) (by omega) (by omega)) rfl cl_CF_9 ca_Ru d_CF_predict_24 ?_
      refine J_get fs_CF_144 (hidR (k := p) (by omega) (by omega)) rfl d_CF_predict_27 ?_
      refine J_iload_n d_CF_predict_30 rfl 3 rfl ?_
      refine J_icmp_ne (tgt := 45) d_CF_predict_31 rfl (by omega) (by omega) (fun h31_5 => ?_) (fun h31_5 => ?_)
      · refine J_iinc (j := 0) d_CF_predict_45 rfl (by decide) rfl ?_
        refine J_goto (tgt := 3) d_CF_predict_48 rfl ?_
        exact ih1 (p + 1, it1, th1, my1) (show (0 ≤ (p + 1) ∧ (p + 1) ≤ nr) ∧ (GroQ k it th my it1 th1 my1 (fun d => ∃ q, 0 ≤ q ∧ q < (p + 1) ∧ lf q = x ∧ d = 52 * (q + 1) + i)) by
            refine ⟨by omega, hQ.of (fun d => ⟨fun ⟨q, h1, h2, h3, h4⟩ => ⟨q, h1, by omega, h3, h4⟩, fun ⟨q, h1, h2, h3, h4⟩ => ⟨q, h1, ?_, h3, h4⟩⟩)⟩
            by_cases hqr : q = p
            · rw [hqr] at h3
              exact absurd h3 ‹_›
            · omega) (show ((nr - (p + 1)).toNat) < ((nr - p).toNat) by
            omega)
      · refine J_aload_n d_CF_predict_34 rfl 2 rfl ?_
        refine J_iload d_CF_predict_35 0 rfl ?_
        refine J_iconst d_CF_predict_37 ?_
        refine J_iload_n d_CF_predict_38 rfl 4 rfl ?_
        refine J_callS (st := [Value.ref (ad (idS k))]) [Value.int (iI p), Value.int (iI 0), Value.int (iI i)] ms_CF_77 (c_CF_pack) rfl rfl ⟨Nat.le_of_ble_eq_true rfl, Nat.le_of_ble_eq_true rfl⟩ ⟨Nat.le_of_ble_eq_true rfl, Nat.le_of_ble_eq_true rfl⟩ (Nat.le_of_ble_eq_true rfl) d_CF_predict_39 (fun v w' hp => ?_)
        obtain ⟨rfl, rfl⟩ := hp
        show J l D b Y_CF_predict _ _ (ad, cC ad r lp fd nr nr nr mc lf ln bd tm it1 th1 my1 lps em mk tr wg wr we wc wb vg vr ve vc vb sy sf so st sn ne mt) 0 0 42 [(4, Value.int (iI p)), (0, Value.ref (ad 100)), (1, Value.ref (ad (idS k))), (2, Value.int (iI x)), (3, Value.int (iI i))] [Value.int (iI (52 * (p + 1) + 13 * 0 + i)), Value.ref (ad (idS k))]
        refine J_callV (st := []) [Value.int (iI (52 * (p + 1) + 13 * 0 + i))] ms_CF_81 (hidS (k := k) (by omega)) (c_Se_add (by omega) (by omega) hS) rfl rfl ⟨Nat.le_of_ble_eq_true rfl, Nat.le_of_ble_eq_true rfl⟩ ⟨Nat.le_of_ble_eq_true rfl, Nat.le_of_ble_eq_true rfl⟩ (Nat.le_of_ble_eq_true rfl) d_CF_predict_42 (fun v w' hp => ?_)
        obtain ⟨rfl, it7, th7, my7, rfl, hG7⟩ := hp
        show J l D b Y_CF_predict _ _ (ad, cC ad r lp fd nr nr nr mc lf ln bd tm it7 th7 my7 lps em mk tr wg wr we wc wb vg vr ve vc vb sy sf so st sn ne mt) 0 0 45 [(4, Value.int (iI p)), (0, Value.ref (ad 100)), (1, Value.ref (ad (idS k))), (2, Value.int (iI x)), (3, Value.int (iI i))] []
        refine J_iinc (j := 0) d_CF_predict_45 rfl (by decide) rfl ?_
        refine J_goto (tgt := 3) d_CF_predict_48 rfl ?_
        exact ih1 (p + 1, it7, th7, my7) (show (0 ≤ (p + 1) ∧ (p + 1) ≤ nr) ∧ (GroQ k it th my it7 th7 my7 (fun d => ∃ q, 0 ≤ q ∧ q < (p + 1) ∧ lf q = x ∧ d = 52 * (q + 1) + i)) by
            refine ⟨by omega, (hQ.trans ‹GroQ k it1 th1 my1 _ _ _ _›).of (fun d => ⟨fun h => ?_, fun ⟨q, h1, h2, h3, h4⟩ => ?_⟩)⟩
            · rcases h with ⟨q, h1, h2, h3, h4⟩ | h
              · exact ⟨q, h1, by omega, h3, h4⟩
              · exact ⟨p, by omega, by omega, ‹_›, by omega⟩
            · by_cases hqr : q = p
              · exact Or.inr (by rw [h4, hqr]; omega)
              · exact Or.inl ⟨q, h1, by omega, h3, h4⟩) (show ((nr - (p + 1)).toNat) < ((nr - p).toNat) by
            omega)
  · show (0 ≤ (0 : Int) ∧ (0 : Int) ≤ nr) ∧ (GroQ k it th my it th my (fun d => ∃ q, 0 ≤ q ∧ q < (0 : Int) ∧ lf q = x ∧ d = 52 * (q + 1) + i))
    exact ⟨by omega, (GroQ.rf hS).of (fun d => ⟨fun h => h.elim, fun ⟨q, h1, h2, _⟩ => by omega⟩)⟩
set_option maxHeartbeats 4000000 in
theorem c_CF_advanceAll {x : Int} {a : Int} {k : Int} (hg : gOK nr lf ln bd) (ha : 0 ≤ a ∧ a < 13) (hk : 0 ≤ k ∧ k < 13) (hx : 0 ≤ x ∧ x ≤ 11) (hS : SO it th my) (hIo : ∀ c, th k c = true → c / 52 - 1 < nr) : Ct l D b Y_CF_advanceAll { frames := 5, cells := 0, slots := 0, locals := 106 } [Value.ref (ad 100), Value.ref (ad (idS a)), Value.ref (ad (idS k)), Value.int (iI x)] (ad, cC ad r lp fd nr nr nr mc lf ln bd tm it th my lps em mk tr wg wr we wc wb vg vr ve vc vb sy sf so st sn ne mt) (fun v w' => v = none ∧ ∃ it' th' my', w' = (ad, cC ad r lp fd nr nr nr mc lf ln bd tm it' th' my' lps em mk tr wg wr we wc wb vg vr ve vc vb sy sf so st sn ne mt) ∧ GroQ a it th my it' th' my' (fun d => ∃ c, th k c = true ∧ bc ln bd c = x ∧ d = c + 13)) := by
  refine Ct_of (by decide) (Nat.le_of_ble_eq_true rfl) ?_
  have hn := hg.1
  have hK := hS k hk.1 hk.2
  have hm := hK.rng
  show J l D b Y_CF_advanceAll _ _ (ad, cC ad r lp fd nr nr nr mc lf ln bd tm it th my lps em mk tr wg wr we wc wb vg vr ve vc vb sy sf so st sn ne mt) 0 0 0 [(0, Value.ref (ad 100)), (1, Value.ref (ad (idS a))), (2, Value.ref (ad (idS k))), (3, Value.int (iI x))] []
  refine J_aload_n d_CF_advanceAll_0 rfl 2 rfl ?_
  refine J_get fs_CF_136 (hidS (k := k) (by omega)) rfl d_CF_advanceAll_1 ?_
  refine J_istore d_CF_advanceAll_4 (by decide) rfl ?_
  refine J_iconst d_CF_advanceAll_6 ?_
  refine J_istore d_CF_advanceAll_7 (by decide) rfl ?_
  refine J.sub [0, 1, 2, 3, 4, 5] (lv' := [(5, Value.int (iI 0)), (4, Value.int (iI (my k))), (0, Value.ref (ad 100)), (1, Value.ref (ad (idS a))), (2, Value.ref (ad (idS k))), (3, Value.int (iI x))]) rfl ?_
  refine J.loop (σ := Int × (Int → Int → Int) × (Int → Int → Bool) × (Int → Int)) (fun xx_ => match xx_ with | (j, it1, th1, my1) => (0 ≤ j ∧ j ≤ my k) ∧ (GroQ a it th my it1 th1 my1 (fun d => ∃ j', 0 ≤ j' ∧ j' < j ∧ bc ln bd (it k j') = x ∧ d = it k j' + 13))) (fun xx_ => match xx_ with | (j, it1, th1, my1) => (my k - j).toNat) (ws := fun xx_ => match xx_ with | (j, it1, th1, my1) => (ad, cC ad r lp fd nr nr nr mc lf ln bd tm it1 th1 my1 lps em mk tr wg wr we wc wb vg vr ve vc vb sy sf so st sn ne mt)) (ks := fun _ => 0) (ns := fun _ => 0) (lvs := fun xx_ => match xx_ with | (j, it1, th1, my1) => [(5, Value.int (iI j)), (4, Value.int (iI (my k))), (0, Value.ref (ad 100)), (1, Value.ref (ad (idS a))), (2, Value.ref (ad (idS k))), (3, Value.int (iI x))]) (sts := fun _ => []) ?_ (0, it, th, my) ?_
  · rintro ⟨j, it1, th1, my1⟩ hI ih1
    have hI : (0 ≤ j ∧ j ≤ my k) ∧ (GroQ a it th my it1 th1 my1 (fun d => ∃ j', 0 ≤ j' ∧ j' < j ∧ bc ln bd (it k j') = x ∧ d = it k j' + 13)) := hI
    obtain ⟨hj, hQ⟩ := hI
    show J l D b Y_CF_advanceAll _ _ (ad, cC ad r lp fd nr nr nr mc lf ln bd tm it1 th1 my1 lps em mk tr wg wr we wc wb vg vr ve vc vb sy sf so st sn ne mt) 0 0 9 [(5, Value.int (iI j)), (4, Value.int (iI (my k))), (0, Value.ref (ad 100)), (1, Value.ref (ad (idS a))), (2, Value.ref (ad (idS k))), (3, Value.int (iI x))] []
    refine J_iload d_CF_advanceAll_9 0 rfl ?_
    refine J_iload d_CF_advanceAll_11 1 rfl ?_
    refine J_icmp_ge (tgt := 50) d_CF_advanceAll_13 rfl (by omega) (by omega) (fun h13_2 => ?_) (fun h13_2 => ?_)
    · refine J_vret rfl d_CF_advanceAll_50 ⟨Nat.le_of_ble_eq_true rfl, Nat.le_of_ble_eq_true rfl⟩ ?_
      refine ⟨rfl, _, _, _, rfl, hQ.of (fun d => ⟨fun ⟨q, h1, h2, h3, h4⟩ => ⟨it k q, (hK.2.1 q h1 (by omega)).2, h3, h4⟩, fun ⟨c, h1, h2, h3⟩ => ?_⟩)⟩
      obtain ⟨q, h4, h5, h6⟩ := hK.2.2.1 c h1
      exact ⟨q, h4, by omega, by rw [h6]; exact h2, by rw [h6]; exact h3⟩
    · have hcj := hQ.1.item (k := k) (j := j) (by omega)
      have hc0 := (hK.2.1 j (by omega) (by omega))
      have hc1 := hIo _ hc0.2
      rw [← hcj] at hc0 hc1
      have hS := hQ.1.2.2.2.2
      refine J_aload_n d_CF_advanceAll_16 rfl 4 rfl ?_
      refine J_get fs_CF_139 (hidS (k := k) (by omega)) rfl d_CF_advanceAll_17 ?_
      refine J_iload d_CF_advanceAll_20 0 rfl ?_
      refine J_sald (hidI (k := k) (by omega)) (by omega) (by decide) d_CF_advanceAll_22 ?_
      obtain ⟨c, ec⟩ : ∃ y, y = it1 k j := ⟨_, rfl⟩
      rw [← ec]
      refine J_istore d_CF_advanceAll_23 (by decide) rfl ?_
      rw [← ec] at hc0 hc1
      have hc2 := hc0.1
      have hbr := hg.bc hc2
      refine J_aload_n d_CF_advanceAll_25 rfl 3 rfl ?_
      refine J_iload d_CF_advanceAll_26 0 rfl ?_
      refine J_callV (st := []) [Value.int (iI c)] ms_CF_143 rfl (c_CF_behind hg (by omega)) rfl rfl ⟨Nat.le_of_ble_eq_true rfl, Nat.le_of_ble_eq_true rfl⟩ ⟨Nat.le_of_ble_eq_true rfl, Nat.le_of_ble_eq_true rfl⟩ (Nat.le_of_ble_eq_true rfl) d_CF_advanceAll_28 (fun v w' hp => ?_)
      obtain ⟨rfl, rfl⟩ := hp
      show J l D b Y_CF_advanceAll _ _ (ad, cC ad r lp fd nr nr nr mc lf ln bd tm it1 th1 my1 lps em mk tr wg wr we wc wb vg vr ve vc vb sy sf so st sn ne mt) 0 0 31 [(6, Value.int (iI c)), (5, Value.int (iI j)), (4, Value.int (iI (my k))), (0, Value.ref (ad 100)), (1, Value.ref (ad (idS a))), (2, Value.ref (ad (idS k))), (3, Value.int (iI x))] [Value.int (iI (bc ln bd c))]
      refine J_iload_n d_CF_advanceAll_31 rfl 6 rfl ?_
      refine J_icmp_ne (tgt := 44) d_CF_advanceAll_32 rfl (by omega) (by omega) (fun h32_4 => ?_) (fun h32_4 => ?_)
      · refine J_iinc (j := 1) d_CF_advanceAll_44 rfl (by decide) rfl ?_
        refine J_goto (tgt := 9) d_CF_advanceAll_47 rfl ?_
        refine J.sub [0, 2, 3, 4, 5, 6] rfl ?_
        exact ih1 (j + 1, it1, th1, my1) (show (0 ≤ (j + 1) ∧ (j + 1) ≤ my k) ∧ (GroQ a it th my it1 th1 my1 (fun d => ∃ j', 0 ≤ j' ∧ j' < (j + 1) ∧ bc ln bd (it k j') = x ∧ d = it k j' + 13)) by
            refine ⟨by omega, hQ.of (fun d => ⟨fun ⟨q, h1, h2, h3, h4⟩ => ⟨q, h1, by omega, h3, h4⟩, fun ⟨q, h1, h2, h3, h4⟩ => ⟨q, h1, ?_, h3, h4⟩⟩)⟩
            by_cases hqr : q = j
            · rw [hqr, ← hcj, ← ec] at h3
              exact absurd h3 ‹_›
            · omega) (show ((my k - (j + 1)).toNat) < ((my k - j).toNat) by
            omega)
      · have hdot := bc_dot (ln := ln) (bd := bd) (c := c) (by omega)
        have hlk := hg.len (q := c / 52 - 1) (by omega)
        refine J_aload_n d_CF_advanceAll_35 rfl 4 rfl ?_
        refine J_iload d_CF_advanceAll_36 0 rfl ?_
        refine J_bipush d_CF_advanceAll_38 (by decide) ?_
        refine J_iadd d_CF_advanceAll_40 ?_
        refine J_callV (st := []) [Value.int (iI (c + 13))] ms_CF_81 (hidS (k := a) (by omega)) (c_Se_add (by omega) (by omega) hS) rfl rfl ⟨Nat.le_of_ble_eq_true rfl, Nat.le_of_ble_eq_true rfl⟩ ⟨Nat.le_of_ble_eq_true rfl, Nat.le_of_ble_eq_true rfl⟩ (Nat.le_of_ble_eq_true rfl) d_CF_advanceAll_41 (fun v w' hp => ?_)
        obtain ⟨rfl, it5, th5, my5, rfl, hG5⟩ := hp
        show J l D b Y_CF_advanceAll _ _ (ad, cC ad r lp fd nr nr nr mc lf ln bd tm it5 th5 my5 lps em mk tr wg wr we wc wb vg vr ve vc vb sy sf so st sn ne mt) 0 0 44 [(6, Value.int (iI c)), (5, Value.int (iI j)), (4, Value.int (iI (my k))), (0, Value.ref (ad 100)), (1, Value.ref (ad (idS a))), (2, Value.ref (ad (idS k))), (3, Value.int (iI x))] []
        refine J_iinc (j := 1) d_CF_advanceAll_44 rfl (by decide) rfl ?_
        refine J_goto (tgt := 9) d_CF_advanceAll_47 rfl ?_
        refine J.sub [0, 2, 3, 4, 5, 6] rfl ?_
        exact ih1 (j + 1, it5, th5, my5) (show (0 ≤ (j + 1) ∧ (j + 1) ≤ my k) ∧ (GroQ a it th my it5 th5 my5 (fun d => ∃ j', 0 ≤ j' ∧ j' < (j + 1) ∧ bc ln bd (it k j') = x ∧ d = it k j' + 13)) by
            refine ⟨by omega, (hQ.trans ‹GroQ a it1 th1 my1 _ _ _ _›).of (fun d => ⟨fun h => ?_, fun ⟨q, h1, h2, h3, h4⟩ => ?_⟩)⟩
            · rcases h with ⟨q, h1, h2, h3, h4⟩ | h
              · exact ⟨q, h1, by omega, h3, h4⟩
              · exact ⟨j, by omega, by omega, by rw [← hcj, ← ec]; assumption, by rw [← hcj, ← ec]; exact h⟩
            · by_cases hqr : q = j
              · exact Or.inr (by rw [h4, hqr, ← hcj, ← ec])
              · exact Or.inl ⟨q, h1, by omega, h3, h4⟩) (show ((my k - (j + 1)).toNat) < ((my k - j).toNat) by
            omega)
  · show (0 ≤ (0 : Int) ∧ (0 : Int) ≤ my k) ∧ (GroQ a it th my it th my (fun d => ∃ j', 0 ≤ j' ∧ j' < (0 : Int) ∧ bc ln bd (it k j') = x ∧ d = it k j' + 13))
    exact ⟨by omega, (GroQ.rf hS).of (fun d => ⟨fun h => h.elim, fun ⟨q, h1, h2, _⟩ => by omega⟩)⟩
set_option maxHeartbeats 4000000 in
theorem c_CF_complete {i : Int} {x : Int} {o : Int}  (hg : gOK nr lf ln bd) (hi : 0 ≤ i ∧ i < 13) (hx : 0 ≤ x ∧ x ≤ 4) (ho : 0 ≤ o ∧ o < 13) (hS : SO it th my) (he : 0 ≤ em i ∧ em i ≤ 31) (hI1 : ∀ c, th i c = true → c / 52 - 1 < nr) (hI2 : ∀ c, th o c = true → c / 52 - 1 < nr) (hl : o ≠ i → -1 ≤ lps o x ∧ lps o x < 572) : Ct l D b Y_CF_complete { frames := 6, cells := 0, slots := 0, locals := 132 } [Value.ref (ad 100), Value.ref (ad (idS i)), Value.int (iI i), Value.int (iI x), Value.int (iI o)] (ad, cC ad r lp fd nr nr nr mc lf ln bd tm it th my lps em mk tr wg wr we wc wb vg vr ve vc vb sy sf so st sn ne mt) (fun v w' => v = none ∧ ∃ it' th' my' em', w' = (ad, cC ad r lp fd nr nr nr mc lf ln bd tm it' th' my' lps em' mk tr wg wr we wc wb vg vr ve vc vb sy sf so st sn ne mt) ∧ ((o = i ∧ em' = upI em i (orI (em i) (p2 x)) ∧ GroQ i it th my it' th' my' (fun d => ∃ c, th i c = true ∧ bc ln bd c = x ∧ d = c + 13)) ∨ (o ≠ i ∧ em' = em ∧ GroQ i it th my it' th' my' (fun d => d = lps o x) ∧ 0 ≤ lps o x) ∨ (o ≠ i ∧ em' = em ∧ GroQ i it th my it' th' my' (fun d => ∃ c, th o c = true ∧ bc ln bd c = x ∧ d = c + 13) ∧ lps o x < 0))) := by
  refine Ct_of (by decide) (Nat.le_of_ble_eq_true rfl) ?_
  show J l D b Y_CF_complete _ _ (ad, cC ad r lp fd nr nr nr mc lf ln bd tm it th my lps em mk tr wg wr we wc wb vg vr ve vc vb sy sf so st sn ne mt) 0 0 0 [(0, Value.ref (ad 100)), (1, Value.ref (ad (idS i))), (2, Value.int (iI i)), (3, Value.int (iI x)), (4, Value.int (iI o))] []
  refine J_iload d_CF_complete_0 4 rfl ?_
  refine J_iload_n d_CF_complete_2 rfl 2 rfl ?_
  refine J_icmp_ne (tgt := 26) d_CF_complete_3 rfl (by omega) (by omega) (fun h3_1 => ?_) (fun h3_1 => ?_)
  · have hl9 := hl ‹_›
    refine J_aload_n d_CF_complete_26 rfl 0 rfl ?_
    refine J_get fs_CF_29 rfl rfl d_CF_complete_27 ?_
    refine J_iload d_CF_complete_30 4 rfl ?_
    refine J_aald (v := Value.ref (ad (idS o))) rfl rfl (by omega) (by decide) rfl d_CF_complete_32 ?_
    refine J_get fs_CF_154 (hidS (k := o) (by omega)) rfl d_CF_complete_33 ?_
    refine J_iload_n d_CF_complete_36 rfl 3 rfl ?_
    refine J_iald (hidL (k := o) (by omega)) (by omega) (by decide) d_CF_complete_37 ?_
    refine J_istore d_CF_complete_38 (by decide) rfl ?_
    refine J_iload d_CF_complete_40 0 rfl ?_
    refine J_if_lt (tgt := 54) d_CF_complete_42 rfl (by omega) (fun h42_2 => ?_) (fun h42_2 => ?_)
    · refine J_aload_n d_CF_complete_54 rfl 1 rfl ?_
      refine J_aload_n d_CF_complete_55 rfl 2 rfl ?_
      refine J_aload_n d_CF_complete_56 rfl 1 rfl ?_
      refine J_get fs_CF_29 rfl rfl d_CF_complete_57 ?_
      refine J_iload d_CF_complete_60 5 rfl ?_
      refine J_aald (v := Value.ref (ad (idS o))) rfl rfl (by omega) (by decide) rfl d_CF_complete_62 ?_
      refine J_iload_n d_CF_complete_63 rfl 4 rfl ?_
      refine J_callV (st := []) [Value.ref (ad (idS i)), Value.ref (ad (idS o)), Value.int (iI x)] ms_CF_150 rfl (c_CF_advanceAll hg (by omega) (by omega) (by omega) hS ‹_›) rfl rfl ⟨Nat.le_of_ble_eq_true rfl, Nat.le_of_ble_eq_true rfl⟩ ⟨Nat.le_of_ble_eq_true rfl, Nat.le_of_ble_eq_true rfl⟩ (Nat.le_of_ble_eq_true rfl) d_CF_complete_64 (fun v w' hp => ?_)
      obtain ⟨rfl, it3, th3, my3, rfl, hA3⟩ := hp
      show J l D b Y_CF_complete _ _ (ad, cC ad r lp fd nr nr nr mc lf ln bd tm it3 th3 my3 lps em mk tr wg wr we wc wb vg vr ve vc vb sy sf so st sn ne mt) 0 0 67 [(5, Value.int (iI (lps o x))), (0, Value.ref (ad 100)), (1, Value.ref (ad (idS i))), (2, Value.int (iI i)), (3, Value.int (iI x)), (4, Value.int (iI o))] []
      refine J_vret rfl d_CF_complete_67 ⟨Nat.le_of_ble_eq_true rfl, Nat.le_of_ble_eq_true rfl⟩ ?_
      refine ⟨rfl, _, _, _, _, rfl, ?_⟩
      first
        | exact Or.inr (Or.inl ⟨‹_›, rfl, by assumption, by omega⟩)
        | exact Or.inr (Or.inr ⟨‹_›, rfl, by assumption, by omega⟩)
    · refine J_aload_n d_CF_complete_45 rfl 2 rfl ?_
      refine J_iload d_CF_complete_46 0 rfl ?_
      refine J_callV (st := []) [Value.int (iI (lps o x))] ms_CF_81 (hidS (k := i) (by omega)) (c_Se_add (by omega) (by omega) hS) rfl rfl ⟨Nat.le_of_ble_eq_true rfl, Nat.le_of_ble_eq_true rfl⟩ ⟨Nat.le_of_ble_eq_true rfl, Nat.le_of_ble_eq_true rfl⟩ (Nat.le_of_ble_eq_true rfl) d_CF_complete_48 (fun v w' hp => ?_)
      obtain ⟨rfl, it4, th4, my4, rfl, hG4⟩ := hp
      show J l D b Y_CF_complete _ _ (ad, cC ad r lp fd nr nr nr mc lf ln bd tm it4 th4 my4 lps em mk tr wg wr we wc wb vg vr ve vc vb sy sf so st sn ne mt) 0 0 51 [(5, Value.int (iI (lps o x))), (0, Value.ref (ad 100)), (1, Value.ref (ad (idS i))), (2, Value.int (iI i)), (3, Value.int (iI x)), (4, Value.int (iI o))] []
      refine J_goto (tgt := 67) d_CF_complete_51 rfl ?_
      refine J_vret rfl d_CF_complete_67 ⟨Nat.le_of_ble_eq_true rfl, Nat.le_of_ble_eq_true rfl⟩ ?_
      refine ⟨rfl, _, _, _, _, rfl, ?_⟩
      first
        | exact Or.inr (Or.inl ⟨‹_›, rfl, by assumption, by omega⟩)
        | exact Or.inr (Or.inr ⟨‹_›, rfl, by assumption, by omega⟩)
  · refine J_aload_n d_CF_complete_6 rfl 1 rfl ?_
    refine J_dup d_CF_complete_7 rfl ?_
    refine J_get fs_CF_147 (hidS (k := i) (by omega)) rfl d_CF_complete_8 ?_
    refine J_iconst d_CF_complete_11 ?_
    refine J_iload_n d_CF_complete_12 rfl 3 rfl ?_
    refine J_ishl d_CF_complete_13 (iI_shl1 (by omega)) ?_
    refine J_ior d_CF_complete_14 (iI_or (by omega) (by have := p2_rng (s := x) (by omega); omega)) ?_
    refine J_put fs_CF_147 (hidS (k := i) (by omega)) (Nat.le_of_ble_eq_true rfl) (fun _ h => by cases h; exact Or.inl rfl) rfl rfl (uidS_em (k := i) (by omega)) d_CF_complete_15 ?_
    refine J_aload_n d_CF_complete_18 rfl 0 rfl ?_
    refine J_aload_n d_CF_complete_19 rfl 1 rfl ?_
    refine J_aload_n d_CF_complete_20 rfl 1 rfl ?_
    refine J_iload_n d_CF_complete_21 rfl 3 rfl ?_
    refine J_callV (st := []) [Value.ref (ad (idS i)), Value.ref (ad (idS i)), Value.int (iI x)] ms_CF_150 rfl (c_CF_advanceAll hg (by omega) (by omega) (by omega) hS ‹_›) rfl rfl ⟨Nat.le_of_ble_eq_true rfl, Nat.le_of_ble_eq_true rfl⟩ ⟨Nat.le_of_ble_eq_true rfl, Nat.le_of_ble_eq_true rfl⟩ (Nat.le_of_ble_eq_true rfl) d_CF_complete_22 (fun v w' hp => ?_)
    obtain ⟨rfl, it5, th5, my5, rfl, hA5⟩ := hp
    show J l D b Y_CF_complete _ _ (ad, cC ad r lp fd nr nr nr mc lf ln bd tm it5 th5 my5 lps (upI em i (orI (em i) (p2 x))) mk tr wg wr we wc wb vg vr ve vc vb sy sf so st sn ne mt) 0 0 25 [(0, Value.ref (ad 100)), (1, Value.ref (ad (idS i))), (2, Value.int (iI i)), (3, Value.int (iI x)), (4, Value.int (iI o))] []
    refine J_vret rfl d_CF_complete_25 ⟨Nat.le_of_ble_eq_true rfl, Nat.le_of_ble_eq_true rfl⟩ ?_
    refine ⟨rfl, _, _, _, _, rfl, ?_⟩
    exact Or.inl ⟨‹_›, rfl, by assumption⟩
set_option maxHeartbeats 4000000 in
theorem c_CF_leapFor {i : Int} {x : Int}  (hg : gOK nr lf ln bd) (hi : 0 ≤ i ∧ i < 13) (hx : 0 ≤ x ∧ x ≤ 4) (hS : SO it th my) (hIo : ∀ o, 0 ≤ o → o ≤ i → ∀ c, th o c = true → IOK nr ln o c) (hlp : ∀ o y, 0 ≤ o → o < i → 0 ≤ y → y ≤ 4 → lps o y = lpN (tab th) lf ln bd o.toNat y (-1)) : Ct l D b Y_CF_leapFor { frames := 5, cells := 0, slots := 0, locals := 106 } [Value.ref (ad 100), Value.ref (ad (idS i)), Value.int (iI i), Value.int (iI x)] (ad, cC ad r lp fd nr nr nr mc lf ln bd tm it th my lps em mk tr wg wr we wc wb vg vr ve vc vb sy sf so st sn ne mt) (fun v w' => v = some (.int (iI (lpN (tab th) lf ln bd i.toNat x (-1)))) ∧ w' = (ad, cC ad r lp fd nr nr nr mc lf ln bd tm it th my lps em mk tr wg wr we wc wb vg vr ve vc vb sy sf so st sn ne mt)) := by
  refine Ct_of (by decide) (Nat.le_of_ble_eq_true rfl) ?_
  have hn := hg.1
  have hK := hS i hi.1 hi.2
  have hm := hK.rng
  have hc0 : ∀ j, 0 ≤ j → j < my i → (0 ≤ it i j ∧ it i j < 572) ∧ th i (it i j) = true := hK.2.1
  show J l D b Y_CF_leapFor _ _ (ad, cC ad r lp fd nr nr nr mc lf ln bd tm it th my lps em mk tr wg wr we wc wb vg vr ve vc vb sy sf so st sn ne mt) 0 0 0 [(0, Value.ref (ad 100)), (1, Value.ref (ad (idS i))), (2, Value.int (iI i)), (3, Value.int (iI x))] []
  refine J_iconst d_CF_leapFor_0 ?_
  refine J_istore d_CF_leapFor_1 (by decide) rfl ?_
  refine J_iconst d_CF_leapFor_3 ?_
  refine J_istore d_CF_leapFor_4 (by decide) rfl ?_
  refine J.sub [0, 1, 2, 3, 4, 5] (lv' := [(5, Value.int (iI 0)), (4, Value.int (iI (-1))), (0, Value.ref (ad 100)), (1, Value.ref (ad (idS i))), (2, Value.int (iI i)), (3, Value.int (iI x))]) rfl ?_
  refine J.loop (σ := Int × Int) (fun xx_ => match xx_ with | (k, on) => ((0 ≤ k ∧ k ≤ my i) ∧ (-1 ≤ on ∧ on < 572)) ∧ ((on = -1 ∧ ∀ j, 0 ≤ j → j < k → bc ln bd (it i j) ≠ x) ∨ (∃ j0, 0 ≤ j0 ∧ j0 < k ∧ it i j0 = on ∧ bc ln bd on = x ∧ ∀ j, 0 ≤ j → j < k → j ≠ j0 → bc ln bd (it i j) ≠ x))) (fun xx_ => match xx_ with | (k, on) => (my i - k).toNat) (ws := fun xx_ => match xx_ with | (k, on) => (ad, cC ad r lp fd nr nr nr mc lf ln bd tm it th my lps em mk tr wg wr we wc wb vg vr ve vc vb sy sf so st sn ne mt)) (ks := fun _ => 0) (ns := fun _ => 0) (lvs := fun xx_ => match xx_ with | (k, on) => [(5, Value.int (iI k)), (4, Value.int (iI on)), (0, Value.ref (ad 100)), (1, Value.ref (ad (idS i))), (2, Value.int (iI i)), (3, Value.int (iI x))]) (sts := fun _ => []) ?_ (0, -1) ?_
  · rintro ⟨k, on⟩ hI ih1
    have hI : ((0 ≤ k ∧ k ≤ my i) ∧ (-1 ≤ on ∧ on < 572)) ∧ ((on = -1 ∧ ∀ j, 0 ≤ j → j < k → bc ln bd (it i j) ≠ x) ∨ (∃ j0, 0 ≤ j0 ∧ j0 < k ∧ it i j0 = on ∧ bc ln bd on = x ∧ ∀ j, 0 ≤ j → j < k → j ≠ j0 → bc ln bd (it i j) ≠ x)) := hI
    obtain ⟨hk, hL⟩ := hI
    show J l D b Y_CF_leapFor _ _ (ad, cC ad r lp fd nr nr nr mc lf ln bd tm it th my lps em mk tr wg wr we wc wb vg vr ve vc vb sy sf so st sn ne mt) 0 0 6 [(5, Value.int (iI k)), (4, Value.int (iI on)), (0, Value.ref (ad 100)), (1, Value.ref (ad (idS i))), (2, Value.int (iI i)), (3, Value.int (iI x))] []
    refine J_iload d_CF_leapFor_6 0 rfl ?_
    refine J_aload_n d_CF_leapFor_8 rfl 3 rfl ?_
    refine J_get fs_CF_136 (hidS (k := i) (by omega)) rfl d_CF_leapFor_9 ?_
    refine J_icmp_ge (tgt := 52) d_CF_leapFor_12 rfl (by omega) (by omega) (fun h12_2 => ?_) (fun h12_2 => ?_)
    · refine J_iload d_CF_leapFor_52 1 rfl ?_
      refine J_iconst d_CF_leapFor_54 ?_
      refine J_icmp_eq (tgt := 81) d_CF_leapFor_55 rfl (by omega) (by omega) (fun h55_3 => ?_) (fun h55_3 => ?_)
      · refine J_iconst d_CF_leapFor_81 ?_
        refine J_iret rfl d_CF_leapFor_82 ⟨Nat.le_of_ble_eq_true rfl, Nat.le_of_ble_eq_true rfl⟩ ?_
        rcases hL with ⟨h1, h2⟩ | ⟨j0, h1, h2, h3, h4, h5⟩
        · have t0 := cnt_none (P := lpW (tab th) ln bd i x) (k := 572) (by omega) (fun y a1 a2 a3 => by
            unfold lpW at a3
            rw [Bool.and_eq_true, decide_eq_true_iff, tab_at th ⟨a1, a2⟩] at a3
            obtain ⟨j, b1, b2, b3⟩ := hK.2.2.1 y a3.1
            exact h2 j b1 (by omega) (by rw [b3]; exact a3.2))
          exact ⟨by rw [lp_end1 (by omega) (Or.inl (by omega))], rfl⟩
        · have := (hc0 j0 h1 (by omega)).1
          omega
      · have hon : th i on = true ∧ (0 ≤ on ∧ on < 572) := by
          rcases hL with ⟨h1, h2⟩ | ⟨j0, h1, h2, h3, h4, h5⟩
          · omega
          · have := hc0 j0 h1 (by omega)
            rw [h3] at this
            exact ⟨this.2, this.1⟩
        have hone : cnt (lpW (tab th) ln bd i x) 572 = 1 ∧ lpC (tab th) ln bd i x = on := by
          rcases hL with ⟨h1, h2⟩ | ⟨j0, h1, h2, h3, h4, h5⟩
          · omega
          · refine cnt_one (by omega) hon.2 (lpW_t (by rw [tab_at th hon.2]; exact hon.1) h4) (fun y a1 a2 a3 => ?_)
            unfold lpW at a3
            rw [Bool.and_eq_true, decide_eq_true_iff, tab_at th ⟨a1, a2⟩] at a3
            obtain ⟨j, b1, b2, b3⟩ := hK.2.2.1 y a3.1
            by_cases hj : j = j0
            · rw [← b3, hj, h3]
            · exact absurd (by rw [b3]; exact a3.2) (h5 j b1 (by omega) hj)
        have hbx : bc ln bd on = x := by
          rcases hL with ⟨h1, h2⟩ | ⟨j0, h1, h2, h3, h4, h5⟩
          · omega
          · exact h4
        have hio := hIo i (by omega) (by omega) on hon.1
        have hdot := bc_dot (ln := ln) (bd := bd) (c := on) (by omega)
        have hlk := hg.len (q := on / 52 - 1) (by have := hio.2.1; omega)
        have hon2 := hon.2
        have hio1 := hio.2.1
        have hio4 := hio.2.2.2
        refine J_aload_n d_CF_leapFor_58 rfl 2 rfl ?_
        refine J_iload d_CF_leapFor_59 1 rfl ?_
        refine J_callS (st := [Value.ref (ad 100)]) [Value.int (iI on)] ms_CF_122 (c_CF_ruleOf (by omega)) rfl rfl ⟨Nat.le_of_ble_eq_true rfl, Nat.le_of_ble_eq_true rfl⟩ ⟨Nat.le_of_ble_eq_true rfl, Nat.le_of_ble_eq_true rfl⟩ (Nat.le_of_ble_eq_true rfl) d_CF_leapFor_61 (fun v w' hp => ?_)
        obtain ⟨rfl, rfl⟩ := hp
        show J l D b Y_CF_leapFor _ _ (ad, cC ad r lp fd nr nr nr mc lf ln bd tm it th my lps em mk tr wg wr we wc wb vg vr ve vc vb sy sf so st sn ne mt) 0 0 64 [(5, Value.int (iI k)), (4, Value.int (iI on)), (0, Value.ref (ad 100)), (1, Value.ref (ad (idS i))), (2, Value.int (iI i)), (3, Value.int (iI x))] [Value.int (iI (on / 52 - 1)), Value.ref (ad 100)]
        by_cases hs64_5 : on / 52 - 1 < 0
        · refine J_callV (st := []) [Value.int (iI (on / 52 - 1))] ms_CF_126 rfl (c_CF_ruleAtG (by omega)) rfl rfl ⟨Nat.le_of_ble_eq_true rfl, Nat.le_of_ble_eq_true rfl⟩ ⟨Nat.le_of_ble_eq_true rfl, Nat.le_of_ble_eq_true rfl⟩ (Nat.le_of_ble_eq_true rfl) d_CF_leapFor_64 (fun v w' hp => ?_)
          obtain ⟨rfl, rfl⟩ := hp
          show J l D b Y_CF_leapFor _ _ (ad, cC ad r lp fd nr nr nr mc lf ln bd tm it th my lps em mk tr wg wr we wc wb vg vr ve vc vb sy sf so st sn ne mt) 0 0 67 [(5, Value.int (iI k)), (4, Value.int (iI on)), (0, Value.ref (ad 100)), (1, Value.ref (ad (idS i))), (2, Value.int (iI i)), (3, Value.int (iI x))] [Value.ref (ad 101)]
          refine J_iload d_CF_leapFor_67 1 rfl ?_
          refine J_callS (st := [Value.ref (ad 101)]) [Value.int (iI on)] ms_CF_130 (c_CF_dotOf (by omega)) rfl rfl ⟨Nat.le_of_ble_eq_true rfl, Nat.le_of_ble_eq_true rfl⟩ ⟨Nat.le_of_ble_eq_true rfl, Nat.le_of_ble_eq_true rfl⟩ (Nat.le_of_ble_eq_true rfl) d_CF_leapFor_69 (fun v w' hp => ?_)
          obtain ⟨rfl, rfl⟩ := hp
          show J l D b Y_CF_leapFor _ _ (ad, cC ad r lp fd nr nr nr mc lf ln bd tm it th my lps em mk tr wg wr we wc wb vg vr ve vc vb sy sf so st sn ne mt) 0 0 72 [(5, Value.int (iI k)), (4, Value.int (iI on)), (0, Value.ref (ad 100)), (1, Value.ref (ad (idS i))), (2, Value.int (iI i)), (3, Value.int (iI x))] [Value.int (iI (on % 52 / 13)), Value.ref (ad 101)]
          refine J_iconst d_CF_leapFor_72 ?_
          refine J_iadd d_CF_leapFor_73 ?_
          refine J_callV (st := []) [Value.int (iI ((on % 52 / 13) + 1))] ms_CF_133 rfl (c_Ru_behindG (by omega)) rfl rfl ⟨Nat.le_of_ble_eq_true rfl, Nat.le_of_ble_eq_true rfl⟩ ⟨Nat.le_of_ble_eq_true rfl, Nat.le_of_ble_eq_true rfl⟩ (Nat.le_of_ble_eq_true rfl) d_CF_leapFor_74 (fun v w' hp => ?_)
          obtain ⟨rfl, rfl⟩ := hp
          show J l D b Y_CF_leapFor _ _ (ad, cC ad r lp fd nr nr nr mc lf ln bd tm it th my lps em mk tr wg wr we wc wb vg vr ve vc vb sy sf so st sn ne mt) 0 0 77 [(5, Value.int (iI k)), (4, Value.int (iI on)), (0, Value.ref (ad 100)), (1, Value.ref (ad (idS i))), (2, Value.int (iI i)), (3, Value.int (iI x))] [Value.int (iI (bhM ln bd (-1) ((on % 52 / 13) + 1)))]
          have hbr2 : -1 ≤ bhM ln bd (-1) (on % 52 / 13 + 1) ∧ bhM ln bd (-1) (on % 52 / 13 + 1) ≤ 11 := hg.bh (by omega) (by omega)
          refine J_iconst d_CF_leapFor_77 ?_
          refine J_icmp_eq (tgt := 83) d_CF_leapFor_78 rfl (by omega) (by omega) (fun h78_9 => ?_) (fun h78_9 => ?_)
          · have hlen : on % 52 / 13 + 1 = lenOf ln (on / 52 - 1) := by
              have hbm : bhM ln bd (-1) (on % 52 / 13 + 1) = -1 := ‹_›
              unfold bhM at hbm
              by_cases hle : lenOf ln (-1) ≤ on % 52 / 13 + 1
              · rw [show (-1 : Int) = on / 52 - 1 by omega] at hle
                omega
              · rw [if_neg hle] at hbm
                rw [if_pos (by omega)] at hbm
                omega
            refine J_iload d_CF_leapFor_83 1 rfl ?_
            refine J_callS (st := []) [Value.int (iI on)] ms_CF_161 (c_CF_originOf (by omega)) rfl rfl ⟨Nat.le_of_ble_eq_true rfl, Nat.le_of_ble_eq_true rfl⟩ ⟨Nat.le_of_ble_eq_true rfl, Nat.le_of_ble_eq_true rfl⟩ (Nat.le_of_ble_eq_true rfl) d_CF_leapFor_85 (fun v w' hp => ?_)
            obtain ⟨rfl, rfl⟩ := hp
            show J l D b Y_CF_leapFor _ _ (ad, cC ad r lp fd nr nr nr mc lf ln bd tm it th my lps em mk tr wg wr we wc wb vg vr ve vc vb sy sf so st sn ne mt) 0 0 88 [(5, Value.int (iI k)), (4, Value.int (iI on)), (0, Value.ref (ad 100)), (1, Value.ref (ad (idS i))), (2, Value.int (iI i)), (3, Value.int (iI x))] [Value.int (iI (on % 13))]
            refine J_istore d_CF_leapFor_88 (by decide) rfl ?_
            refine J_iload d_CF_leapFor_90 1 rfl ?_
            refine J_callS (st := []) [Value.int (iI on)] ms_CF_122 (c_CF_ruleOf (by omega)) rfl rfl ⟨Nat.le_of_ble_eq_true rfl, Nat.le_of_ble_eq_true rfl⟩ ⟨Nat.le_of_ble_eq_true rfl, Nat.le_of_ble_eq_true rfl⟩ (Nat.le_of_ble_eq_true rfl) d_CF_leapFor_92 (fun v w' hp => ?_)
            obtain ⟨rfl, rfl⟩ := hp
            show J l D b Y_CF_leapFor _ _ (ad, cC ad r lp fd nr nr nr mc lf ln bd tm it th my lps em mk tr wg wr we wc wb vg vr ve vc vb sy sf so st sn ne mt) 0 0 95 [(5, Value.int (iI (on % 13))), (4, Value.int (iI on)), (0, Value.ref (ad 100)), (1, Value.ref (ad (idS i))), (2, Value.int (iI i)), (3, Value.int (iI x))] [Value.int (iI (on / 52 - 1))]
            refine J_istore d_CF_leapFor_95 (by decide) rfl ?_
            refine J_iload d_CF_leapFor_97 1 rfl ?_
            refine J_iload_n d_CF_leapFor_99 rfl 5 rfl ?_
            refine J_icmp_ge (tgt := 137) d_CF_leapFor_100 rfl (by omega) (by omega) (fun h100_12 => ?_) (fun h100_12 => ?_)
            · refine J_iconst d_CF_leapFor_137 ?_
              refine J_istore d_CF_leapFor_138 (by decide) rfl ?_
              refine J_iload d_CF_leapFor_140 0 rfl ?_
              refine J_iconst d_CF_leapFor_142 ?_
              refine J_icmp_eq (tgt := 151) d_CF_leapFor_143 rfl (by omega) (by omega) (fun h143_13 => ?_) (fun h143_13 => ?_)
              · refine J_iload d_CF_leapFor_151 3 rfl ?_
                refine J_bipush d_CF_leapFor_153 (by decide) ?_
                refine J_iadd d_CF_leapFor_155 ?_
                refine J_iret rfl d_CF_leapFor_156 ⟨Nat.le_of_ble_eq_true rfl, Nat.le_of_ble_eq_true rfl⟩ ?_
                exact ⟨by rw [lp_end2 (by omega) hone.1 (by rw [hone.2]; exact hlen) (by rw [hone.2]; omega), hone.2], rfl⟩
              · exact absurd h143_13 (by decide)
            · refine J_iload d_CF_leapFor_103 0 rfl ?_
              refine J_if_lt (tgt := 137) d_CF_leapFor_105 rfl (by omega) (fun h105_14 => ?_) (fun h105_14 => ?_)
              · refine J_iconst d_CF_leapFor_137 ?_
                refine J_istore d_CF_leapFor_138 (by decide) rfl ?_
                refine J_iload d_CF_leapFor_140 0 rfl ?_
                refine J_iconst d_CF_leapFor_142 ?_
                refine J_icmp_eq (tgt := 151) d_CF_leapFor_143 rfl (by omega) (by omega) (fun h143_15 => ?_) (fun h143_15 => ?_)
                · refine J_iload d_CF_leapFor_151 3 rfl ?_
                  refine J_bipush d_CF_leapFor_153 (by decide) ?_
                  refine J_iadd d_CF_leapFor_155 ?_
                  refine J_iret rfl d_CF_leapFor_156 ⟨Nat.le_of_ble_eq_true rfl, Nat.le_of_ble_eq_true rfl⟩ ?_
                  exact ⟨by rw [lp_end2 (by omega) hone.1 (by rw [hone.2]; exact hlen) (by rw [hone.2]; omega), hone.2], rfl⟩
                · exact absurd h143_15 (by decide)
              · have hlf := hg.2.1 (on / 52 - 1) (by omega) (by omega)
                have hlps := hlp (on % 13) (lf (on / 52 - 1)) (by omega) (by omega) hlf.1 hlf.2
                have hlr := lpN_rng (it := tab th) hg (on % 13).toNat (lf (on / 52 - 1)) (-1) (by omega)
                rw [← hlps] at hlr
                refine J_aload_n d_CF_leapFor_108 rfl 3 rfl ?_
                refine J_get fs_CF_29 rfl rfl d_CF_leapFor_109 ?_
                refine J_iload d_CF_leapFor_112 1 rfl ?_
                refine J_aald (v := Value.ref (ad (idS (on % 13)))) rfl rfl (by omega) (by decide) rfl d_CF_leapFor_114 ?_
                refine J_get fs_CF_154 (hidS (k := (on % 13)) (by omega)) rfl d_CF_leapFor_115 ?_
                refine J_aload_n d_CF_leapFor_118 rfl 3 rfl ?_
                refine J_get fs_CF_23 rfl rfl d_CF_leapFor_119 ?_
                refine J_iload d_CF_leapFor_122 0 rfl ?_
                refine J_callV (st := [Value.ref (ad (idL (on % 13)))]) [Value.int (iI (on / 52 - 1))] ms_CF_87 rfl (c_Al_get (by omega)) rfl rfl ⟨Nat.le_of_ble_eq_true rfl, Nat.le_of_ble_eq_true rfl⟩ ⟨Nat.le_of_ble_eq_true rfl, Nat.le_of_ble_eq_true rfl⟩ (Nat.le_of_ble_eq_true rfl) d_CF_leapFor_124 (fun v w' hp => ?_)
                obtain ⟨rfl, rfl⟩ := hp
                show J l D b Y_CF_leapFor _ _ (ad, cC ad r lp fd nr nr nr mc lf ln bd tm it th my lps em mk tr wg wr we wc wb vg vr ve vc vb sy sf so st sn ne mt) 0 0 127 [(6, Value.int (iI (on / 52 - 1))), (5, Value.int (iI (on % 13))), (4, Value.int (iI on)), (0, Value.ref (ad 100)), (1, Value.ref (ad (idS i))), (2, Value.int (iI i)), (3, Value.int (iI x))] [Value.ref (ad (idR (on / 52 - 1))), Value.ref (ad (idL (on % 13)))]
                refine J_cast (hidR (k := (on / 52 - 1)) (by omega) (by omega)) rfl cl_CF_9 ca_Ru d_CF_leapFor_127 ?_
                refine J_get fs_CF_144 (hidR (k := (on / 52 - 1)) (by omega) (by omega)) rfl d_CF_leapFor_130 ?_
                refine J_iald (hidL (k := (on % 13)) (by omega)) (by omega) (by decide) d_CF_leapFor_133 ?_
                refine J_goto (tgt := 138) d_CF_leapFor_134 rfl ?_
                refine J_istore d_CF_leapFor_138 (by decide) rfl ?_
                refine J_iload d_CF_leapFor_140 0 rfl ?_
                refine J_iconst d_CF_leapFor_142 ?_
                refine J_icmp_eq (tgt := 151) d_CF_leapFor_143 rfl (by omega) (by omega) (fun h143_17 => ?_) (fun h143_17 => ?_)
                · refine J_iload d_CF_leapFor_151 3 rfl ?_
                  refine J_bipush d_CF_leapFor_153 (by decide) ?_
                  refine J_iadd d_CF_leapFor_155 ?_
                  refine J_iret rfl d_CF_leapFor_156 ⟨Nat.le_of_ble_eq_true rfl, Nat.le_of_ble_eq_true rfl⟩ ?_
                  exact ⟨by rw [lp_go (by omega) hone.1 (by rw [hone.2]; exact hlen) (by rw [hone.2]; omega), hone.2, lpN_named hg, if_pos (by rw [← hlps]; assumption)], rfl⟩
                · refine J_iload d_CF_leapFor_146 0 rfl ?_
                  refine J_goto (tgt := 156) d_CF_leapFor_148 rfl ?_
                  refine J_iret rfl d_CF_leapFor_156 ⟨Nat.le_of_ble_eq_true rfl, Nat.le_of_ble_eq_true rfl⟩ ?_
                  exact ⟨by rw [lp_go (by omega) hone.1 (by rw [hone.2]; exact hlen) (by rw [hone.2]; omega), hone.2, lpN_named hg, if_neg (by rw [← hlps]; assumption), ← hlps], rfl⟩
          · have hlen : on % 52 / 13 + 1 ≠ lenOf ln (on / 52 - 1) := fun e => ‹bhM ln bd (-1) (on % 52 / 13 + 1) ≠ -1› (by unfold bhM; rw [if_pos (by rw [show (-1 : Int) = on / 52 - 1 by omega]; omega)])
            refine J_iconst d_CF_leapFor_81 ?_
            refine J_iret rfl d_CF_leapFor_82 ⟨Nat.le_of_ble_eq_true rfl, Nat.le_of_ble_eq_true rfl⟩ ?_
            exact ⟨by rw [lp_end1 (by omega) (Or.inr (by rw [hone.2]; exact hlen))], rfl⟩
        · refine J_callV (st := []) [Value.int (iI (on / 52 - 1))] ms_CF_126 rfl (c_CF_ruleAt (by omega)) rfl rfl ⟨Nat.le_of_ble_eq_true rfl, Nat.le_of_ble_eq_true rfl⟩ ⟨Nat.le_of_ble_eq_true rfl, Nat.le_of_ble_eq_true rfl⟩ (Nat.le_of_ble_eq_true rfl) d_CF_leapFor_64 (fun v w' hp => ?_)
          obtain ⟨rfl, rfl⟩ := hp
          show J l D b Y_CF_leapFor _ _ (ad, cC ad r lp fd nr nr nr mc lf ln bd tm it th my lps em mk tr wg wr we wc wb vg vr ve vc vb sy sf so st sn ne mt) 0 0 67 [(5, Value.int (iI k)), (4, Value.int (iI on)), (0, Value.ref (ad 100)), (1, Value.ref (ad (idS i))), (2, Value.int (iI i)), (3, Value.int (iI x))] [Value.ref (ad (idR (on / 52 - 1)))]
          refine J_iload d_CF_leapFor_67 1 rfl ?_
          refine J_callS (st := [Value.ref (ad (idR (on / 52 - 1)))]) [Value.int (iI on)] ms_CF_130 (c_CF_dotOf (by omega)) rfl rfl ⟨Nat.le_of_ble_eq_true rfl, Nat.le_of_ble_eq_true rfl⟩ ⟨Nat.le_of_ble_eq_true rfl, Nat.le_of_ble_eq_true rfl⟩ (Nat.le_of_ble_eq_true rfl) d_CF_leapFor_69 (fun v w' hp => ?_)
          obtain ⟨rfl, rfl⟩ := hp
          show J l D b Y_CF_leapFor _ _ (ad, cC ad r lp fd nr nr nr mc lf ln bd tm it th my lps em mk tr wg wr we wc wb vg vr ve vc vb sy sf so st sn ne mt) 0 0 72 [(5, Value.int (iI k)), (4, Value.int (iI on)), (0, Value.ref (ad 100)), (1, Value.ref (ad (idS i))), (2, Value.int (iI i)), (3, Value.int (iI x))] [Value.int (iI (on % 52 / 13)), Value.ref (ad (idR (on / 52 - 1)))]
          refine J_iconst d_CF_leapFor_72 ?_
          refine J_iadd d_CF_leapFor_73 ?_
          have hl3 := hg.2.2.1 (on / 52 - 1) (by omega) (by omega)
          refine J_callV (st := []) [Value.int (iI ((on % 52 / 13) + 1))] ms_CF_133 (hidR (k := (on / 52 - 1)) (by omega) (by omega)) (c_Ru_behind (by omega) (by omega) (by omega)) rfl rfl ⟨Nat.le_of_ble_eq_true rfl, Nat.le_of_ble_eq_true rfl⟩ ⟨Nat.le_of_ble_eq_true rfl, Nat.le_of_ble_eq_true rfl⟩ (Nat.le_of_ble_eq_true rfl) d_CF_leapFor_74 (fun v w' hp => ?_)
          obtain ⟨rfl, rfl⟩ := hp
          show J l D b Y_CF_leapFor _ _ (ad, cC ad r lp fd nr nr nr mc lf ln bd tm it th my lps em mk tr wg wr we wc wb vg vr ve vc vb sy sf so st sn ne mt) 0 0 77 [(5, Value.int (iI k)), (4, Value.int (iI on)), (0, Value.ref (ad 100)), (1, Value.ref (ad (idS i))), (2, Value.int (iI i)), (3, Value.int (iI x))] [Value.int (iI (bhM ln bd (on / 52 - 1) ((on % 52 / 13) + 1)))]
          have hbr2 : -1 ≤ bhM ln bd (on / 52 - 1) (on % 52 / 13 + 1) ∧ bhM ln bd (on / 52 - 1) (on % 52 / 13 + 1) ≤ 11 := hg.bh (by omega) (by omega)
          refine J_iconst d_CF_leapFor_77 ?_
          refine J_icmp_eq (tgt := 83) d_CF_leapFor_78 rfl (by omega) (by omega) (fun h78_21 => ?_) (fun h78_21 => ?_)
          · have hlen : on % 52 / 13 + 1 = lenOf ln (on / 52 - 1) := by
              have hbm : bhM ln bd (on / 52 - 1) (on % 52 / 13 + 1) = -1 := ‹_›
              unfold bhM at hbm
              by_cases hle : lenOf ln (on / 52 - 1) ≤ on % 52 / 13 + 1
              · omega
              · rw [if_neg hle] at hbm
                rw [if_neg (by omega)] at hbm
                have hbb := hg.2.2.2.1 (3 * (on / 52 - 1) + (on % 52 / 13 + 1)) (by omega) (by omega)
                omega
            refine J_iload d_CF_leapFor_83 1 rfl ?_
            refine J_callS (st := []) [Value.int (iI on)] ms_CF_161 (c_CF_originOf (by omega)) rfl rfl ⟨Nat.le_of_ble_eq_true rfl, Nat.le_of_ble_eq_true rfl⟩ ⟨Nat.le_of_ble_eq_true rfl, Nat.le_of_ble_eq_true rfl⟩ (Nat.le_of_ble_eq_true rfl) d_CF_leapFor_85 (fun v w' hp => ?_)
            obtain ⟨rfl, rfl⟩ := hp
            show J l D b Y_CF_leapFor _ _ (ad, cC ad r lp fd nr nr nr mc lf ln bd tm it th my lps em mk tr wg wr we wc wb vg vr ve vc vb sy sf so st sn ne mt) 0 0 88 [(5, Value.int (iI k)), (4, Value.int (iI on)), (0, Value.ref (ad 100)), (1, Value.ref (ad (idS i))), (2, Value.int (iI i)), (3, Value.int (iI x))] [Value.int (iI (on % 13))]
            refine J_istore d_CF_leapFor_88 (by decide) rfl ?_
            refine J_iload d_CF_leapFor_90 1 rfl ?_
            refine J_callS (st := []) [Value.int (iI on)] ms_CF_122 (c_CF_ruleOf (by omega)) rfl rfl ⟨Nat.le_of_ble_eq_true rfl, Nat.le_of_ble_eq_true rfl⟩ ⟨Nat.le_of_ble_eq_true rfl, Nat.le_of_ble_eq_true rfl⟩ (Nat.le_of_ble_eq_true rfl) d_CF_leapFor_92 (fun v w' hp => ?_)
            obtain ⟨rfl, rfl⟩ := hp
            show J l D b Y_CF_leapFor _ _ (ad, cC ad r lp fd nr nr nr mc lf ln bd tm it th my lps em mk tr wg wr we wc wb vg vr ve vc vb sy sf so st sn ne mt) 0 0 95 [(5, Value.int (iI (on % 13))), (4, Value.int (iI on)), (0, Value.ref (ad 100)), (1, Value.ref (ad (idS i))), (2, Value.int (iI i)), (3, Value.int (iI x))] [Value.int (iI (on / 52 - 1))]
            refine J_istore d_CF_leapFor_95 (by decide) rfl ?_
            refine J_iload d_CF_leapFor_97 1 rfl ?_
            refine J_iload_n d_CF_leapFor_99 rfl 5 rfl ?_
            refine J_icmp_ge (tgt := 137) d_CF_leapFor_100 rfl (by omega) (by omega) (fun h100_24 => ?_) (fun h100_24 => ?_)
            · refine J_iconst d_CF_leapFor_137 ?_
              refine J_istore d_CF_leapFor_138 (by decide) rfl ?_
              refine J_iload d_CF_leapFor_140 0 rfl ?_
              refine J_iconst d_CF_leapFor_142 ?_
              refine J_icmp_eq (tgt := 151) d_CF_leapFor_143 rfl (by omega) (by omega) (fun h143_25 => ?_) (fun h143_25 => ?_)
              · refine J_iload d_CF_leapFor_151 3 rfl ?_
                refine J_bipush d_CF_leapFor_153 (by decide) ?_
                refine J_iadd d_CF_leapFor_155 ?_
                refine J_iret rfl d_CF_leapFor_156 ⟨Nat.le_of_ble_eq_true rfl, Nat.le_of_ble_eq_true rfl⟩ ?_
                exact ⟨by rw [lp_end2 (by omega) hone.1 (by rw [hone.2]; exact hlen) (by rw [hone.2]; omega), hone.2], rfl⟩
              · exact absurd h143_25 (by decide)
            · refine J_iload d_CF_leapFor_103 0 rfl ?_
              refine J_if_lt (tgt := 137) d_CF_leapFor_105 rfl (by omega) (fun h105_26 => ?_) (fun h105_26 => ?_)
              · refine J_iconst d_CF_leapFor_137 ?_
                refine J_istore d_CF_leapFor_138 (by decide) rfl ?_
                refine J_iload d_CF_leapFor_140 0 rfl ?_
                refine J_iconst d_CF_leapFor_142 ?_
                refine J_icmp_eq (tgt := 151) d_CF_leapFor_143 rfl (by omega) (by omega) (fun h143_27 => ?_) (fun h143_27 => ?_)
                · refine J_iload d_CF_leapFor_151 3 rfl ?_
                  refine J_bipush d_CF_leapFor_153 (by decide) ?_
                  refine J_iadd d_CF_leapFor_155 ?_
                  refine J_iret rfl d_CF_leapFor_156 ⟨Nat.le_of_ble_eq_true rfl, Nat.le_of_ble_eq_true rfl⟩ ?_
                  exact ⟨by rw [lp_end2 (by omega) hone.1 (by rw [hone.2]; exact hlen) (by rw [hone.2]; omega), hone.2], rfl⟩
                · exact absurd h143_27 (by decide)
              · have hlf := hg.2.1 (on / 52 - 1) (by omega) (by omega)
                have hlps := hlp (on % 13) (lf (on / 52 - 1)) (by omega) (by omega) hlf.1 hlf.2
                have hlr := lpN_rng (it := tab th) hg (on % 13).toNat (lf (on / 52 - 1)) (-1) (by omega)
                rw [← hlps] at hlr
                refine J_aload_n d_CF_leapFor_108 rfl 3 rfl ?_
                refine J_get fs_CF_29 rfl rfl d_CF_leapFor_109 ?_
                refine J_iload d_CF_leapFor_112 1 rfl ?_
                refine J_aald (v := Value.ref (ad (idS (on % 13)))) rfl rfl (by omega) (by decide) rfl d_CF_leapFor_114 ?_
                refine J_get fs_CF_154 (hidS (k := (on % 13)) (by omega)) rfl d_CF_leapFor_115 ?_
                refine J_aload_n d_CF_leapFor_118 rfl 3 rfl ?_
                refine J_get fs_CF_23 rfl rfl d_CF_leapFor_119 ?_
                refine J_iload d_CF_leapFor_122 0 rfl ?_
                refine J_callV (st := [Value.ref (ad (idL (on % 13)))]) [Value.int (iI (on / 52 - 1))] ms_CF_87 rfl (c_Al_get (by omega)) rfl rfl ⟨Nat.le_of_ble_eq_true rfl, Nat.le_of_ble_eq_true rfl⟩ ⟨Nat.le_of_ble_eq_true rfl, Nat.le_of_ble_eq_true rfl⟩ (Nat.le_of_ble_eq_true rfl) d_CF_leapFor_124 (fun v w' hp => ?_)
                obtain ⟨rfl, rfl⟩ := hp
                show J l D b Y_CF_leapFor _ _ (ad, cC ad r lp fd nr nr nr mc lf ln bd tm it th my lps em mk tr wg wr we wc wb vg vr ve vc vb sy sf so st sn ne mt) 0 0 127 [(6, Value.int (iI (on / 52 - 1))), (5, Value.int (iI (on % 13))), (4, Value.int (iI on)), (0, Value.ref (ad 100)), (1, Value.ref (ad (idS i))), (2, Value.int (iI i)), (3, Value.int (iI x))] [Value.ref (ad (idR (on / 52 - 1))), Value.ref (ad (idL (on % 13)))]
                refine J_cast (hidR (k := (on / 52 - 1)) (by omega) (by omega)) rfl cl_CF_9 ca_Ru d_CF_leapFor_127 ?_
                refine J_get fs_CF_144 (hidR (k := (on / 52 - 1)) (by omega) (by omega)) rfl d_CF_leapFor_130 ?_
                refine J_iald (hidL (k := (on % 13)) (by omega)) (by omega) (by decide) d_CF_leapFor_133 ?_
                refine J_goto (tgt := 138) d_CF_leapFor_134 rfl ?_
                refine J_istore d_CF_leapFor_138 (by decide) rfl ?_
                refine J_iload d_CF_leapFor_140 0 rfl ?_
                refine J_iconst d_CF_leapFor_142 ?_
                refine J_icmp_eq (tgt := 151) d_CF_leapFor_143 rfl (by omega) (by omega) (fun h143_29 => ?_) (fun h143_29 => ?_)
                · refine J_iload d_CF_leapFor_151 3 rfl ?_
                  refine J_bipush d_CF_leapFor_153 (by decide) ?_
                  refine J_iadd d_CF_leapFor_155 ?_
                  refine J_iret rfl d_CF_leapFor_156 ⟨Nat.le_of_ble_eq_true rfl, Nat.le_of_ble_eq_true rfl⟩ ?_
                  exact ⟨by rw [lp_go (by omega) hone.1 (by rw [hone.2]; exact hlen) (by rw [hone.2]; omega), hone.2, lpN_named hg, if_pos (by rw [← hlps]; assumption)], rfl⟩
                · refine J_iload d_CF_leapFor_146 0 rfl ?_
                  refine J_goto (tgt := 156) d_CF_leapFor_148 rfl ?_
                  refine J_iret rfl d_CF_leapFor_156 ⟨Nat.le_of_ble_eq_true rfl, Nat.le_of_ble_eq_true rfl⟩ ?_
                  exact ⟨by rw [lp_go (by omega) hone.1 (by rw [hone.2]; exact hlen) (by rw [hone.2]; omega), hone.2, lpN_named hg, if_neg (by rw [← hlps]; assumption), ← hlps], rfl⟩
          · have hlen : on % 52 / 13 + 1 ≠ lenOf ln (on / 52 - 1) := fun e => ‹bhM ln bd (on / 52 - 1) (on % 52 / 13 + 1) ≠ -1› (by unfold bhM; rw [if_pos (by omega)])
            refine J_iconst d_CF_leapFor_81 ?_
            refine J_iret rfl d_CF_leapFor_82 ⟨Nat.le_of_ble_eq_true rfl, Nat.le_of_ble_eq_true rfl⟩ ?_
            exact ⟨by rw [lp_end1 (by omega) (Or.inr (by rw [hone.2]; exact hlen))], rfl⟩
    · have hck := hc0 k (by omega) (by omega)
      have hck2 := hck.1
      have hio := (hIo i (by omega) (by omega) _ hck.2).2.1
      refine J_aload_n d_CF_leapFor_15 rfl 3 rfl ?_
      refine J_get fs_CF_139 (hidS (k := i) (by omega)) rfl d_CF_leapFor_16 ?_
      refine J_iload d_CF_leapFor_19 0 rfl ?_
      refine J_sald (hidI (k := i) (by omega)) (by omega) (by decide) d_CF_leapFor_21 ?_
      obtain ⟨c, ec⟩ : ∃ y, y = it i k := ⟨_, rfl⟩
      rw [← ec]
      refine J_istore d_CF_leapFor_22 (by decide) rfl ?_
      rw [← ec] at hck hck2 hio
      have hbr := hg.bc hck2
      refine J_aload_n d_CF_leapFor_24 rfl 3 rfl ?_
      refine J_iload d_CF_leapFor_25 0 rfl ?_
      refine J_callV (st := []) [Value.int (iI c)] ms_CF_143 rfl (c_CF_behind hg (by omega)) rfl rfl ⟨Nat.le_of_ble_eq_true rfl, Nat.le_of_ble_eq_true rfl⟩ ⟨Nat.le_of_ble_eq_true rfl, Nat.le_of_ble_eq_true rfl⟩ (Nat.le_of_ble_eq_true rfl) d_CF_leapFor_27 (fun v w' hp => ?_)
      obtain ⟨rfl, rfl⟩ := hp
      show J l D b Y_CF_leapFor _ _ (ad, cC ad r lp fd nr nr nr mc lf ln bd tm it th my lps em mk tr wg wr we wc wb vg vr ve vc vb sy sf so st sn ne mt) 0 0 30 [(6, Value.int (iI c)), (5, Value.int (iI k)), (4, Value.int (iI on)), (0, Value.ref (ad 100)), (1, Value.ref (ad (idS i))), (2, Value.int (iI i)), (3, Value.int (iI x))] [Value.int (iI (bc ln bd c))]
      refine J_iload_n d_CF_leapFor_30 rfl 6 rfl ?_
      refine J_icmp_ne (tgt := 46) d_CF_leapFor_31 rfl (by omega) (by omega) (fun h31_31 => ?_) (fun h31_31 => ?_)
      · refine J_iinc (j := 1) d_CF_leapFor_46 rfl (by decide) rfl ?_
        refine J_goto (tgt := 6) d_CF_leapFor_49 rfl ?_
        refine J.sub [0, 2, 3, 4, 5, 6] rfl ?_
        exact ih1 (k + 1, on) (show ((0 ≤ (k + 1) ∧ (k + 1) ≤ my i) ∧ (-1 ≤ on ∧ on < 572)) ∧ ((on = -1 ∧ ∀ j, 0 ≤ j → j < (k + 1) → bc ln bd (it i j) ≠ x) ∨ (∃ j0, 0 ≤ j0 ∧ j0 < (k + 1) ∧ it i j0 = on ∧ bc ln bd on = x ∧ ∀ j, 0 ≤ j → j < (k + 1) → j ≠ j0 → bc ln bd (it i j) ≠ x)) by
            refine ⟨by omega, ?_⟩
            rcases hL with ⟨h1, h2⟩ | ⟨j0, h1, h2, h3, h4, h5⟩
            · refine Or.inl ⟨h1, fun j a1 a2 => ?_⟩
              by_cases hj : j = k
              · rw [hj, ← ec]
                assumption
              · exact h2 j a1 (by omega)
            · refine Or.inr ⟨j0, h1, by omega, h3, h4, fun j a1 a2 a3 => ?_⟩
              by_cases hj : j = k
              · rw [hj, ← ec]
                assumption
              · exact h5 j a1 (by omega) a3) (show ((my i - (k + 1)).toNat) < ((my i - k).toNat) by
            omega)
      · refine J_iload d_CF_leapFor_34 2 rfl ?_
        refine J_iconst d_CF_leapFor_36 ?_
        refine J_icmp_eq (tgt := 42) d_CF_leapFor_37 rfl (by omega) (by omega) (fun h37_32 => ?_) (fun h37_32 => ?_)
        · refine J_iload d_CF_leapFor_42 0 rfl ?_
          refine J_istore d_CF_leapFor_44 (by decide) rfl ?_
          refine J_iinc (j := 2) d_CF_leapFor_46 rfl (by decide) rfl ?_
          refine J_goto (tgt := 6) d_CF_leapFor_49 rfl ?_
          refine J.sub [0, 1, 3, 4, 5, 6] rfl ?_
          exact ih1 (k + 1, c) (show ((0 ≤ (k + 1) ∧ (k + 1) ≤ my i) ∧ (-1 ≤ c ∧ c < 572)) ∧ ((c = -1 ∧ ∀ j, 0 ≤ j → j < (k + 1) → bc ln bd (it i j) ≠ x) ∨ (∃ j0, 0 ≤ j0 ∧ j0 < (k + 1) ∧ it i j0 = c ∧ bc ln bd c = x ∧ ∀ j, 0 ≤ j → j < (k + 1) → j ≠ j0 → bc ln bd (it i j) ≠ x)) by
              refine ⟨by omega, Or.inr ⟨k, by omega, by omega, ec.symm, ‹_›, fun j a1 a2 a3 => ?_⟩⟩
              rcases hL with ⟨h1, h2⟩ | ⟨j0, h1, h2, h3, h4, h5⟩
              · exact h2 j a1 (by omega)
              · have := (hc0 j0 h1 (by omega)).1
                omega) (show ((my i - (k + 1)).toNat) < ((my i - k).toNat) by
              omega)
        · refine J_iconst d_CF_leapFor_40 ?_
          refine J_iret rfl d_CF_leapFor_41 ⟨Nat.le_of_ble_eq_true rfl, Nat.le_of_ble_eq_true rfl⟩ ?_
          rcases hL with ⟨h1, h2⟩ | ⟨j0, h1, h2, h3, h4, h5⟩
          · omega
          have hc9 := hc0 j0 h1 (by omega)
          have hca := hc0 k (by omega) (by omega)
          rw [h3] at hc9
          rw [← ec] at hca
          have t2 := cnt_two (P := lpW (tab th) ln bd i x) (k := 572) (by omega) hc9.1 hca.1 (fun e => by rw [← h3, ec] at e; have := hK.2.2.2 j0 k h1 (by omega) (by omega) (by omega) e; omega) (lpW_t (by rw [tab_at th hc9.1]; exact hc9.2) h4) (lpW_t (by rw [tab_at th hca.1]; exact hca.2) ‹_›)
          exact ⟨by rw [lp_end1 (by omega) (Or.inl (by omega))], rfl⟩
  · show ((0 ≤ (0 : Int) ∧ (0 : Int) ≤ my i) ∧ (-1 ≤ (-1 : Int) ∧ (-1 : Int) < 572)) ∧ (((-1 : Int) = -1 ∧ ∀ j, 0 ≤ j → j < (0 : Int) → bc ln bd (it i j) ≠ x) ∨ (∃ j0, 0 ≤ j0 ∧ j0 < (0 : Int) ∧ it i j0 = (-1 : Int) ∧ bc ln bd (-1 : Int) = x ∧ ∀ j, 0 ≤ j → j < (0 : Int) → j ≠ j0 → bc ln bd (it i j) ≠ x))
    exact ⟨by omega, Or.inl ⟨rfl, fun j a1 a2 => by omega⟩⟩
end N2
