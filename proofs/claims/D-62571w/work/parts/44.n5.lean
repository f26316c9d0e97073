section N5
variable {l : Launch} {D : jD} {b : Nat} {w : jW} {ad : Nat → Nat} {r : Nat → Option jE} {lp : Bool} {fd : Int} {nr : Int} {nc : Int} {nd : Int} {mc : Int} {lf : Int → Int} {ln : Int → Int} {bd : Int → Int} {tm : Int → Int} {it : Int → Int → Int} {th : Int → Int → Bool} {my : Int → Int} {lps : Int → Int → Int} {em : Int → Int} {mk : Int → Int → Int} {tr : Int → Int → Int → Int} {wg : Bool} {wr : Value} {we : Int} {wc : Int → Int} {wb : Bool} {vg : Bool} {vr : Value} {ve : Int} {vc : Int → Int} {vb : Bool} {sy : Int → Int} {sf : Int → Int} {so : Int → Int} {st : Int → Int} {sn : Int} {ne : Int → Int} {mt : Int → Int → Bool}
set_option maxHeartbeats 4000000 in
theorem c_CF_derives {s : Int} {i : Int} {j : Int}  (htm : ∀ x, 0 ≤ x → x < 12 → -2147483648 ≤ tm x ∧ tm x ≤ 2147483647) (hmk : MkR mk) (hs : 0 ≤ s ∧ s ≤ 11) (hij : 0 ≤ i ∧ i ≤ j ∧ j ≤ 12) : Ct l D b Y_CF_derives { frames := 0, cells := 0, slots := 0, locals := 0 } [Value.ref (ad 100), Value.int (iI s), Value.int (iI i), Value.int (iI j)] (ad, cC ad r lp fd nr nr nr mc lf ln bd tm it th my lps em mk tr wg wr we wc wb vg vr ve vc vb sy sf so st sn ne mt) (fun v w' => v = some (.int (iI (bz (dsy tm (dvM mk) s i j)))) ∧ w' = (ad, cC ad r lp fd nr nr nr mc lf ln bd tm it th my lps em mk tr wg wr we wc wb vg vr ve vc vb sy sf so st sn ne mt)) := by
  refine Ct_of (by decide) (Nat.le_of_ble_eq_true rfl) ?_
  show J l D b Y_CF_derives _ _ (ad, cC ad r lp fd nr nr nr mc lf ln bd tm it th my lps em mk tr wg wr we wc wb vg vr ve vc vb sy sf so st sn ne mt) 0 0 0 [(0, Value.ref (ad 100)), (1, Value.int (iI s)), (2, Value.int (iI i)), (3, Value.int (iI j))] []
  refine J_iload_n d_CF_derives_0 rfl 1 rfl ?_
  refine J_bipush d_CF_derives_1 (by decide) ?_
  refine J_icmp_lt (tgt := 29) d_CF_derives_3 rfl (by omega) (by omega) (fun h3_1 => ?_) (fun h3_1 => ?_)
  · have hm := hmk j i (by omega) (by omega) (by omega)
    refine J_aload_n d_CF_derives_29 rfl 0 rfl ?_
    refine J_get fs_CF_39 rfl rfl d_CF_derives_30 ?_
    refine J_iload_n d_CF_derives_33 rfl 3 rfl ?_
    refine J_aald (v := Value.ref (ad (idC j))) rfl rfl (by omega) (by decide) rfl d_CF_derives_34 ?_
    refine J_get fs_CF_178 (hidC (k := j) (by omega)) rfl d_CF_derives_35 ?_
    refine J_iload_n d_CF_derives_38 rfl 2 rfl ?_
    refine J_iald (hidK (k := j) (by omega)) (by omega) (by omega) d_CF_derives_39 ?_
    refine J_iload_n d_CF_derives_40 rfl 1 rfl ?_
    refine J_ishr d_CF_derives_41 (iI_shr (by omega) (by omega)) ?_
    refine J_iconst d_CF_derives_42 ?_
    refine J_iand d_CF_derives_43 (iI_bit (by omega)) ?_
    refine J_iconst d_CF_derives_44 ?_
    refine J_icmpB_ne (tgt := 52) d_CF_derives_45 rfl (fun h45_2 => ?_) (fun h45_2 => ?_)
    · refine J_iconst d_CF_derives_52 ?_
      refine J.top (show Value.int (iI 0) = Value.int (iI (bz false)) from rfl) ?_
      refine J_zret rfl d_CF_derives_53 ⟨Nat.le_of_ble_eq_true rfl, Nat.le_of_ble_eq_true rfl⟩ ?_
      first
        | exact ⟨by unfold dsy; rw [if_pos (by omega), decide_eq_false (by omega)], rfl⟩
        | exact ⟨by unfold dsy dvM; rw [if_neg (by omega), ‹bit _ _ = false›], rfl⟩
    · refine J_iconst d_CF_derives_48 ?_
      refine J_goto (tgt := 53) d_CF_derives_49 rfl ?_
      refine J.top (show Value.int (iI 1) = Value.int (iI (bz true)) from rfl) ?_
      refine J_zret rfl d_CF_derives_53 ⟨Nat.le_of_ble_eq_true rfl, Nat.le_of_ble_eq_true rfl⟩ ?_
      first
        | exact ⟨by unfold dsy; rw [if_pos (by omega), decide_eq_true ⟨by omega, by omega⟩], rfl⟩
        | exact ⟨by unfold dsy dvM; rw [if_neg (by omega), ‹bit _ _ = true›], rfl⟩
  · refine J_iload_n d_CF_derives_6 rfl 3 rfl ?_
    refine J_iload_n d_CF_derives_7 rfl 2 rfl ?_
    refine J_iconst d_CF_derives_8 ?_
    refine J_iadd d_CF_derives_9 ?_
    refine J_icmp_ne (tgt := 27) d_CF_derives_10 rfl (by omega) (by omega) (fun h10_3 => ?_) (fun h10_3 => ?_)
    · refine J_iconst d_CF_derives_27 ?_
      refine J.top (show Value.int (iI 0) = Value.int (iI (bz false)) from rfl) ?_
      refine J_zret rfl d_CF_derives_28 ⟨Nat.le_of_ble_eq_true rfl, Nat.le_of_ble_eq_true rfl⟩ ?_
      first
        | exact ⟨by unfold dsy; rw [if_pos (by omega), decide_eq_false (by omega)], rfl⟩
        | exact ⟨by unfold dsy dvM; rw [if_neg (by omega), ‹bit _ _ = false›], rfl⟩
    · have ht := htm i (by omega) (by omega)
      refine J_aload_n d_CF_derives_13 rfl 0 rfl ?_
      refine J_get fs_CF_33 rfl rfl d_CF_derives_14 ?_
      refine J_iload_n d_CF_derives_17 rfl 2 rfl ?_
      refine J_iald rfl (by omega) (by decide) d_CF_derives_18 ?_
      refine J_iload_n d_CF_derives_19 rfl 1 rfl ?_
      refine J_icmp_ne (tgt := 27) d_CF_derives_20 rfl (by omega) (by omega) (fun h20_4 => ?_) (fun h20_4 => ?_)
      · refine J_iconst d_CF_derives_27 ?_
        refine J.top (show Value.int (iI 0) = Value.int (iI (bz false)) from rfl) ?_
        refine J_zret rfl d_CF_derives_28 ⟨Nat.le_of_ble_eq_true rfl, Nat.le_of_ble_eq_true rfl⟩ ?_
        first
          | exact ⟨by unfold dsy; rw [if_pos (by omega), decide_eq_false (by omega)], rfl⟩
          | exact ⟨by unfold dsy dvM; rw [if_neg (by omega), ‹bit _ _ = false›], rfl⟩
      · refine J_iconst d_CF_derives_23 ?_
        refine J_goto (tgt := 28) d_CF_derives_24 rfl ?_
        refine J.top (show Value.int (iI 1) = Value.int (iI (bz true)) from rfl) ?_
        refine J_zret rfl d_CF_derives_28 ⟨Nat.le_of_ble_eq_true rfl, Nat.le_of_ble_eq_true rfl⟩ ?_
        first
          | exact ⟨by unfold dsy; rw [if_pos (by omega), decide_eq_true ⟨by omega, by omega⟩], rfl⟩
          | exact ⟨by unfold dsy dvM; rw [if_neg (by omega), ‹bit _ _ = true›], rfl⟩
set_option maxHeartbeats 4000000 in
theorem c_Wa_begin {i : Int} {j : Int} {q : Int} (hg : gOK nr lf ln bd) (hq : 0 ≤ q ∧ q < nr) (hij : 0 ≤ i ∧ i ≤ j ∧ j ≤ 12) : Ct l D b Y_Wa_begin { frames := 0, cells := 0, slots := 0, locals := 0 } [Value.ref (ad 108), Value.ref (ad 100), Value.ref (ad (idR q)), Value.int (iI i), Value.int (iI j)] (ad, cC ad r lp fd nr nr nr mc lf ln bd tm it th my lps em mk tr wg wr we wc wb vg vr ve vc vb sy sf so st sn ne mt) (fun v w' => v = none ∧ ∃ cu, w' = (ad, cC ad r lp fd nr nr nr mc lf ln bd tm it th my lps em mk tr true (Value.ref (ad (idR q))) j cu false vg vr ve vc vb sy sf so st sn ne mt) ∧ WS (ln q) i j false cu (stS (ln q) i j)) := by
  refine Ct_of (by decide) (Nat.le_of_ble_eq_true rfl) ?_
  have hn := hg.1
  have hl := hg.2.2.1 q (by omega) (by omega)
  show J l D b Y_Wa_begin _ _ (ad, cC ad r lp fd nr nr nr mc lf ln bd tm it th my lps em mk tr wg wr we wc wb vg vr ve vc vb sy sf so st sn ne mt) 0 0 0 [(0, Value.ref (ad 108)), (1, Value.ref (ad 100)), (2, Value.ref (ad (idR q))), (3, Value.int (iI i)), (4, Value.int (iI j))] []
  refine J_aload_n d_Wa_begin_0 rfl 0 rfl ?_
  refine J_aload_n d_Wa_begin_1 rfl 1 rfl ?_
  refine J_put fs_Wa_15 rfl (Nat.le_of_ble_eq_true rfl) (fun _ h => by cases h; exact Or.inl rfl) rfl rfl (u_108 (wg' := true) (wr' := wr) (we' := we) (wb' := wb)) d_Wa_begin_2 ?_
  refine J_aload_n d_Wa_begin_5 rfl 0 rfl ?_
  refine J_aload_n d_Wa_begin_6 rfl 2 rfl ?_
  refine J_put fs_Wa_19 rfl (Nat.le_of_ble_eq_true rfl) (fun _ h => by cases h; exact Or.inl rfl) rfl rfl (u_108 (wg' := true) (wr' := Value.ref (ad (idR q))) (we' := we) (wb' := wb)) d_Wa_begin_7 ?_
  refine J_aload_n d_Wa_begin_10 rfl 0 rfl ?_
  refine J_iload d_Wa_begin_11 4 rfl ?_
  refine J_put fs_Wa_23 rfl (Nat.le_of_ble_eq_true rfl) (fun _ h => by cases h; exact Or.inl rfl) rfl rfl (u_108 (wg' := true) (wr' := Value.ref (ad (idR q))) (we' := j) (wb' := wb)) d_Wa_begin_13 ?_
  refine J_aload_n d_Wa_begin_16 rfl 0 rfl ?_
  refine J_iconst d_Wa_begin_17 ?_
  refine J.top (show Value.int (iI 0) = Value.int (iI (bz false)) from rfl) ?_
  refine J_put fs_Wa_27 rfl (Nat.le_of_ble_eq_true rfl) (fun _ h => by cases h; exact Or.inl rfl) (nar_z _) (fit_z _) (u_108 (wg' := true) (wr' := Value.ref (ad (idR q))) (we' := j) (wb' := false)) d_Wa_begin_18 ?_
  refine J_aload_n d_Wa_begin_21 rfl 0 rfl ?_
  refine J_get (v := Value.ref (ad 109)) fs_Wa_9 rfl rfl d_Wa_begin_22 ?_
  refine J_iconst d_Wa_begin_25 ?_
  refine J_iload_n d_Wa_begin_26 rfl 3 rfl ?_
  refine J_iast rfl (by omega) (by decide) u_109 d_Wa_begin_27 ?_
  refine J_iconst d_Wa_begin_28 ?_
  refine J_istore d_Wa_begin_29 (by decide) rfl ?_
  refine J.loop (σ := Int × (Int → Int)) (fun xx_ => match xx_ with | (k, cu) => (1 ≤ k ∧ k ≤ 4) ∧ (cu 0 = i ∧ (1 < k → cu 1 = if 1 < ln q then i else j) ∧ (2 < k → cu 2 = if 2 < ln q then i else j) ∧ (3 < k → cu 3 = j))) (fun xx_ => match xx_ with | (k, cu) => (4 - k).toNat) (ws := fun xx_ => match xx_ with | (k, cu) => (ad, cC ad r lp fd nr nr nr mc lf ln bd tm it th my lps em mk tr true (Value.ref (ad (idR q))) j cu false vg vr ve vc vb sy sf so st sn ne mt)) (ks := fun _ => 0) (ns := fun _ => 0) (lvs := fun xx_ => match xx_ with | (k, cu) => [(5, Value.int (iI k)), (0, Value.ref (ad 108)), (1, Value.ref (ad 100)), (2, Value.ref (ad (idR q))), (3, Value.int (iI i)), (4, Value.int (iI j))]) (sts := fun _ => []) ?_ (1, upI wc 0 i) ?_
  · rintro ⟨k, cu⟩ hI ih1
    have hI : (1 ≤ k ∧ k ≤ 4) ∧ (cu 0 = i ∧ (1 < k → cu 1 = if 1 < ln q then i else j) ∧ (2 < k → cu 2 = if 2 < ln q then i else j) ∧ (3 < k → cu 3 = j)) := hI
    obtain ⟨hk, hcu⟩ := hI
    show J l D b Y_Wa_begin _ _ (ad, cC ad r lp fd nr nr nr mc lf ln bd tm it th my lps em mk tr true (Value.ref (ad (idR q))) j cu false vg vr ve vc vb sy sf so st sn ne mt) 0 0 31 [(5, Value.int (iI k)), (0, Value.ref (ad 108)), (1, Value.ref (ad 100)), (2, Value.ref (ad (idR q))), (3, Value.int (iI i)), (4, Value.int (iI j))] []
    refine J_iload d_Wa_begin_31 0 rfl ?_
    refine J_iconst d_Wa_begin_33 ?_
    refine J_icmp_gt (tgt := 66) d_Wa_begin_34 rfl (by omega) (by omega) (fun h34_2 => ?_) (fun h34_2 => ?_)
    · refine J_vret rfl d_Wa_begin_66 ⟨Nat.le_of_ble_eq_true rfl, Nat.le_of_ble_eq_true rfl⟩ ?_
      obtain ⟨u0, u1, u2, u3⟩ := hcu
      exact ⟨rfl, cu, rfl, Or.inl ⟨rfl, ⟨u0, u1 (by omega), u2 (by omega), u3 (by omega)⟩, rfl⟩⟩
    · refine J_aload_n d_Wa_begin_37 rfl 1 rfl ?_
      refine J_get (v := Value.ref (ad 109)) fs_Wa_9 rfl rfl d_Wa_begin_38 ?_
      refine J_iload d_Wa_begin_41 0 rfl ?_
      refine J_iload d_Wa_begin_43 0 rfl ?_
      refine J_aload_n d_Wa_begin_45 rfl 3 rfl ?_
      refine J_get fs_Wa_31 (hidR (k := q) (by omega) (by omega)) rfl d_Wa_begin_46 ?_
      refine J_alenE (z := ln q) (hidB (k := q) (by omega) (by omega)) (by omega) d_Wa_begin_49 ?_
      refine J_icmp_ge (tgt := 57) d_Wa_begin_50 rfl (by omega) (by omega) (fun h50_3 => ?_) (fun h50_3 => ?_)
      · refine J_iload d_Wa_begin_57 5 rfl ?_
        refine J_iast rfl (by omega) (by decide) u_109 d_Wa_begin_59 ?_
        refine J_iinc (j := 0) d_Wa_begin_60 rfl (by decide) rfl ?_
        refine J_goto (tgt := 31) d_Wa_begin_63 rfl ?_
        exact ih1 (k + 1, upI cu k j) (show (1 ≤ (k + 1) ∧ (k + 1) ≤ 4) ∧ ((upI cu k j) 0 = i ∧ (1 < (k + 1) → (upI cu k j) 1 = if 1 < ln q then i else j) ∧ (2 < (k + 1) → (upI cu k j) 2 = if 2 < ln q then i else j) ∧ (3 < (k + 1) → (upI cu k j) 3 = j)) by
            obtain ⟨u0, u1, u2, u3⟩ := hcu
            refine ⟨by omega, by rw [upI_ne _ _ (by omega)]; exact u0, fun h => ?_, fun h => ?_, fun h => ?_⟩
            · by_cases e : k = 1
              · subst e
                rw [upI_self]
                first
                  | rw [if_pos (by omega)]
                  | rw [if_neg (by omega)]
              · rw [upI_ne _ _ (fun z => e z.symm)]
                exact u1 (by omega)
            · by_cases e : k = 2
              · subst e
                rw [upI_self]
                first
                  | rw [if_pos (by omega)]
                  | rw [if_neg (by omega)]
              · rw [upI_ne _ _ (fun z => e z.symm)]
                exact u2 (by omega)
            · by_cases e : k = 3
              · subst e
                refine (upI_self _ _ _).trans ?_
                first
                  | rfl
                  | omega
              · rw [upI_ne _ _ (fun z => e z.symm)]
                exact u3 (by omega)) (show ((4 - (k + 1)).toNat) < ((4 - k).toNat) by
            omega)
      · refine J_iload_n d_Wa_begin_53 rfl 4 rfl ?_
        refine J_goto (tgt := 59) d_Wa_begin_54 rfl ?_
        refine J_iast rfl (by omega) (by decide) u_109 d_Wa_begin_59 ?_
        refine J_iinc (j := 0) d_Wa_begin_60 rfl (by decide) rfl ?_
        refine J_goto (tgt := 31) d_Wa_begin_63 rfl ?_
        exact ih1 (k + 1, upI cu k i) (show (1 ≤ (k + 1) ∧ (k + 1) ≤ 4) ∧ ((upI cu k i) 0 = i ∧ (1 < (k + 1) → (upI cu k i) 1 = if 1 < ln q then i else j) ∧ (2 < (k + 1) → (upI cu k i) 2 = if 2 < ln q then i else j) ∧ (3 < (k + 1) → (upI cu k i) 3 = j)) by
            obtain ⟨u0, u1, u2, u3⟩ := hcu
            refine ⟨by omega, by rw [upI_ne _ _ (by omega)]; exact u0, fun h => ?_, fun h => ?_, fun h => ?_⟩
            · by_cases e : k = 1
              · subst e
                rw [upI_self]
                first
                  | rw [if_pos (by omega)]
                  | rw [if_neg (by omega)]
              · rw [upI_ne _ _ (fun z => e z.symm)]
                exact u1 (by omega)
            · by_cases e : k = 2
              · subst e
                rw [upI_self]
                first
                  | rw [if_pos (by omega)]
                  | rw [if_neg (by omega)]
              · rw [upI_ne _ _ (fun z => e z.symm)]
                exact u2 (by omega)
            · by_cases e : k = 3
              · subst e
                refine (upI_self _ _ _).trans ?_
                first
                  | rfl
                  | omega
              · rw [upI_ne _ _ (fun z => e z.symm)]
                exact u3 (by omega)) (show ((4 - (k + 1)).toNat) < ((4 - k).toNat) by
            omega)
  · show (1 ≤ (1 : Int) ∧ (1 : Int) ≤ 4) ∧ ((upI wc 0 i) 0 = i ∧ (1 < (1 : Int) → (upI wc 0 i) 1 = if 1 < ln q then i else j) ∧ (2 < (1 : Int) → (upI wc 0 i) 2 = if 2 < ln q then i else j) ∧ (3 < (1 : Int) → (upI wc 0 i) 3 = j))
    exact ⟨by omega, upI_self _ _ _, fun h => absurd h (by decide), fun h => absurd h (by decide), fun h => absurd h (by decide)⟩
set_option maxHeartbeats 4000000 in
theorem c_Wa_step  {q : Int} {i : Int} {j : Int} {c1 : Int} {c2 : Int} (hg : gOK nr lf ln bd) (hq : 0 ≤ q ∧ q < nr) (hij : 0 ≤ i ∧ i ≤ j ∧ j ≤ 12) (hc : WCut (ln q) c1 c2 i j wc) (hb : wb = true ∨ (wb = false ∧ c1 = i ∧ c2 = i)) (hcr : i ≤ c1 ∧ c1 ≤ c2 ∧ c2 ≤ j) : Ct l D b Y_Wa_step { frames := 0, cells := 0, slots := 0, locals := 0 } [Value.ref (ad 108)] (ad, cC ad r lp fd nr nr nr mc lf ln bd tm it th my lps em mk tr true (Value.ref (ad (idR q))) j wc wb vg vr ve vc vb sy sf so st sn ne mt) (fun v w' => ∃ m d1 d2 cu, v = some (.int (iI (bz m))) ∧ w' = (ad, cC ad r lp fd nr nr nr mc lf ln bd tm it th my lps em mk tr true (Value.ref (ad (idR q))) j cu true vg vr ve vc vb sy sf so st sn ne mt) ∧ WCut (ln q) d1 d2 i j cu ∧ ((wb = false ∧ d1 = i ∧ d2 = i ∧ (m = true ↔ (0 < ln q ∨ i = j))) ∨ (wb = true ∧ Nxt (ln q) j c1 c2 m d1 d2))) := by
  refine Ct_of (by decide) (Nat.le_of_ble_eq_true rfl) ?_
  have hn := hg.1
  have hl := hg.2.2.1 q (by omega) (by omega)
  have hc' := hc
  obtain ⟨u0, u1, u2, u3⟩ := hc
  show J l D b Y_Wa_step _ _ (ad, cC ad r lp fd nr nr nr mc lf ln bd tm it th my lps em mk tr true (Value.ref (ad (idR q))) j wc wb vg vr ve vc vb sy sf so st sn ne mt) 0 0 0 [(0, Value.ref (ad 108))] []
  refine J_aload_n d_Wa_step_0 rfl 0 rfl ?_
  refine J_get (v := Value.ref (ad (idR q))) fs_Wa_19 rfl rfl d_Wa_step_1 ?_
  refine J_get fs_Wa_31 (hidR (k := q) (by omega) (by omega)) rfl d_Wa_step_4 ?_
  refine J_alenE (z := ln q) (hidB (k := q) (by omega) (by omega)) (by omega) d_Wa_step_7 ?_
  refine J_istore_n d_Wa_step_8 rfl (by decide) rfl ?_
  refine J_aload_n d_Wa_step_9 rfl 1 rfl ?_
  refine J_get (v := Value.int (iI (bz wb))) fs_Wa_27 rfl rfl d_Wa_step_10 ?_
  refine J_ifB_ne (tgt := 44) d_Wa_step_13 rfl (fun h13_1 => ?_) (fun h13_1 => ?_)
  · have hwb : wb = true := ‹_›
    subst hwb
    refine J_iload_n d_Wa_step_44 rfl 0 rfl ?_
    refine J_iconst d_Wa_step_45 ?_
    refine J_isub d_Wa_step_46 ?_
    refine J_istore_n d_Wa_step_47 rfl (by decide) rfl ?_
    refine J.loop (σ := Int) (fun k => (-1 ≤ k ∧ k ≤ ln q - 1) ∧ (∀ y, k < y → y < ln q → 0 < y → wc y = j)) (fun k => (k + 1).toNat) (ws := fun k => (ad, cC ad r lp fd nr nr nr mc lf ln bd tm it th my lps em mk tr true (Value.ref (ad (idR q))) j wc true vg vr ve vc vb sy sf so st sn ne mt)) (ks := fun _ => 0) (ns := fun _ => 0) (lvs := fun k => [(2, Value.int (iI k)), (1, Value.int (iI (ln q))), (0, Value.ref (ad 108))]) (sts := fun _ => []) ?_ ((ln q) - 1) ?_
    · rintro k hI ih2
      have hI : (-1 ≤ k ∧ k ≤ ln q - 1) ∧ (∀ y, k < y → y < ln q → 0 < y → wc y = j) := hI
      obtain ⟨hk, hkk⟩ := hI
      show J l D b Y_Wa_step _ _ (ad, cC ad r lp fd nr nr nr mc lf ln bd tm it th my lps em mk tr true (Value.ref (ad (idR q))) j wc true vg vr ve vc vb sy sf so st sn ne mt) 0 0 48 [(2, Value.int (iI k)), (1, Value.int (iI (ln q))), (0, Value.ref (ad 108))] []
      have hck : 0 < k → -2147483648 ≤ wc k ∧ wc k ≤ 2147483647 := by
        intro h9
        have : k = 1 ∨ k = 2 := by omega
        rcases this with e | e <;> rw [e]
        · rw [u1]
          split <;> omega
        · rw [u2]
          split <;> omega
      refine J_iload_n d_Wa_step_48 rfl 0 rfl ?_
      refine J_if_le (tgt := 71) d_Wa_step_49 rfl (by omega) (fun h49_3 => ?_) (fun h49_3 => ?_)
      · refine J_iload_n d_Wa_step_71 rfl 0 rfl ?_
        refine J_if_gt (tgt := 77) d_Wa_step_72 rfl (by omega) (fun h72_4 => ?_) (fun h72_4 => ?_)
        · refine J_aload_n d_Wa_step_77 rfl 2 rfl ?_
          refine J_get (v := Value.ref (ad 109)) fs_Wa_9 rfl rfl d_Wa_step_78 ?_
          refine J_iload_n d_Wa_step_81 rfl 0 rfl ?_
          refine J_dup2 d_Wa_step_82 rfl rfl ?_
          refine J_iald rfl (by omega) (by decide) d_Wa_step_83 ?_
          refine J_iconst d_Wa_step_84 ?_
          refine J_iadd d_Wa_step_85 ?_
          refine J_iast rfl (by omega) (by decide) u_109 d_Wa_step_86 ?_
          refine J_iload_n d_Wa_step_87 rfl 0 rfl ?_
          refine J_iconst d_Wa_step_88 ?_
          refine J_iadd d_Wa_step_89 ?_
          refine J_istore_n d_Wa_step_90 rfl (by decide) rfl ?_
          refine J.loop (σ := Int × (Int → Int)) (fun xx_ => match xx_ with | (y, cu) => (k + 1 ≤ y ∧ (y ≤ ln q ∨ y = k + 1)) ∧ ((∀ x, x < k → cu x = wc x) ∧ cu k = wc k + 1 ∧ (∀ x, k < x → x < y → cu x = wc k + 1) ∧ (∀ x, y ≤ x → cu x = wc x))) (fun xx_ => match xx_ with | (y, cu) => (ln q - y).toNat) (ws := fun xx_ => match xx_ with | (y, cu) => (ad, cC ad r lp fd nr nr nr mc lf ln bd tm it th my lps em mk tr true (Value.ref (ad (idR q))) j cu true vg vr ve vc vb sy sf so st sn ne mt)) (ks := fun _ => 0) (ns := fun _ => 0) (lvs := fun xx_ => match xx_ with | (y, cu) => [(3, Value.int (iI y)), (2, Value.int (iI k)), (1, Value.int (iI (ln q))), (0, Value.ref (ad 108))]) (sts := fun _ => []) ?_ (k + 1, upI wc k ((wc k) + 1)) ?_
          · rintro ⟨y, cu⟩ hI ih5
            have hI : (k + 1 ≤ y ∧ (y ≤ ln q ∨ y = k + 1)) ∧ ((∀ x, x < k → cu x = wc x) ∧ cu k = wc k + 1 ∧ (∀ x, k < x → x < y → cu x = wc k + 1) ∧ (∀ x, y ≤ x → cu x = wc x)) := hI
            obtain ⟨hy, hcu⟩ := hI
            show J l D b Y_Wa_step _ _ (ad, cC ad r lp fd nr nr nr mc lf ln bd tm it th my lps em mk tr true (Value.ref (ad (idR q))) j cu true vg vr ve vc vb sy sf so st sn ne mt) 0 0 91 [(3, Value.int (iI y)), (2, Value.int (iI k)), (1, Value.int (iI (ln q))), (0, Value.ref (ad 108))] []
            refine J_iload_n d_Wa_step_91 rfl 0 rfl ?_
            refine J_iload_n d_Wa_step_92 rfl 2 rfl ?_
            refine J_icmp_ge (tgt := 114) d_Wa_step_93 rfl (by omega) (by omega) (fun h93_6 => ?_) (fun h93_6 => ?_)
            · refine J_iconst d_Wa_step_114 ?_
              refine J.top (show Value.int (iI 1) = Value.int (iI (bz true)) from rfl) ?_
              refine J_zret rfl d_Wa_step_115 ⟨Nat.le_of_ble_eq_true rfl, Nat.le_of_ble_eq_true rfl⟩ ?_
              obtain ⟨e1, e2, e3, e4⟩ := hcu
              have hk12 : k = 1 ∨ k = 2 := by omega
              rcases hk12 with e | e
              · subst e
                have hlt : ¬ c1 = j := fun h9 => by
                  have h8 : wc 1 = j := by
                    rw [u1, if_pos (by omega)]
                    exact h9
                  omega
                refine ⟨_, c1 + 1, c1 + 1, _, rfl, rfl, ⟨by rw [e1 0 (by omega)]; exact u0, by rw [e2, u1, if_pos (by omega), if_pos (by omega)], ?_, by rw [e4 3 (by omega)]; exact u3⟩, Or.inr ⟨rfl, Or.inr (Or.inr ⟨fun h => ?_, by omega, rfl, rfl, rfl⟩)⟩⟩
                · by_cases h3 : 2 < ln q
                  · rw [if_pos h3, e3 2 (by omega) (by omega), u1, if_pos (by omega)]
                  · rw [if_neg h3, e4 2 (by omega), u2, if_neg h3]
                · have := hkk 2 (by omega) (by omega) (by omega)
                  rw [u2, if_pos (by omega)] at this
                  omega
              · subst e
                have hlt : ¬ c2 = j := fun h9 => by
                  have h8 : wc 2 = j := by
                    rw [u2, if_pos (by omega)]
                    exact h9
                  omega
                refine ⟨_, c1, c2 + 1, _, rfl, rfl, ⟨by rw [e1 0 (by omega)]; exact u0, by rw [e1 1 (by omega)]; exact u1, by rw [e2, u2, if_pos (by omega), if_pos (by omega)], by rw [e4 3 (by omega)]; exact u3⟩, Or.inr ⟨rfl, Or.inl ⟨by omega, rfl, rfl, rfl⟩⟩⟩
            · refine J_aload_n d_Wa_step_96 rfl 3 rfl ?_
              refine J_get (v := Value.ref (ad 109)) fs_Wa_9 rfl rfl d_Wa_step_97 ?_
              refine J_iload_n d_Wa_step_100 rfl 0 rfl ?_
              refine J_aload_n d_Wa_step_101 rfl 3 rfl ?_
              refine J_get (v := Value.ref (ad 109)) fs_Wa_9 rfl rfl d_Wa_step_102 ?_
              refine J_iload_n d_Wa_step_105 rfl 1 rfl ?_
              refine J_iald rfl (by omega) (by decide) d_Wa_step_106 ?_
              refine J_iast rfl (by omega) (by decide) u_109 d_Wa_step_107 ?_
              refine J_iinc (j := 0) d_Wa_step_108 rfl (by decide) rfl ?_
              refine J_goto (tgt := 91) d_Wa_step_111 rfl ?_
              exact ih5 (y + 1, upI cu y (cu k)) (show (k + 1 ≤ (y + 1) ∧ ((y + 1) ≤ ln q ∨ (y + 1) = k + 1)) ∧ ((∀ x, x < k → (upI cu y (cu k)) x = wc x) ∧ (upI cu y (cu k)) k = wc k + 1 ∧ (∀ x, k < x → x < (y + 1) → (upI cu y (cu k)) x = wc k + 1) ∧ (∀ x, (y + 1) ≤ x → (upI cu y (cu k)) x = wc x)) by
                  obtain ⟨e1, e2, e3, e4⟩ := hcu
                  refine ⟨by omega, fun x h => by rw [upI_ne _ _ (by omega)]; exact e1 x h, by rw [upI_ne _ _ (by omega)]; exact e2, fun x a b => ?_, fun x h => by rw [upI_ne _ _ (by omega)]; exact e4 x (by omega)⟩
                  by_cases hx : x = y
                  · rw [hx, upI_self]
                    exact e2
                  · rw [upI_ne _ _ hx]
                    exact e3 x a (by omega)) (show ((ln q - (y + 1)).toNat) < ((ln q - y).toNat) by
                  omega)
          · show (k + 1 ≤ (k + 1) ∧ ((k + 1) ≤ ln q ∨ (k + 1) = k + 1)) ∧ ((∀ x, x < k → (upI wc k ((wc k) + 1)) x = wc x) ∧ (upI wc k ((wc k) + 1)) k = wc k + 1 ∧ (∀ x, k < x → x < (k + 1) → (upI wc k ((wc k) + 1)) x = wc k + 1) ∧ (∀ x, (k + 1) ≤ x → (upI wc k ((wc k) + 1)) x = wc x))
            refine ⟨by omega, fun x h => by rw [upI_ne _ _ (by omega)], upI_self _ _ _, fun x a b => by omega, fun x h => by rw [upI_ne _ _ (by omega)]⟩
        · refine J_iconst d_Wa_step_75 ?_
          refine J.top (show Value.int (iI 0) = Value.int (iI (bz false)) from rfl) ?_
          refine J_zret rfl d_Wa_step_76 ⟨Nat.le_of_ble_eq_true rfl, Nat.le_of_ble_eq_true rfl⟩ ?_
          refine ⟨_, c1, c2, _, rfl, rfl, hc', Or.inr ⟨rfl, Or.inr (Or.inl ⟨fun h => ?_, ?_, rfl, rfl, rfl⟩)⟩⟩
          · have := hkk 2 (by omega) (by omega) (by omega)
            rw [u2, if_pos (by omega)] at this
            omega
          · by_cases h2 : ln q < 2
            · exact Or.inl h2
            · have := hkk 1 (by omega) (by omega) (by omega)
              rw [u1, if_pos (by omega)] at this
              exact Or.inr this
      · have hck2 := hck (by omega)
        refine J_aload_n d_Wa_step_52 rfl 2 rfl ?_
        refine J_get (v := Value.ref (ad 109)) fs_Wa_9 rfl rfl d_Wa_step_53 ?_
        refine J_iload_n d_Wa_step_56 rfl 0 rfl ?_
        refine J_iald rfl (by omega) (by decide) d_Wa_step_57 ?_
        refine J_aload_n d_Wa_step_58 rfl 2 rfl ?_
        refine J_get (v := Value.int (iI j)) fs_Wa_23 rfl rfl d_Wa_step_59 ?_
        refine J_icmp_ne (tgt := 71) d_Wa_step_62 rfl (by omega) (by omega) (fun h62_7 => ?_) (fun h62_7 => ?_)
        · refine J_iload_n d_Wa_step_71 rfl 0 rfl ?_
          refine J_if_gt (tgt := 77) d_Wa_step_72 rfl (by omega) (fun h72_8 => ?_) (fun h72_8 => ?_)
          · refine J_aload_n d_Wa_step_77 rfl 2 rfl ?_
            refine J_get (v := Value.ref (ad 109)) fs_Wa_9 rfl rfl d_Wa_step_78 ?_
            refine J_iload_n d_Wa_step_81 rfl 0 rfl ?_
            refine J_dup2 d_Wa_step_82 rfl rfl ?_
            refine J_iald rfl (by omega) (by decide) d_Wa_step_83 ?_
            refine J_iconst d_Wa_step_84 ?_
            refine J_iadd d_Wa_step_85 ?_
            refine J_iast rfl (by omega) (by decide) u_109 d_Wa_step_86 ?_
            refine J_iload_n d_Wa_step_87 rfl 0 rfl ?_
            refine J_iconst d_Wa_step_88 ?_
            refine J_iadd d_Wa_step_89 ?_
            refine J_istore_n d_Wa_step_90 rfl (by decide) rfl ?_
            refine J.loop (σ := Int × (Int → Int)) (fun xx_ => match xx_ with | (y, cu) => (k + 1 ≤ y ∧ (y ≤ ln q ∨ y = k + 1)) ∧ ((∀ x, x < k → cu x = wc x) ∧ cu k = wc k + 1 ∧ (∀ x, k < x → x < y → cu x = wc k + 1) ∧ (∀ x, y ≤ x → cu x = wc x))) (fun xx_ => match xx_ with | (y, cu) => (ln q - y).toNat) (ws := fun xx_ => match xx_ with | (y, cu) => (ad, cC ad r lp fd nr nr nr mc lf ln bd tm it th my lps em mk tr true (Value.ref (ad (idR q))) j cu true vg vr ve vc vb sy sf so st sn ne mt)) (ks := fun _ => 0) (ns := fun _ => 0) (lvs := fun xx_ => match xx_ with | (y, cu) => [(3, Value.int (iI y)), (2, Value.int (iI k)), (1, Value.int (iI (ln q))), (0, Value.ref (ad 108))]) (sts := fun _ => []) ?_ (k + 1, upI wc k ((wc k) + 1)) ?_
            · rintro ⟨y, cu⟩ hI ih9
              have hI : (k + 1 ≤ y ∧ (y ≤ ln q ∨ y = k + 1)) ∧ ((∀ x, x < k → cu x = wc x) ∧ cu k = wc k + 1 ∧ (∀ x, k < x → x < y → cu x = wc k + 1) ∧ (∀ x, y ≤ x → cu x = wc x)) := hI
              obtain ⟨hy, hcu⟩ := hI
              show J l D b Y_Wa_step _ _ (ad, cC ad r lp fd nr nr nr mc lf ln bd tm it th my lps em mk tr true (Value.ref (ad (idR q))) j cu true vg vr ve vc vb sy sf so st sn ne mt) 0 0 91 [(3, Value.int (iI y)), (2, Value.int (iI k)), (1, Value.int (iI (ln q))), (0, Value.ref (ad 108))] []
              refine J_iload_n d_Wa_step_91 rfl 0 rfl ?_
              refine J_iload_n d_Wa_step_92 rfl 2 rfl ?_
              refine J_icmp_ge (tgt := 114) d_Wa_step_93 rfl (by omega) (by omega) (fun h93_10 => ?_) (fun h93_10 => ?_)
              · refine J_iconst d_Wa_step_114 ?_
                refine J.top (show Value.int (iI 1) = Value.int (iI (bz true)) from rfl) ?_
                refine J_zret rfl d_Wa_step_115 ⟨Nat.le_of_ble_eq_true rfl, Nat.le_of_ble_eq_true rfl⟩ ?_
                obtain ⟨e1, e2, e3, e4⟩ := hcu
                have hk12 : k = 1 ∨ k = 2 := by omega
                rcases hk12 with e | e
                · subst e
                  have hlt : ¬ c1 = j := fun h9 => by
                    have h8 : wc 1 = j := by
                      rw [u1, if_pos (by omega)]
                      exact h9
                    omega
                  refine ⟨_, c1 + 1, c1 + 1, _, rfl, rfl, ⟨by rw [e1 0 (by omega)]; exact u0, by rw [e2, u1, if_pos (by omega), if_pos (by omega)], ?_, by rw [e4 3 (by omega)]; exact u3⟩, Or.inr ⟨rfl, Or.inr (Or.inr ⟨fun h => ?_, by omega, rfl, rfl, rfl⟩)⟩⟩
                  · by_cases h3 : 2 < ln q
                    · rw [if_pos h3, e3 2 (by omega) (by omega), u1, if_pos (by omega)]
                    · rw [if_neg h3, e4 2 (by omega), u2, if_neg h3]
                  · have := hkk 2 (by omega) (by omega) (by omega)
                    rw [u2, if_pos (by omega)] at this
                    omega
                · subst e
                  have hlt : ¬ c2 = j := fun h9 => by
                    have h8 : wc 2 = j := by
                      rw [u2, if_pos (by omega)]
                      exact h9
                    omega
                  refine ⟨_, c1, c2 + 1, _, rfl, rfl, ⟨by rw [e1 0 (by omega)]; exact u0, by rw [e1 1 (by omega)]; exact u1, by rw [e2, u2, if_pos (by omega), if_pos (by omega)], by rw [e4 3 (by omega)]; exact u3⟩, Or.inr ⟨rfl, Or.inl ⟨by omega, rfl, rfl, rfl⟩⟩⟩
              · refine J_aload_n d_Wa_step_96 rfl 3 rfl ?_
                refine J_get (v := Value.ref (ad 109)) fs_Wa_9 rfl rfl d_Wa_step_97 ?_
                refine J_iload_n d_Wa_step_100 rfl 0 rfl ?_
                refine J_aload_n d_Wa_step_101 rfl 3 rfl ?_
                refine J_get (v := Value.ref (ad 109)) fs_Wa_9 rfl rfl d_Wa_step_102 ?_
                refine J_iload_n d_Wa_step_105 rfl 1 rfl ?_
                refine J_iald rfl (by omega) (by decide) d_Wa_step_106 ?_
                refine J_iast rfl (by omega) (by decide) u_109 d_Wa_step_107 ?_
                refine J_iinc (j := 0) d_Wa_step_108 rfl (by decide) rfl ?_
                refine J_goto (tgt := 91) d_Wa_step_111 rfl ?_
                exact ih9 (y + 1, upI cu y (cu k)) (show (k + 1 ≤ (y + 1) ∧ ((y + 1) ≤ ln q ∨ (y + 1) = k + 1)) ∧ ((∀ x, x < k → (upI cu y (cu k)) x = wc x) ∧ (upI cu y (cu k)) k = wc k + 1 ∧ (∀ x, k < x → x < (y + 1) → (upI cu y (cu k)) x = wc k + 1) ∧ (∀ x, (y + 1) ≤ x → (upI cu y (cu k)) x = wc x)) by
                    obtain ⟨e1, e2, e3, e4⟩ := hcu
                    refine ⟨by omega, fun x h => by rw [upI_ne _ _ (by omega)]; exact e1 x h, by rw [upI_ne _ _ (by omega)]; exact e2, fun x a b => ?_, fun x h => by rw [upI_ne _ _ (by omega)]; exact e4 x (by omega)⟩
                    by_cases hx : x = y
                    · rw [hx, upI_self]
                      exact e2
                    · rw [upI_ne _ _ hx]
                      exact e3 x a (by omega)) (show ((ln q - (y + 1)).toNat) < ((ln q - y).toNat) by
                    omega)
            · show (k + 1 ≤ (k + 1) ∧ ((k + 1) ≤ ln q ∨ (k + 1) = k + 1)) ∧ ((∀ x, x < k → (upI wc k ((wc k) + 1)) x = wc x) ∧ (upI wc k ((wc k) + 1)) k = wc k + 1 ∧ (∀ x, k < x → x < (k + 1) → (upI wc k ((wc k) + 1)) x = wc k + 1) ∧ (∀ x, (k + 1) ≤ x → (upI wc k ((wc k) + 1)) x = wc x))
              refine ⟨by omega, fun x h => by rw [upI_ne _ _ (by omega)], upI_self _ _ _, fun x a b => by omega, fun x h => by rw [upI_ne _ _ (by omega)]⟩
          · refine J_iconst d_Wa_step_75 ?_
            refine J.top (show Value.int (iI 0) = Value.int (iI (bz false)) from rfl) ?_
            refine J_zret rfl d_Wa_step_76 ⟨Nat.le_of_ble_eq_true rfl, Nat.le_of_ble_eq_true rfl⟩ ?_
            refine ⟨_, c1, c2, _, rfl, rfl, hc', Or.inr ⟨rfl, Or.inr (Or.inl ⟨fun h => ?_, ?_, rfl, rfl, rfl⟩)⟩⟩
            · have := hkk 2 (by omega) (by omega) (by omega)
              rw [u2, if_pos (by omega)] at this
              omega
            · by_cases h2 : ln q < 2
              · exact Or.inl h2
              · have := hkk 1 (by omega) (by omega) (by omega)
                rw [u1, if_pos (by omega)] at this
                exact Or.inr this
        · refine J_iinc (j := 0) d_Wa_step_65 rfl (by decide) rfl ?_
          refine J_goto (tgt := 48) d_Wa_step_68 rfl ?_
          exact ih2 (k + (-1)) (show (-1 ≤ (k + (-1)) ∧ (k + (-1)) ≤ ln q - 1) ∧ (∀ y, (k + (-1)) < y → y < ln q → 0 < y → wc y = j) by
              refine ⟨by omega, fun y a b c => ?_⟩
              by_cases hy : y = k
              · rw [hy]
                omega
              · exact hkk y (by omega) b c) (show (((k + (-1)) + 1).toNat) < ((k + 1).toNat) by
              omega)
    · show (-1 ≤ ((ln q) - 1) ∧ ((ln q) - 1) ≤ ln q - 1) ∧ (∀ y, ((ln q) - 1) < y → y < ln q → 0 < y → wc y = j)
      exact ⟨by omega, fun y a b => by omega⟩
  · refine J_aload_n d_Wa_step_16 rfl 1 rfl ?_
    refine J_iconst d_Wa_step_17 ?_
    refine J.top (show Value.int (iI 1) = Value.int (iI (bz true)) from rfl) ?_
    refine J_put fs_Wa_27 rfl (Nat.le_of_ble_eq_true rfl) (fun _ h => by cases h; exact Or.inl rfl) (nar_z _) (fit_z _) (u_108 (wg' := true) (wr' := Value.ref (ad (idR q))) (we' := j) (wb' := true)) d_Wa_step_18 ?_
    refine J_iload_n d_Wa_step_21 rfl 0 rfl ?_
    refine J_if_gt (tgt := 38) d_Wa_step_22 rfl (by omega) (fun h22_11 => ?_) (fun h22_11 => ?_)
    · refine J_iconst d_Wa_step_38 ?_
      refine J_goto (tgt := 43) d_Wa_step_39 rfl ?_
      refine J.top (show Value.int (iI 1) = Value.int (iI (bz true)) from rfl) ?_
      refine J_zret rfl d_Wa_step_43 ⟨Nat.le_of_ble_eq_true rfl, Nat.le_of_ble_eq_true rfl⟩ ?_
      refine ⟨_, i, i, _, rfl, rfl, ?_, Or.inl ⟨‹_›, rfl, rfl, ?_⟩⟩
      · rcases hb with e | ⟨e, e1, e2⟩
        · rw [‹wb = false›] at e
          cases e
        · rw [e1, e2] at hc'
          exact hc'
      · exact ⟨fun _ => by omega, fun _ => rfl⟩
    · have hln : ln q = 0 := by omega
      rw [hln] at u1
      refine J_aload_n d_Wa_step_25 rfl 1 rfl ?_
      refine J_get (v := Value.ref (ad 109)) fs_Wa_9 rfl rfl d_Wa_step_26 ?_
      refine J_iconst d_Wa_step_29 ?_
      refine J_iald rfl (by omega) (by decide) d_Wa_step_30 ?_
      refine J_aload_n d_Wa_step_31 rfl 1 rfl ?_
      refine J_get (v := Value.int (iI j)) fs_Wa_23 rfl rfl d_Wa_step_32 ?_
      refine J_icmp_ne (tgt := 42) d_Wa_step_35 rfl (by omega) (by omega) (fun h35_12 => ?_) (fun h35_12 => ?_)
      · refine J_iconst d_Wa_step_42 ?_
        refine J.top (show Value.int (iI 0) = Value.int (iI (bz false)) from rfl) ?_
        refine J_zret rfl d_Wa_step_43 ⟨Nat.le_of_ble_eq_true rfl, Nat.le_of_ble_eq_true rfl⟩ ?_
        refine ⟨_, i, i, _, rfl, rfl, ?_, Or.inl ⟨‹_›, rfl, rfl, ?_⟩⟩
        · rcases hb with e | ⟨e, e1, e2⟩
          · rw [‹wb = false›] at e
            cases e
          · rw [e1, e2] at hc'
            exact hc'
        · exact ⟨(fun h => by cases h), fun h => by omega⟩
      · refine J_iconst d_Wa_step_38 ?_
        refine J_goto (tgt := 43) d_Wa_step_39 rfl ?_
        refine J.top (show Value.int (iI 1) = Value.int (iI (bz true)) from rfl) ?_
        refine J_zret rfl d_Wa_step_43 ⟨Nat.le_of_ble_eq_true rfl, Nat.le_of_ble_eq_true rfl⟩ ?_
        refine ⟨_, i, i, _, rfl, rfl, ?_, Or.inl ⟨‹_›, rfl, rfl, ?_⟩⟩
        · rcases hb with e | ⟨e, e1, e2⟩
          · rw [‹wb = false›] at e
            cases e
          · rw [e1, e2] at hc'
            exact hc'
        · exact ⟨fun _ => by omega, fun _ => rfl⟩
set_option maxHeartbeats 4000000 in
theorem c_Wa_beginV {i : Int} {j : Int} {q : Int} (hg : gOK nr lf ln bd) (hq : 0 ≤ q ∧ q < nr) (hij : 0 ≤ i ∧ i ≤ j ∧ j ≤ 12) : Ct l D b Y_Wa_begin { frames := 0, cells := 0, slots := 0, locals := 0 } [Value.ref (ad 110), Value.ref (ad 100), Value.ref (ad (idR q)), Value.int (iI i), Value.int (iI j)] (ad, cC ad r lp fd nr nr nr mc lf ln bd tm it th my lps em mk tr wg wr we wc wb vg vr ve vc vb sy sf so st sn ne mt) (fun v w' => v = none ∧ ∃ cu, w' = (ad, cC ad r lp fd nr nr nr mc lf ln bd tm it th my lps em mk tr wg wr we wc wb true (Value.ref (ad (idR q))) j cu false sy sf so st sn ne mt) ∧ WS (ln q) i j false cu (stS (ln q) i j)) := by
  refine Ct_of (by decide) (Nat.le_of_ble_eq_true rfl) ?_
  have hn := hg.1
  have hl := hg.2.2.1 q (by omega) (by omega)
  show J l D b Y_Wa_begin _ _ (ad, cC ad r lp fd nr nr nr mc lf ln bd tm it th my lps em mk tr wg wr we wc wb vg vr ve vc vb sy sf so st sn ne mt) 0 0 0 [(0, Value.ref (ad 110)), (1, Value.ref (ad 100)), (2, Value.ref (ad (idR q))), (3, Value.int (iI i)), (4, Value.int (iI j))] []
  refine J_aload_n d_Wa_begin_0 rfl 0 rfl ?_
  refine J_aload_n d_Wa_begin_1 rfl 1 rfl ?_
  refine J_put fs_Wa_15 rfl (Nat.le_of_ble_eq_true rfl) (fun _ h => by cases h; exact Or.inl rfl) rfl rfl (u_110 (vg' := true) (vr' := vr) (ve' := ve) (vb' := vb)) d_Wa_begin_2 ?_
  refine J_aload_n d_Wa_begin_5 rfl 0 rfl ?_
  refine J_aload_n d_Wa_begin_6 rfl 2 rfl ?_
  refine J_put fs_Wa_19 rfl (Nat.le_of_ble_eq_true rfl) (fun _ h => by cases h; exact Or.inl rfl) rfl rfl (u_110 (vg' := true) (vr' := Value.ref (ad (idR q))) (ve' := ve) (vb' := vb)) d_Wa_begin_7 ?_
  refine J_aload_n d_Wa_begin_10 rfl 0 rfl ?_
  refine J_iload d_Wa_begin_11 4 rfl ?_
  refine J_put fs_Wa_23 rfl (Nat.le_of_ble_eq_true rfl) (fun _ h => by cases h; exact Or.inl rfl) rfl rfl (u_110 (vg' := true) (vr' := Value.ref (ad (idR q))) (ve' := j) (vb' := vb)) d_Wa_begin_13 ?_
  refine J_aload_n d_Wa_begin_16 rfl 0 rfl ?_
  refine J_iconst d_Wa_begin_17 ?_
  refine J.top (show Value.int (iI 0) = Value.int (iI (bz false)) from rfl) ?_
  refine J_put fs_Wa_27 rfl (Nat.le_of_ble_eq_true rfl) (fun _ h => by cases h; exact Or.inl rfl) (nar_z _) (fit_z _) (u_110 (vg' := true) (vr' := Value.ref (ad (idR q))) (ve' := j) (vb' := false)) d_Wa_begin_18 ?_
  refine J_aload_n d_Wa_begin_21 rfl 0 rfl ?_
  refine J_get (v := Value.ref (ad 111)) fs_Wa_9 rfl rfl d_Wa_begin_22 ?_
  refine J_iconst d_Wa_begin_25 ?_
  refine J_iload_n d_Wa_begin_26 rfl 3 rfl ?_
  refine J_iast rfl (by omega) (by decide) u_111 d_Wa_begin_27 ?_
  refine J_iconst d_Wa_begin_28 ?_
  refine J_istore d_Wa_begin_29 (by decide) rfl ?_
  refine J.loop (σ := Int × (Int → Int)) (fun xx_ => match xx_ with | (k, cu) => (1 ≤ k ∧ k ≤ 4) ∧ (cu 0 = i ∧ (1 < k → cu 1 = if 1 < ln q then i else j) ∧ (2 < k → cu 2 = if 2 < ln q then i else j) ∧ (3 < k → cu 3 = j))) (fun xx_ => match xx_ with | (k, cu) => (4 - k).toNat) (ws := fun xx_ => match xx_ with | (k, cu) => (ad, cC ad r lp fd nr nr nr mc lf ln bd tm it th my lps em mk tr wg wr we wc wb true (Value.ref (ad (idR q))) j cu false sy sf so st sn ne mt)) (ks := fun _ => 0) (ns := fun _ => 0) (lvs := fun xx_ => match xx_ with | (k, cu) => [(5, Value.int (iI k)), (0, Value.ref (ad 110)), (1, Value.ref (ad 100)), (2, Value.ref (ad (idR q))), (3, Value.int (iI i)), (4, Value.int (iI j))]) (sts := fun _ => []) ?_ (1, upI vc 0 i) ?_
  · rintro ⟨k, cu⟩ hI ih1
    have hI : (1 ≤ k ∧ k ≤ 4) ∧ (cu 0 = i ∧ (1 < k → cu 1 = if 1 < ln q then i else j) ∧ (2 < k → cu 2 = if 2 < ln q then i else j) ∧ (3 < k → cu 3 = j)) := hI
    obtain ⟨hk, hcu⟩ := hI
    show J l D b Y_Wa_begin _ _ (ad, cC ad r lp fd nr nr nr mc lf ln bd tm it th my lps em mk tr wg wr we wc wb true (Value.ref (ad (idR q))) j cu false sy sf so st sn ne mt) 0 0 31 [(5, Value.int (iI k)), (0, Value.ref (ad 110)), (1, Value.ref (ad 100)), (2, Value.ref (ad (idR q))), (3, Value.int (iI i)), (4, Value.int (iI j))] []
    refine J_iload d_Wa_begin_31 0 rfl ?_
    refine J_iconst d_Wa_begin_33 ?_
    refine J_icmp_gt (tgt := 66) d_Wa_begin_34 rfl (by omega) (by omega) (fun h34_2 => ?_) (fun h34_2 => ?_)
    · refine J_vret rfl d_Wa_begin_66 ⟨Nat.le_of_ble_eq_true rfl, Nat.le_of_ble_eq_true rfl⟩ ?_
      obtain ⟨u0, u1, u2, u3⟩ := hcu
      exact ⟨rfl, cu, rfl, Or.inl ⟨rfl, ⟨u0, u1 (by omega), u2 (by omega), u3 (by omega)⟩, rfl⟩⟩
    · refine J_aload_n d_Wa_begin_37 rfl 1 rfl ?_
      refine J_get (v := Value.ref (ad 111)) fs_Wa_9 rfl rfl d_Wa_begin_38 ?_
      refine J_iload d_Wa_begin_41 0 rfl ?_
      refine J_iload d_Wa_begin_43 0 rfl ?_
      refine J_aload_n d_Wa_begin_45 rfl 3 rfl ?_
      refine J_get fs_Wa_31 (hidR (k := q) (by omega) (by omega)) rfl d_Wa_begin_46 ?_
      refine J_alenE (z := ln q) (hidB (k := q) (by omega) (by omega)) (by omega) d_Wa_begin_49 ?_
      refine J_icmp_ge (tgt := 57) d_Wa_begin_50 rfl (by omega) (by omega) (fun h50_3 => ?_) (fun h50_3 => ?_)
      · refine J_iload d_Wa_begin_57 5 rfl ?_
        refine J_iast rfl (by omega) (by decide) u_111 d_Wa_begin_59 ?_
        refine J_iinc (j := 0) d_Wa_begin_60 rfl (by decide) rfl ?_
        refine J_goto (tgt := 31) d_Wa_begin_63 rfl ?_
        exact ih1 (k + 1, upI cu k j) (show (1 ≤ (k + 1) ∧ (k + 1) ≤ 4) ∧ ((upI cu k j) 0 = i ∧ (1 < (k + 1) → (upI cu k j) 1 = if 1 < ln q then i else j) ∧ (2 < (k + 1) → (upI cu k j) 2 = if 2 < ln q then i else j) ∧ (3 < (k + 1) → (upI cu k j) 3 = j)) by
            obtain ⟨u0, u1, u2, u3⟩ := hcu
            refine ⟨by omega, by rw [upI_ne _ _ (by omega)]; exact u0, fun h => ?_, fun h => ?_, fun h => ?_⟩
            · by_cases e : k = 1
              · subst e
                rw [upI_self]
                first
                  | rw [if_pos (by omega)]
                  | rw [if_neg (by omega)]
              · rw [upI_ne _ _ (fun z => e z.symm)]
                exact u1 (by omega)
            · by_cases e : k = 2
              · subst e
                rw [upI_self]
                first
                  | rw [if_pos (by omega)]
                  | rw [if_neg (by omega)]
              · rw [upI_ne _ _ (fun z => e z.symm)]
                exact u2 (by omega)
            · by_cases e : k = 3
              · subst e
                refine (upI_self _ _ _).trans ?_
                first
                  | rfl
                  | omega
              · rw [upI_ne _ _ (fun z => e z.symm)]
                exact u3 (by omega)) (show ((4 - (k + 1)).toNat) < ((4 - k).toNat) by
            omega)
      · refine J_iload_n d_Wa_begin_53 rfl 4 rfl ?_
        refine J_goto (tgt := 59) d_Wa_begin_54 rfl ?_
        refine J_iast rfl (by omega) (by decide) u_111 d_Wa_begin_59 ?_
        refine J_iinc (j := 0) d_Wa_begin_60 rfl (by decide) rfl ?_
        refine J_goto (tgt := 31) d_Wa_begin_63 rfl ?_
        exact ih1 (k + 1, upI cu k i) (show (1 ≤ (k + 1) ∧ (k + 1) ≤ 4) ∧ ((upI cu k i) 0 = i ∧ (1 < (k + 1) → (upI cu k i) 1 = if 1 < ln q then i else j) ∧ (2 < (k + 1) → (upI cu k i) 2 = if 2 < ln q then i else j) ∧ (3 < (k + 1) → (upI cu k i) 3 = j)) by
            obtain ⟨u0, u1, u2, u3⟩ := hcu
            refine ⟨by omega, by rw [upI_ne _ _ (by omega)]; exact u0, fun h => ?_, fun h => ?_, fun h => ?_⟩
            · by_cases e : k = 1
              · subst e
                rw [upI_self]
                first
                  | rw [if_pos (by omega)]
                  | rw [if_neg (by omega)]
              · rw [upI_ne _ _ (fun z => e z.symm)]
                exact u1 (by omega)
            · by_cases e : k = 2
              · subst e
                rw [upI_self]
                first
                  | rw [if_pos (by omega)]
                  | rw [if_neg (by omega)]
              · rw [upI_ne _ _ (fun z => e z.symm)]
                exact u2 (by omega)
            · by_cases e : k = 3
              · subst e
                refine (upI_self _ _ _).trans ?_
                first
                  | rfl
                  | omega
              · rw [upI_ne _ _ (fun z => e z.symm)]
                exact u3 (by omega)) (show ((4 - (k + 1)).toNat) < ((4 - k).toNat) by
            omega)
  · show (1 ≤ (1 : Int) ∧ (1 : Int) ≤ 4) ∧ ((upI vc 0 i) 0 = i ∧ (1 < (1 : Int) → (upI vc 0 i) 1 = if 1 < ln q then i else j) ∧ (2 < (1 : Int) → (upI vc 0 i) 2 = if 2 < ln q then i else j) ∧ (3 < (1 : Int) → (upI vc 0 i) 3 = j))
    exact ⟨by omega, upI_self _ _ _, fun h => absurd h (by decide), fun h => absurd h (by decide), fun h => absurd h (by decide)⟩
set_option maxHeartbeats 4000000 in
theorem c_Wa_stepV  {q : Int} {i : Int} {j : Int} {c1 : Int} {c2 : Int} (hg : gOK nr lf ln bd) (hq : 0 ≤ q ∧ q < nr) (hij : 0 ≤ i ∧ i ≤ j ∧ j ≤ 12) (hc : WCut (ln q) c1 c2 i j vc) (hb : vb = true ∨ (vb = false ∧ c1 = i ∧ c2 = i)) (hcr : i ≤ c1 ∧ c1 ≤ c2 ∧ c2 ≤ j) : Ct l D b Y_Wa_step { frames := 0, cells := 0, slots := 0, locals := 0 } [Value.ref (ad 110)] (ad, cC ad r lp fd nr nr nr mc lf ln bd tm it th my lps em mk tr wg wr we wc wb true (Value.ref (ad (idR q))) j vc vb sy sf so st sn ne mt) (fun v w' => ∃ m d1 d2 cu, v = some (.int (iI (bz m))) ∧ w' = (ad, cC ad r lp fd nr nr nr mc lf ln bd tm it th my lps em mk tr wg wr we wc wb true (Value.ref (ad (idR q))) j cu true sy sf so st sn ne mt) ∧ WCut (ln q) d1 d2 i j cu ∧ ((vb = false ∧ d1 = i ∧ d2 = i ∧ (m = true ↔ (0 < ln q ∨ i = j))) ∨ (vb = true ∧ Nxt (ln q) j c1 c2 m d1 d2))) := by
  refine Ct_of (by decide) (Nat.le_of_ble_eq_true rfl) ?_
  have hn := hg.1
  have hl := hg.2.2.1 q (by omega) (by omega)
  have hc' := hc
  obtain ⟨u0, u1, u2, u3⟩ := hc
  show J l D b Y_Wa_step _ _ (ad, cC ad r lp fd nr nr nr mc lf ln bd tm it th my lps em mk tr wg wr we wc wb true (Value.ref (ad (idR q))) j vc vb sy sf so st sn ne mt) 0 0 0 [(0, Value.ref (ad 110))] []
  refine J_aload_n d_Wa_step_0 rfl 0 rfl ?_
  refine J_get (v := Value.ref (ad (idR q))) fs_Wa_19 rfl rfl d_Wa_step_1 ?_
  refine J_get fs_Wa_31 (hidR (k := q) (by omega) (by omega)) rfl d_Wa_step_4 ?_
  refine J_alenE (z := ln q) (hidB (k := q) (by omega) (by omega)) (by omega) d_Wa_step_7 ?_
  refine J_istore_n d_Wa_step_8 rfl (by decide) rfl ?_
  refine J_aload_n d_Wa_step_9 rfl 1 rfl ?_
  refine J_get (v := Value.int (iI (bz vb))) fs_Wa_27 rfl rfl d_Wa_step_10 ?_
  refine J_ifB_ne (tgt := 44) d_Wa_step_13 rfl (fun h13_1 => ?_) (fun h13_1 => ?_)
  · have hwb : vb = true := ‹_›
    subst hwb
    refine J_iload_n d_Wa_step_44 rfl 0 rfl ?_
    refine J_iconst d_Wa_step_45 ?_
    refine J_isub d_Wa_step_46 ?_
    refine J_istore_n d_Wa_step_47 rfl (by decide) rfl ?_
    refine J.loop (σ := Int) (fun k => (-1 ≤ k ∧ k ≤ ln q - 1) ∧ (∀ y, k < y → y < ln q → 0 < y → vc y = j)) (fun k => (k + 1).toNat) (ws := fun k => (ad, cC ad r lp fd nr nr nr mc lf ln bd tm it th my lps em mk tr wg wr we wc wb true (Value.ref (ad (idR q))) j vc true sy sf so st sn ne mt)) (ks := fun _ => 0) (ns := fun _ => 0) (lvs := fun k => [(2, Value.int (iI k)), (1, Value.int (iI (ln q))), (0, Value.ref (ad 110))]) (sts := fun _ => []) ?_ ((ln q) - 1) ?_
    · rintro k hI ih2
      have hI : (-1 ≤ k ∧ k ≤ ln q - 1) ∧ (∀ y, k < y → y < ln q → 0 < y → vc y = j) := hI
      obtain ⟨hk, hkk⟩ := hI
      show J l D b Y_Wa_step _ _ (ad, cC ad r lp fd nr nr nr mc lf ln bd tm it th my lps em mk tr wg wr we wc wb true (Value.ref (ad (idR q))) j vc true sy sf so st sn ne mt) 0 0 48 [(2, Value.int (iI k)), (1, Value.int (iI (ln q))), (0, Value.ref (ad 110))] []
      have hck : 0 < k → -2147483648 ≤ vc k ∧ vc k ≤ 2147483647 := by
        intro h9
        have : k = 1 ∨ k = 2 := by omega
        rcases this with e | e <;> rw [e]
        · rw [u1]
          split <;> omega
        · rw [u2]
          split <;> omega
      refine J_iload_n d_Wa_step_48 rfl 0 rfl ?_
      refine J_if_le (tgt := 71) d_Wa_step_49 rfl (by omega) (fun h49_3 => ?_) (fun h49_3 => ?_)
      · refine J_iload_n d_Wa_step_71 rfl 0 rfl ?_
        refine J_if_gt (tgt := 77) d_Wa_step_72 rfl (by omega) (fun h72_4 => ?_) (fun h72_4 => ?_)
        · refine J_aload_n d_Wa_step_77 rfl 2 rfl ?_
          refine J_get (v := Value.ref (ad 111)) fs_Wa_9 rfl rfl d_Wa_step_78 ?_
          refine J_iload_n d_Wa_step_81 rfl 0 rfl ?_
          refine J_dup2 d_Wa_step_82 rfl rfl ?_
          refine J_iald rfl (by omega) (by decide) d_Wa_step_83 ?_
          refine J_iconst d_Wa_step_84 ?_
          refine J_iadd d_Wa_step_85 ?_
          refine J_iast rfl (by omega) (by decide) u_111 d_Wa_step_86 ?_
          refine J_iload_n d_Wa_step_87 rfl 0 rfl ?_
          refine J_iconst d_Wa_step_88 ?_
          refine J_iadd d_Wa_step_89 ?_
          refine J_istore_n d_Wa_step_90 rfl (by decide) rfl ?_
          refine J.loop (σ := Int × (Int → Int)) (fun xx_ => match xx_ with | (y, cu) => (k + 1 ≤ y ∧ (y ≤ ln q ∨ y = k + 1)) ∧ ((∀ x, x < k → cu x = vc x) ∧ cu k = vc k + 1 ∧ (∀ x, k < x → x < y → cu x = vc k + 1) ∧ (∀ x, y ≤ x → cu x = vc x))) (fun xx_ => match xx_ with | (y, cu) => (ln q - y).toNat) (ws := fun xx_ => match xx_ with | (y, cu) => (ad, cC ad r lp fd nr nr nr mc lf ln bd tm it th my lps em mk tr wg wr we wc wb true (Value.ref (ad (idR q))) j cu true sy sf so st sn ne mt)) (ks := fun _ => 0) (ns := fun _ => 0) (lvs := fun xx_ => match xx_ with | (y, cu) => [(3, Value.int (iI y)), (2, Value.int (iI k)), (1, Value.int (iI (ln q))), (0, Value.ref (ad 110))]) (sts := fun _ => []) ?_ (k + 1, upI vc k ((vc k) + 1)) ?_
          · rintro ⟨y, cu⟩ hI ih5
            have hI : (k + 1 ≤ y ∧ (y ≤ ln q ∨ y = k + 1)) ∧ ((∀ x, x < k → cu x = vc x) ∧ cu k = vc k + 1 ∧ (∀ x, k < x → x < y → cu x = vc k + 1) ∧ (∀ x, y ≤ x → cu x = vc x)) := hI
            obtain ⟨hy, hcu⟩ := hI
            show J l D b Y_Wa_step _ _ (ad, cC ad r lp fd nr nr nr mc lf ln bd tm it th my lps em mk tr wg wr we wc wb true (Value.ref (ad (idR q))) j cu true sy sf so st sn ne mt) 0 0 91 [(3, Value.int (iI y)), (2, Value.int (iI k)), (1, Value.int (iI (ln q))), (0, Value.ref (ad 110))] []
            refine J_iload_n d_Wa_step_91 rfl 0 rfl ?_
            refine J_iload_n d_Wa_step_92 rfl 2 rfl ?_
            refine J_icmp_ge (tgt := 114) d_Wa_step_93 rfl (by omega) (by omega) (fun h93_6 => ?_) (fun h93_6 => ?_)
            · refine J_iconst d_Wa_step_114 ?_
              refine J.top (show Value.int (iI 1) = Value.int (iI (bz true)) from rfl) ?_
              refine J_zret rfl d_Wa_step_115 ⟨Nat.le_of_ble_eq_true rfl, Nat.le_of_ble_eq_true rfl⟩ ?_
              obtain ⟨e1, e2, e3, e4⟩ := hcu
              have hk12 : k = 1 ∨ k = 2 := by omega
              rcases hk12 with e | e
              · subst e
                have hlt : ¬ c1 = j := fun h9 => by
                  have h8 : vc 1 = j := by
                    rw [u1, if_pos (by omega)]
                    exact h9
                  omega
                refine ⟨_, c1 + 1, c1 + 1, _, rfl, rfl, ⟨by rw [e1 0 (by omega)]; exact u0, by rw [e2, u1, if_pos (by omega), if_pos (by omega)], ?_, by rw [e4 3 (by omega)]; exact u3⟩, Or.inr ⟨rfl, Or.inr (Or.inr ⟨fun h => ?_, by omega, rfl, rfl, rfl⟩)⟩⟩
                · by_cases h3 : 2 < ln q
                  · rw [if_pos h3, e3 2 (by omega) (by omega), u1, if_pos (by omega)]
                  · rw [if_neg h3, e4 2 (by omega), u2, if_neg h3]
                · have := hkk 2 (by omega) (by omega) (by omega)
                  rw [u2, if_pos (by omega)] at this
                  omega
              · subst e
                have hlt : ¬ c2 = j := fun h9 => by
                  have h8 : vc 2 = j := by
                    rw [u2, if_pos (by omega)]
                    exact h9
                  omega
                refine ⟨_, c1, c2 + 1, _, rfl, rfl, ⟨by rw [e1 0 (by omega)]; exact u0, by rw [e1 1 (by omega)]; exact u1, by rw [e2, u2, if_pos (by omega), if_pos (by omega)], by rw [e4 3 (by omega)]; exact u3⟩, Or.inr ⟨rfl, Or.inl ⟨by omega, rfl, rfl, rfl⟩⟩⟩
            · refine J_aload_n d_Wa_step_96 rfl 3 rfl ?_
              refine J_get (v := Value.ref (ad 111)) fs_Wa_9 rfl rfl d_Wa_step_97 ?_
              refine J_iload_n d_Wa_step_100 rfl 0 rfl ?_
              refine J_aload_n d_Wa_step_101 rfl 3 rfl ?_
              refine J_get (v := Value.ref (ad 111)) fs_Wa_9 rfl rfl d_Wa_step_102 ?_
              refine J_iload_n d_Wa_step_105 rfl 1 rfl ?_
              refine J_iald rfl (by omega) (by decide) d_Wa_step_106 ?_
              refine J_iast rfl (by omega) (by decide) u_111 d_Wa_step_107 ?_
              refine J_iinc (j := 0) d_Wa_step_108 rfl (by decide) rfl ?_
              refine J_goto (tgt := 91) d_Wa_step_111 rfl ?_
              exact ih5 (y + 1, upI cu y (cu k)) (show (k + 1 ≤ (y + 1) ∧ ((y + 1) ≤ ln q ∨ (y + 1) = k + 1)) ∧ ((∀ x, x < k → (upI cu y (cu k)) x = vc x) ∧ (upI cu y (cu k)) k = vc k + 1 ∧ (∀ x, k < x → x < (y + 1) → (upI cu y (cu k)) x = vc k + 1) ∧ (∀ x, (y + 1) ≤ x → (upI cu y (cu k)) x = vc x)) by
                  obtain ⟨e1, e2, e3, e4⟩ := hcu
                  refine ⟨by omega, fun x h => by rw [upI_ne _ _ (by omega)]; exact e1 x h, by rw [upI_ne _ _ (by omega)]; exact e2, fun x a b => ?_, fun x h => by rw [upI_ne _ _ (by omega)]; exact e4 x (by omega)⟩
                  by_cases hx : x = y
                  · rw [hx, upI_self]
                    exact e2
                  · rw [upI_ne _ _ hx]
                    exact e3 x a (by omega)) (show ((ln q - (y + 1)).toNat) < ((ln q - y).toNat) by
                  omega)
          · show (k + 1 ≤ (k + 1) ∧ ((k + 1) ≤ ln q ∨ (k + 1) = k + 1)) ∧ ((∀ x, x < k → (upI vc k ((vc k) + 1)) x = vc x) ∧ (upI vc k ((vc k) + 1)) k = vc k + 1 ∧ (∀ x, k < x → x < (k + 1) → (upI vc k ((vc k) + 1)) x = vc k + 1) ∧ (∀ x, (k + 1) ≤ x → (upI vc k ((vc k) + 1)) x = vc x))
            refine ⟨by omega, fun x h => by rw [upI_ne _ _ (by omega)], upI_self _ _ _, fun x a b => by omega, fun x h => by rw [upI_ne _ _ (by omega)]⟩
        · refine J_iconst d_Wa_step_75 ?_
          refine J.top (show Value.int (iI 0) = Value.int (iI (bz false)) from rfl) ?_
          refine J_zret rfl d_Wa_step_76 ⟨Nat.le_of_ble_eq_true rfl, Nat.le_of_ble_eq_true rfl⟩ ?_
          refine ⟨_, c1, c2, _, rfl, rfl, hc', Or.inr ⟨rfl, Or.inr (Or.inl ⟨fun h => ?_, ?_, rfl, rfl, rfl⟩)⟩⟩
          · have := hkk 2 (by omega) (by omega) (by omega)
            rw [u2, if_pos (by omega)] at this
            omega
          · by_cases h2 : ln q < 2
            · exact Or.inl h2
            · have := hkk 1 (by omega) (by omega) (by omega)
              rw [u1, if_pos (by omega)] at this
              exact Or.inr this
      · have hck2 := hck (by omega)
        refine J_aload_n d_Wa_step_52 rfl 2 rfl ?_
        refine J_get (v := Value.ref (ad 111)) fs_Wa_9 rfl rfl d_Wa_step_53 ?_
        refine J_iload_n d_Wa_step_56 rfl 0 rfl ?_
        refine J_iald rfl (by omega) (by decide) d_Wa_step_57 ?_
        refine J_aload_n d_Wa_step_58 rfl 2 rfl ?_
        refine J_get (v := Value.int (iI j)) fs_Wa_23 rfl rfl d_Wa_step_59 ?_
        refine J_icmp_ne (tgt := 71) d_Wa_step_62 rfl (by omega) (by omega) (fun h62_7 => ?_) (fun h62_7 => ?_)
        · refine J_iload_n d_Wa_step_71 rfl 0 rfl ?_
          refine J_if_gt (tgt := 77) d_Wa_step_72 rfl (by omega) (fun h72_8 => ?_) (fun h72_8 => ?_)
          · refine J_aload_n d_Wa_step_77 rfl 2 rfl ?_
            refine J_get (v := Value.ref (ad 111)) fs_Wa_9 rfl rfl d_Wa_step_78 ?_
            refine J_iload_n d_Wa_step_81 rfl 0 rfl ?_
            refine J_dup2 d_Wa_step_82 rfl rfl ?_
            refine J_iald rfl (by omega) (by decide) d_Wa_step_83 ?_
            refine J_iconst d_Wa_step_84 ?_
            refine J_iadd d_Wa_step_85 ?_
            refine J_iast rfl (by omega) (by decide) u_111 d_Wa_step_86 ?_
            refine J_iload_n d_Wa_step_87 rfl 0 rfl ?_
            refine J_iconst d_Wa_step_88 ?_
            refine J_iadd d_Wa_step_89 ?_
            refine J_istore_n d_Wa_step_90 rfl (by decide) rfl ?_
            refine J.loop (σ := Int × (Int → Int)) (fun xx_ => match xx_ with | (y, cu) => (k + 1 ≤ y ∧ (y ≤ ln q ∨ y = k + 1)) ∧ ((∀ x, x < k → cu x = vc x) ∧ cu k = vc k + 1 ∧ (∀ x, k < x → x < y → cu x = vc k + 1) ∧ (∀ x, y ≤ x → cu x = vc x))) (fun xx_ => match xx_ with | (y, cu) => (ln q - y).toNat) (ws := fun xx_ => match xx_ with | (y, cu) => (ad, cC ad r lp fd nr nr nr mc lf ln bd tm it th my lps em mk tr wg wr we wc wb true (Value.ref (ad (idR q))) j cu true sy sf so st sn ne mt)) (ks := fun _ => 0) (ns := fun _ => 0) (lvs := fun xx_ => match xx_ with | (y, cu) => [(3, Value.int (iI y)), (2, Value.int (iI k)), (1, Value.int (iI (ln q))), (0, Value.ref (ad 110))]) (sts := fun _ => []) ?_ (k + 1, upI vc k ((vc k) + 1)) ?_
            · rintro ⟨y, cu⟩ hI ih9
              have hI : (k + 1 ≤ y ∧ (y ≤ ln q ∨ y = k + 1)) ∧ ((∀ x, x < k → cu x = vc x) ∧ cu k = vc k + 1 ∧ (∀ x, k < x → x < y → cu x = vc k + 1) ∧ (∀ x, y ≤ x → cu x = vc x)) := hI
              obtain ⟨hy, hcu⟩ := hI
              show J l D b Y_Wa_step _ _ (ad, cC ad r lp fd nr nr nr mc lf ln bd tm it th my lps em mk tr wg wr we wc wb true (Value.ref (ad (idR q))) j cu true sy sf so st sn ne mt) 0 0 91 [(3, Value.int (iI y)), (2, Value.int (iI k)), (1, Value.int (iI (ln q))), (0, Value.ref (ad 110))] []
              refine J_iload_n d_Wa_step_91 rfl 0 rfl ?_
              refine J_iload_n d_Wa_step_92 rfl 2 rfl ?_
              refine J_icmp_ge (tgt := 114) d_Wa_step_93 rfl (by omega) (by omega) (fun h93_10 => ?_) (fun h93_10 => ?_)
              · refine J_iconst d_Wa_step_114 ?_
                refine J.top (show Value.int (iI 1) = Value.int (iI (bz true)) from rfl) ?_
                refine J_zret rfl d_Wa_step_115 ⟨Nat.le_of_ble_eq_true rfl, Nat.le_of_ble_eq_true rfl⟩ ?_
                obtain ⟨e1, e2, e3, e4⟩ := hcu
                have hk12 : k = 1 ∨ k = 2 := by omega
                rcases hk12 with e | e
                · subst e
                  have hlt : ¬ c1 = j := fun h9 => by
                    have h8 : vc 1 = j := by
                      rw [u1, if_pos (by omega)]
                      exact h9
                    omega
                  refine ⟨_, c1 + 1, c1 + 1, _, rfl, rfl, ⟨by rw [e1 0 (by omega)]; exact u0, by rw [e2, u1, if_pos (by omega), if_pos (by omega)], ?_, by rw [e4 3 (by omega)]; exact u3⟩, Or.inr ⟨rfl, Or.inr (Or.inr ⟨fun h => ?_, by omega, rfl, rfl, rfl⟩)⟩⟩
                  · by_cases h3 : 2 < ln q
                    · rw [if_pos h3, e3 2 (by omega) (by omega), u1, if_pos (by omega)]
                    · rw [if_neg h3, e4 2 (by omega), u2, if_neg h3]
                  · have := hkk 2 (by omega) (by omega) (by omega)
                    rw [u2, if_pos (by omega)] at this
                    omega
                · subst e
                  have hlt : ¬ c2 = j := fun h9 => by
                    have h8 : vc 2 = j := by
                      rw [u2, if_pos (by omega)]
                      exact h9
                    omega
                  refine ⟨_, c1, c2 + 1, _, rfl, rfl, ⟨by rw [e1 0 (by omega)]; exact u0, by rw [e1 1 (by omega)]; exact u1, by rw [e2, u2, if_pos (by omega), if_pos (by omega)], by rw [e4 3 (by omega)]; exact u3⟩, Or.inr ⟨rfl, Or.inl ⟨by omega, rfl, rfl, rfl⟩⟩⟩
              · refine J_aload_n d_Wa_step_96 rfl 3 rfl ?_
                refine J_get (v := Value.ref (ad 111)) fs_Wa_9 rfl rfl d_Wa_step_97 ?_
                refine J_iload_n d_Wa_step_100 rfl 0 rfl ?_
                refine J_aload_n d_Wa_step_101 rfl 3 rfl ?_
                refine J_get (v := Value.ref (ad 111)) fs_Wa_9 rfl rfl d_Wa_step_102 ?_
                refine J_iload_n d_Wa_step_105 rfl 1 rfl ?_
                refine J_iald rfl (by omega) (by decide) d_Wa_step_106 ?_
                refine J_iast rfl (by omega) (by decide) u_111 d_Wa_step_107 ?_
                refine J_iinc (j := 0) d_Wa_step_108 rfl (by decide) rfl ?_
                refine J_goto (tgt := 91) d_Wa_step_111 rfl ?_
                exact ih9 (y + 1, upI cu y (cu k)) (show (k + 1 ≤ (y + 1) ∧ ((y + 1) ≤ ln q ∨ (y + 1) = k + 1)) ∧ ((∀ x, x < k → (upI cu y (cu k)) x = vc x) ∧ (upI cu y (cu k)) k = vc k + 1 ∧ (∀ x, k < x → x < (y + 1) → (upI cu y (cu k)) x = vc k + 1) ∧ (∀ x, (y + 1) ≤ x → (upI cu y (cu k)) x = vc x)) by
                    obtain ⟨e1, e2, e3, e4⟩ := hcu
                    refine ⟨by omega, fun x h => by rw [upI_ne _ _ (by omega)]; exact e1 x h, by rw [upI_ne _ _ (by omega)]; exact e2, fun x a b => ?_, fun x h => by rw [upI_ne _ _ (by omega)]; exact e4 x (by omega)⟩
                    by_cases hx : x = y
                    · rw [hx, upI_self]
                      exact e2
                    · rw [upI_ne _ _ hx]
                      exact e3 x a (by omega)) (show ((ln q - (y + 1)).toNat) < ((ln q - y).toNat) by
                    omega)
            · show (k + 1 ≤ (k + 1) ∧ ((k + 1) ≤ ln q ∨ (k + 1) = k + 1)) ∧ ((∀ x, x < k → (upI vc k ((vc k) + 1)) x = vc x) ∧ (upI vc k ((vc k) + 1)) k = vc k + 1 ∧ (∀ x, k < x → x < (k + 1) → (upI vc k ((vc k) + 1)) x = vc k + 1) ∧ (∀ x, (k + 1) ≤ x → (upI vc k ((vc k) + 1)) x = vc x))
              refine ⟨by omega, fun x h => by rw [upI_ne _ _ (by omega)], upI_self _ _ _, fun x a b => by omega, fun x h => by rw [upI_ne _ _ (by omega)]⟩
          · refine J_iconst d_Wa_step_75 ?_
            refine J.top (show Value.int (iI 0) = Value.int (iI (bz false)) from rfl) ?_
            refine J_zret rfl d_Wa_step_76 ⟨Nat.le_of_ble_eq_true rfl, Nat.le_of_ble_eq_true rfl⟩ ?_
            refine ⟨_, c1, c2, _, rfl, rfl, hc', Or.inr ⟨rfl, Or.inr (Or.inl ⟨fun h => ?_, ?_, rfl, rfl, rfl⟩)⟩⟩
            · have := hkk 2 (by omega) (by omega) (by omega)
              rw [u2, if_pos (by omega)] at this
              omega
            · by_cases h2 : ln q < 2
              · exact Or.inl h2
              · have := hkk 1 (by omega) (by omega) (by omega)
                rw [u1, if_pos (by omega)] at this
                exact Or.inr this
        · refine J_iinc (j := 0) d_Wa_step_65 rfl (by decide) rfl ?_
          refine J_goto (tgt := 48) d_Wa_step_68 rfl ?_
          exact ih2 (k + (-1)) (show (-1 ≤ (k + (-1)) ∧ (k + (-1)) ≤ ln q - 1) ∧ (∀ y, (k + (-1)) < y → y < ln q → 0 < y → vc y = j) by
              refine ⟨by omega, fun y a b c => ?_⟩
              by_cases hy : y = k
              · rw [hy]
                omega
              · exact hkk y (by omega) b c) (show (((k + (-1)) + 1).toNat) < ((k + 1).toNat) by
              omega)
    · show (-1 ≤ ((ln q) - 1) ∧ ((ln q) - 1) ≤ ln q - 1) ∧ (∀ y, ((ln q) - 1) < y → y < ln q → 0 < y → vc y = j)
      exact ⟨by omega, fun y a b => by omega⟩
  · refine J_aload_n d_Wa_step_16 rfl 1 rfl ?_
    refine J_iconst d_Wa_step_17 ?_
    refine J.top (show Value.int (iI 1) = Value.int (iI (bz true)) from rfl) ?_
    refine J_put fs_Wa_27 rfl (Nat.le_of_ble_eq_true rfl) (fun _ h => by cases h; exact Or.inl rfl) (nar_z _) (fit_z _) (u_110 (vg' := true) (vr' := Value.ref (ad (idR q))) (ve' := j) (vb' := true)) d_Wa_step_18 ?_
    refine J_iload_n d_Wa_step_21 rfl 0 rfl ?_
    refine J_if_gt (tgt := 38) d_Wa_step_22 rfl (by omega) (fun h22_11 => ?_) (fun h22_11 => ?_)
    · refine J_iconst d_Wa_step_38 ?_
      refine J_goto (tgt := 43) d_Wa_step_39 rfl ?_
      refine J.top (show Value.int (iI 1) = Value.int (iI (bz true)) from rfl) ?_
      refine J_zret rfl d_Wa_step_43 ⟨Nat.le_of_ble_eq_true rfl, Nat.le_of_ble_eq_true rfl⟩ ?_
      refine ⟨_, i, i, _, rfl, rfl, ?_, Or.inl ⟨‹_›, rfl, rfl, ?_⟩⟩
      · rcases hb with e | ⟨e, e1, e2⟩
        · rw [‹vb = false›] at e
          cases e
        · rw [e1, e2] at hc'
          exact hc'
      · exact ⟨fun _ => by omega, fun _ => rfl⟩
    · have hln : ln q = 0 := by omega
      rw [hln] at u1
      refine J_aload_n d_Wa_step_25 rfl 1 rfl ?_
      refine J_get (v := Value.ref (ad 111)) fs_Wa_9 rfl rfl d_Wa_step_26 ?_
      refine J_iconst d_Wa_step_29 ?_
      refine J_iald rfl (by omega) (by decide) d_Wa_step_30 ?_
      refine J_aload_n d_Wa_step_31 rfl 1 rfl ?_
      refine J_get (v := Value.int (iI j)) fs_Wa_23 rfl rfl d_Wa_step_32 ?_
      refine J_icmp_ne (tgt := 42) d_Wa_step_35 rfl (by omega) (by omega) (fun h35_12 => ?_) (fun h35_12 => ?_)
      · refine J_iconst d_Wa_step_42 ?_
        refine J.top (show Value.int (iI 0) = Value.int (iI (bz false)) from rfl) ?_
        refine J_zret rfl d_Wa_step_43 ⟨Nat.le_of_ble_eq_true rfl, Nat.le_of_ble_eq_true rfl⟩ ?_
        refine ⟨_, i, i, _, rfl, rfl, ?_, Or.inl ⟨‹_›, rfl, rfl, ?_⟩⟩
        · rcases hb with e | ⟨e, e1, e2⟩
          · rw [‹vb = false›] at e
            cases e
          · rw [e1, e2] at hc'
            exact hc'
        · exact ⟨(fun h => by cases h), fun h => by omega⟩
      · refine J_iconst d_Wa_step_38 ?_
        refine J_goto (tgt := 43) d_Wa_step_39 rfl ?_
        refine J.top (show Value.int (iI 1) = Value.int (iI (bz true)) from rfl) ?_
        refine J_zret rfl d_Wa_step_43 ⟨Nat.le_of_ble_eq_true rfl, Nat.le_of_ble_eq_true rfl⟩ ?_
        refine ⟨_, i, i, _, rfl, rfl, ?_, Or.inl ⟨‹_›, rfl, rfl, ?_⟩⟩
        · rcases hb with e | ⟨e, e1, e2⟩
          · rw [‹vb = false›] at e
            cases e
          · rw [e1, e2] at hc'
            exact hc'
        · exact ⟨fun _ => by omega, fun _ => rfl⟩
end N5
