section M3
variable {l : Launch} {D : jD} {b : Nat} {w : jW} {ad : Nat → Nat} {r : Nat → Option jE} {lp : Bool} {rf : Int} {nr : Int} {lf : Int → Int} {ln : Int → Int} {bd : Int → Int} {fd : Int} {tm : Int → Int} {it : Int → Bool} {wk : Bool} {dv : Int → Bool} {ct : Int → Bool} {nu : Int → Int} {mt : Int → Bool} {c1 : Int} {c2 : Int} {td : Int → Int} {tt : Int → Int} {tc : Int}
set_option maxHeartbeats 4000000 in
theorem c_Mo_close {i : Int} (hg : gOK nr lf ln bd) (hi : 0 ≤ i ∧ i ≤ 12) : Ct l D b Y_Mo_close { frames := 4, cells := 0, slots := 0, locals := 102 } [Value.ref (ad 0), Value.int (iI i)] (ad, cM ad r lp rf nr lf ln bd fd tm it wk dv ct nu mt c1 c2 td tt tc) (fun v w' => v = none ∧ ∃ it', w' = (ad, cM ad r lp rf nr lf ln bd fd tm it' wk dv ct nu mt c1 c2 td tt tc) ∧ Clo lp nr lf ln bd i it it') := by
  refine Ct_of (by decide) (Nat.le_of_ble_eq_true rfl) ?_
  show J l D b Y_Mo_close _ _ (ad, cM ad r lp rf nr lf ln bd fd tm it wk dv ct nu mt c1 c2 td tt tc) 0 0 0 [(0, Value.ref (ad 0)), (1, Value.int (iI i))] []
  refine J_iconst d_Mo_close_0 ?_
  refine J_istore_n d_Mo_close_1 rfl (by decide) rfl ?_
  refine J.loop (σ := Bool × (Int → Bool)) (fun xx_ => match xx_ with | (mo, it1) => ((∀ p, it p = true → it1 p = true) ∧ (∀ p, ¬ (572 * i ≤ p ∧ p < 572 * i + 572) → it1 p = it p) ∧ Snd lp nr lf ln bd i it it1) ∧ (mo = false → Cl lp nr lf ln bd i it1)) (fun xx_ => match xx_ with | (mo, it1) => (572 - cntR i it1).toNat + (if mo = true then 1 else 0)) (ws := fun xx_ => match xx_ with | (mo, it1) => (ad, cM ad r lp rf nr lf ln bd fd tm it1 wk dv ct nu mt c1 c2 td tt tc)) (ks := fun _ => 0) (ns := fun _ => 0) (lvs := fun xx_ => match xx_ with | (mo, it1) => [(2, Value.int (iI (bz mo))), (0, Value.ref (ad 0)), (1, Value.int (iI i))]) (sts := fun _ => []) ?_ (true, it) ?_
  · rintro ⟨mo, it1⟩ hI ih1
    have hI : ((∀ p, it p = true → it1 p = true) ∧ (∀ p, ¬ (572 * i ≤ p ∧ p < 572 * i + 572) → it1 p = it p) ∧ Snd lp nr lf ln bd i it it1) ∧ (mo = false → Cl lp nr lf ln bd i it1) := hI
    obtain ⟨hX, hC⟩ := hI
    show J l D b Y_Mo_close _ _ (ad, cM ad r lp rf nr lf ln bd fd tm it1 wk dv ct nu mt c1 c2 td tt tc) 0 0 2 [(2, Value.int (iI (bz mo))), (0, Value.ref (ad 0)), (1, Value.int (iI i))] []
    refine J_iload_n d_Mo_close_2 rfl 0 rfl ?_
    refine J_ifB_eq (tgt := 80) d_Mo_close_3 rfl (fun h3_2 => ?_) (fun h3_2 => ?_)
    · refine J_vret rfl d_Mo_close_80 ⟨Nat.le_of_ble_eq_true rfl, Nat.le_of_ble_eq_true rfl⟩ ?_
      exact ⟨rfl, it1, rfl, hX.1, hX.2.1, hX.2.2, hC ‹_›⟩
    · refine J_iconst d_Mo_close_6 ?_
      refine J_istore_n d_Mo_close_7 rfl (by decide) rfl ?_
      refine J_iconst d_Mo_close_8 ?_
      refine J_istore_n d_Mo_close_9 rfl (by decide) rfl ?_
      refine J.loop (σ := Int × Bool × (Int → Bool)) (fun xx_ => match xx_ with | (k, mo2, it2) => (0 ≤ k ∧ k ≤ 572) ∧ (Pas lp nr lf ln bd i k it it1 it2 mo2)) (fun xx_ => match xx_ with | (k, mo2, it2) => (572 - k).toNat) (ws := fun xx_ => match xx_ with | (k, mo2, it2) => (ad, cM ad r lp rf nr lf ln bd fd tm it2 wk dv ct nu mt c1 c2 td tt tc)) (ks := fun _ => 0) (ns := fun _ => 0) (lvs := fun xx_ => match xx_ with | (k, mo2, it2) => [(3, Value.int (iI k)), (2, Value.int (iI (bz mo2))), (0, Value.ref (ad 0)), (1, Value.int (iI i))]) (sts := fun _ => []) ?_ (0, false, it1) ?_
      · rintro ⟨k, mo2, it2⟩ hI ih3
        have hI : (0 ≤ k ∧ k ≤ 572) ∧ (Pas lp nr lf ln bd i k it it1 it2 mo2) := hI
        obtain ⟨hk, hP⟩ := hI
        show J l D b Y_Mo_close _ _ (ad, cM ad r lp rf nr lf ln bd fd tm it2 wk dv ct nu mt c1 c2 td tt tc) 0 0 10 [(3, Value.int (iI k)), (2, Value.int (iI (bz mo2))), (0, Value.ref (ad 0)), (1, Value.int (iI i))] []
        refine J_iload_n d_Mo_close_10 rfl 0 rfl ?_
        refine J_sipush d_Mo_close_11 (by decide) ?_
        refine J_icmp_ge (tgt := 77) d_Mo_close_14 rfl (by omega) (by omega) (fun h14_4 => ?_) (fun h14_4 => ?_)
        · have hk572 : k = 572 := by omega
          rw [hk572] at hP
          refine J_goto (tgt := 2) d_Mo_close_77 rfl ?_
          refine J.sub [1, 2, 3] rfl ?_
          exact ih1 (mo2, it2) (show ((∀ p, it p = true → it2 p = true) ∧ (∀ p, ¬ (572 * i ≤ p ∧ p < 572 * i + 572) → it2 p = it p) ∧ Snd lp nr lf ln bd i it it2) ∧ (mo2 = false → Cl lp nr lf ln bd i it2) by
              exact ⟨⟨fun p hp => hP.1 p (hX.1 p hp), hP.2.1, hP.2.2.1⟩, fun h => pas_cl hP h⟩) (show (572 - cntR i it2).toNat + (if mo2 = true then 1 else 0) < (572 - cntR i it1).toNat + (if mo = true then 1 else 0) by
              rw [show mo = true by assumption]
              exact pas_mu hP)
        · refine J_aload_n d_Mo_close_17 rfl 2 rfl ?_
          refine J_get fs_Mo_22 rfl rfl d_Mo_close_18 ?_
          refine J_sipush d_Mo_close_21 (by decide) ?_
          refine J_iload_n d_Mo_close_24 rfl 3 rfl ?_
          refine J_imul d_Mo_close_25 ?_
          refine J_iload_n d_Mo_close_26 rfl 0 rfl ?_
          refine J_iadd d_Mo_close_27 ?_
          refine J_zald rfl (by omega) (by decide) d_Mo_close_28 ?_
          refine J_ifB_eq (tgt := 71) d_Mo_close_29 rfl (fun h29_5 => ?_) (fun h29_5 => ?_)
          · refine J_iinc (j := 0) d_Mo_close_71 rfl (by decide) rfl ?_
            refine J_goto (tgt := 10) d_Mo_close_74 rfl ?_
            exact ih3 (k + 1, mo2, it2) (show (0 ≤ (k + 1) ∧ (k + 1) ≤ 572) ∧ (Pas lp nr lf ln bd i (k + 1) it it1 it2 mo2) by
                exact ⟨by omega, pas_skip hP ‹_›⟩) (show (572 - (k + 1)).toNat < (572 - k).toNat by
                omega)
          · refine J_aload_n d_Mo_close_32 rfl 2 rfl ?_
            refine J_iload_n d_Mo_close_33 rfl 3 rfl ?_
            refine J_iload_n d_Mo_close_34 rfl 0 rfl ?_
            refine J_bipush d_Mo_close_35 (by decide) ?_
            refine J_idiv d_Mo_close_37 (by omega) (by omega) ?_
            refine J_iconst d_Mo_close_38 ?_
            refine J_isub d_Mo_close_39 ?_
            refine J_iload_n d_Mo_close_40 rfl 0 rfl ?_
            refine J_bipush d_Mo_close_41 (by decide) ?_
            refine J_irem d_Mo_close_43 (by omega) (by omega) ?_
            refine J_bipush d_Mo_close_44 (by decide) ?_
            refine J_idiv d_Mo_close_46 (by omega) (by omega) ?_
            refine J_iload_n d_Mo_close_47 rfl 0 rfl ?_
            refine J_bipush d_Mo_close_48 (by decide) ?_
            refine J_irem d_Mo_close_50 (by omega) (by omega) ?_
            refine J_callV (st := []) [Value.int (iI i), Value.int (iI ((k / 52) - 1)), Value.int (iI ((k % 52) / 13)), Value.int (iI (k % 13))] ms_Mo_82 rfl (c_Mo_follow hg (by omega) (by omega) ‹_›) rfl rfl ⟨Nat.le_of_ble_eq_true rfl, Nat.le_of_ble_eq_true rfl⟩ ⟨Nat.le_of_ble_eq_true rfl, Nat.le_of_ble_eq_true rfl⟩ (Nat.le_of_ble_eq_true rfl) d_Mo_close_51 (fun v w' hp => ?_)
            obtain ⟨it6, n6, rfl, rfl, hF6⟩ := hp
            show J l D b Y_Mo_close _ _ (ad, cM ad r lp rf nr lf ln bd fd tm it6 wk dv ct nu mt c1 c2 td tt tc) 0 0 54 [(3, Value.int (iI k)), (2, Value.int (iI (bz mo2))), (0, Value.ref (ad 0)), (1, Value.int (iI i))] [Value.int (iI n6)]
            have hF96 := hF6.1.2.2.1
            have hF86 := hF6.2.2.1
            refine J_istore d_Mo_close_54 (by decide) rfl ?_
            refine J_iload_n d_Mo_close_56 rfl 2 rfl ?_
            refine J_ifB_ne (tgt := 65) d_Mo_close_57 rfl (fun h57_7 => ?_) (fun h57_7 => ?_)
            · refine J_iconst d_Mo_close_65 ?_
              refine J_goto (tgt := 70) d_Mo_close_66 rfl ?_
              refine J_istore_n d_Mo_close_70 rfl (by decide) rfl ?_
              refine J_iinc (j := 2) d_Mo_close_71 rfl (by decide) rfl ?_
              refine J_goto (tgt := 10) d_Mo_close_74 rfl ?_
              refine J.sub [0, 1, 3, 4] rfl ?_
              exact ih3 (k + 1, true, it6) (show (0 ≤ (k + 1) ∧ (k + 1) ≤ 572) ∧ (Pas lp nr lf ln bd i (k + 1) it it1 it6 true) by
                  exact ⟨by omega, pas_more hP ‹Fol lp nr lf ln bd i k it2 _ _› (by first | exact Or.inl ‹_› | exact Or.inr (by omega))⟩) (show (572 - (k + 1)).toNat < (572 - k).toNat by
                  omega)
            · refine J_iload d_Mo_close_60 0 rfl ?_
              refine J_if_le (tgt := 69) d_Mo_close_62 rfl (by omega) (fun h62_8 => ?_) (fun h62_8 => ?_)
              · refine J_iconst d_Mo_close_69 ?_
                refine J_istore_n d_Mo_close_70 rfl (by decide) rfl ?_
                refine J_iinc (j := 2) d_Mo_close_71 rfl (by decide) rfl ?_
                refine J_goto (tgt := 10) d_Mo_close_74 rfl ?_
                refine J.sub [0, 1, 3, 4] rfl ?_
                exact ih3 (k + 1, false, it6) (show (0 ≤ (k + 1) ∧ (k + 1) ≤ 572) ∧ (Pas lp nr lf ln bd i (k + 1) it it1 it6 false) by
                    exact ⟨by omega, pas_same hP ‹Fol lp nr lf ln bd i k it2 _ _› ‹_› (by omega)⟩) (show (572 - (k + 1)).toNat < (572 - k).toNat by
                    omega)
              · refine J_iconst d_Mo_close_65 ?_
                refine J_goto (tgt := 70) d_Mo_close_66 rfl ?_
                refine J_istore_n d_Mo_close_70 rfl (by decide) rfl ?_
                refine J_iinc (j := 2) d_Mo_close_71 rfl (by decide) rfl ?_
                refine J_goto (tgt := 10) d_Mo_close_74 rfl ?_
                refine J.sub [0, 1, 3, 4] rfl ?_
                exact ih3 (k + 1, true, it6) (show (0 ≤ (k + 1) ∧ (k + 1) ≤ 572) ∧ (Pas lp nr lf ln bd i (k + 1) it it1 it6 true) by
                    exact ⟨by omega, pas_more hP ‹Fol lp nr lf ln bd i k it2 _ _› (by first | exact Or.inl ‹_› | exact Or.inr (by omega))⟩) (show (572 - (k + 1)).toNat < (572 - k).toNat by
                    omega)
      · show (0 ≤ (0 : Int) ∧ (0 : Int) ≤ 572) ∧ (Pas lp nr lf ln bd i (0 : Int) it it1 it1 false)
        exact ⟨by omega, pas_0 hX.2.1 hX.2.2⟩
  · show ((∀ p, it p = true → it p = true) ∧ (∀ p, ¬ (572 * i ≤ p ∧ p < 572 * i + 572) → it p = it p) ∧ Snd lp nr lf ln bd i it it) ∧ (true = false → Cl lp nr lf ln bd i it)
    exact ⟨⟨fun _ h => h, fun _ _ => rfl, Snd.rf⟩, fun h => by cases h⟩
set_option maxHeartbeats 4000000 in
theorem c_Mo_sizeOf {i : Int} (hi : 0 ≤ i ∧ i ≤ 12) : Ct l D b Y_Mo_sizeOf { frames := 0, cells := 0, slots := 0, locals := 0 } [Value.ref (ad 0), Value.int (iI i)] (ad, cM ad r lp rf nr lf ln bd fd tm it wk dv ct nu mt c1 c2 td tt tc) (fun v w' => v = some (.int (iI (cntR i it))) ∧ w' = (ad, cM ad r lp rf nr lf ln bd fd tm it wk dv ct nu mt c1 c2 td tt tc)) := by
  refine Ct_of (by decide) (Nat.le_of_ble_eq_true rfl) ?_
  show J l D b Y_Mo_sizeOf _ _ (ad, cM ad r lp rf nr lf ln bd fd tm it wk dv ct nu mt c1 c2 td tt tc) 0 0 0 [(0, Value.ref (ad 0)), (1, Value.int (iI i))] []
  refine J_iconst d_Mo_sizeOf_0 ?_
  refine J_istore_n d_Mo_sizeOf_1 rfl (by decide) rfl ?_
  refine J_iconst d_Mo_sizeOf_2 ?_
  refine J_istore_n d_Mo_sizeOf_3 rfl (by decide) rfl ?_
  refine J.loop (σ := Int × Int) (fun xx_ => match xx_ with | (k, n) => (0 ≤ k ∧ k ≤ 572) ∧ (n = cnt (fun c => it (572 * i + c)) k)) (fun xx_ => match xx_ with | (k, n) => (572 - k).toNat) (ws := fun xx_ => match xx_ with | (k, n) => (ad, cM ad r lp rf nr lf ln bd fd tm it wk dv ct nu mt c1 c2 td tt tc)) (ks := fun _ => 0) (ns := fun _ => 0) (lvs := fun xx_ => match xx_ with | (k, n) => [(3, Value.int (iI k)), (2, Value.int (iI n)), (0, Value.ref (ad 0)), (1, Value.int (iI i))]) (sts := fun _ => []) ?_ (0, 0) ?_
  · rintro ⟨k, n⟩ hI ih1
    have hI : (0 ≤ k ∧ k ≤ 572) ∧ (n = cnt (fun c => it (572 * i + c)) k) := hI
    obtain ⟨hk, hn⟩ := hI
    show J l D b Y_Mo_sizeOf _ _ (ad, cM ad r lp rf nr lf ln bd fd tm it wk dv ct nu mt c1 c2 td tt tc) 0 0 4 [(3, Value.int (iI k)), (2, Value.int (iI n)), (0, Value.ref (ad 0)), (1, Value.int (iI i))] []
    refine J_iload_n d_Mo_sizeOf_4 rfl 0 rfl ?_
    refine J_sipush d_Mo_sizeOf_5 (by decide) ?_
    refine J_icmp_ge (tgt := 40) d_Mo_sizeOf_8 rfl (by omega) (by omega) (fun h8_2 => ?_) (fun h8_2 => ?_)
    · refine J_iload_n d_Mo_sizeOf_40 rfl 1 rfl ?_
      refine J_iret rfl d_Mo_sizeOf_41 ⟨Nat.le_of_ble_eq_true rfl, Nat.le_of_ble_eq_true rfl⟩ ?_
      exact ⟨by rw [hn, show k = 572 by omega]; rfl, rfl⟩
    · refine J_iload_n d_Mo_sizeOf_11 rfl 1 rfl ?_
      refine J_aload_n d_Mo_sizeOf_12 rfl 2 rfl ?_
      refine J_get fs_Mo_22 rfl rfl d_Mo_sizeOf_13 ?_
      refine J_sipush d_Mo_sizeOf_16 (by decide) ?_
      refine J_iload_n d_Mo_sizeOf_19 rfl 3 rfl ?_
      refine J_imul d_Mo_sizeOf_20 ?_
      refine J_iload_n d_Mo_sizeOf_21 rfl 0 rfl ?_
      refine J_iadd d_Mo_sizeOf_22 ?_
      refine J_zald rfl (by omega) (by decide) d_Mo_sizeOf_23 ?_
      refine J_ifB_eq (tgt := 31) d_Mo_sizeOf_24 rfl (fun h24_3 => ?_) (fun h24_3 => ?_)
      · refine J_iconst d_Mo_sizeOf_31 ?_
        refine J_iadd d_Mo_sizeOf_32 ?_
        refine J_istore_n d_Mo_sizeOf_33 rfl (by decide) rfl ?_
        refine J_iinc (j := 1) d_Mo_sizeOf_34 rfl (by decide) rfl ?_
        refine J_goto (tgt := 4) d_Mo_sizeOf_37 rfl ?_
        exact ih1 (k + 1, n + 0) (show (0 ≤ (k + 1) ∧ (k + 1) ≤ 572) ∧ ((n + 0) = cnt (fun c => it (572 * i + c)) (k + 1)) by
            refine ⟨by omega, ?_⟩
            rw [cnt_s _ (by omega), hn]
            first
              | (rw [if_pos (show (fun c => it (572 * i + c)) k = true from ‹_›)]; done)
              | (rw [if_neg (show ¬ (fun c => it (572 * i + c)) k = true from by show ¬ it (572 * i + k) = true; rw [‹it (572 * i + k) = false›]; decide), Int.add_zero]; done)) (show (572 - (k + 1)).toNat < (572 - k).toNat by
            omega)
      · refine J_iconst d_Mo_sizeOf_27 ?_
        refine J_goto (tgt := 32) d_Mo_sizeOf_28 rfl ?_
        refine J_iadd d_Mo_sizeOf_32 ?_
        refine J_istore_n d_Mo_sizeOf_33 rfl (by decide) rfl ?_
        refine J_iinc (j := 1) d_Mo_sizeOf_34 rfl (by decide) rfl ?_
        refine J_goto (tgt := 4) d_Mo_sizeOf_37 rfl ?_
        exact ih1 (k + 1, n + 1) (show (0 ≤ (k + 1) ∧ (k + 1) ≤ 572) ∧ ((n + 1) = cnt (fun c => it (572 * i + c)) (k + 1)) by
            refine ⟨by omega, ?_⟩
            rw [cnt_s _ (by omega), hn]
            first
              | (rw [if_pos (show (fun c => it (572 * i + c)) k = true from ‹_›)]; done)
              | (rw [if_neg (show ¬ (fun c => it (572 * i + c)) k = true from by show ¬ it (572 * i + k) = true; rw [‹it (572 * i + k) = false›]; decide), Int.add_zero]; done)) (show (572 - (k + 1)).toNat < (572 - k).toNat by
            omega)
  · show (0 ≤ (0 : Int) ∧ (0 : Int) ≤ 572) ∧ ((0 : Int) = cnt (fun c => it (572 * i + c)) (0 : Int))
    exact ⟨by omega, rfl⟩
set_option maxHeartbeats 4000000 in
theorem c_Mo_expectedIn {i : Int} (hg : gOK nr lf ln bd) (hi : 0 ≤ i ∧ i ≤ 12) : Ct l D b Y_Mo_expectedIn { frames := 2, cells := 0, slots := 0, locals := 43 } [Value.ref (ad 0), Value.int (iI i)] (ad, cM ad r lp rf nr lf ln bd fd tm it wk dv ct nu mt c1 c2 td tt tc) (fun v w' => ∃ e, v = some (.int (iI e)) ∧ w' = (ad, cM ad r lp rf nr lf ln bd fd tm it wk dv ct nu mt c1 c2 td tt tc) ∧ ExpR it ln bd i e) := by
  refine Ct_of (by decide) (Nat.le_of_ble_eq_true rfl) ?_
  show J l D b Y_Mo_expectedIn _ _ (ad, cM ad r lp rf nr lf ln bd fd tm it wk dv ct nu mt c1 c2 td tt tc) 0 0 0 [(0, Value.ref (ad 0)), (1, Value.int (iI i))] []
  refine J_iconst d_Mo_expectedIn_0 ?_
  refine J_istore_n d_Mo_expectedIn_1 rfl (by decide) rfl ?_
  refine J_iconst d_Mo_expectedIn_2 ?_
  refine J_istore_n d_Mo_expectedIn_3 rfl (by decide) rfl ?_
  refine J.loop (σ := Int × Int) (fun xx_ => match xx_ with | (k, m) => (0 ≤ k ∧ k ≤ 572) ∧ (ExpK it ln bd i k m)) (fun xx_ => match xx_ with | (k, m) => (572 - k).toNat) (ws := fun xx_ => match xx_ with | (k, m) => (ad, cM ad r lp rf nr lf ln bd fd tm it wk dv ct nu mt c1 c2 td tt tc)) (ks := fun _ => 0) (ns := fun _ => 0) (lvs := fun xx_ => match xx_ with | (k, m) => [(3, Value.int (iI k)), (2, Value.int (iI m)), (0, Value.ref (ad 0)), (1, Value.int (iI i))]) (sts := fun _ => []) ?_ (0, 0) ?_
  · rintro ⟨k, m⟩ hI ih1
    have hI : (0 ≤ k ∧ k ≤ 572) ∧ (ExpK it ln bd i k m) := hI
    obtain ⟨hk, hE⟩ := hI
    show J l D b Y_Mo_expectedIn _ _ (ad, cM ad r lp rf nr lf ln bd fd tm it wk dv ct nu mt c1 c2 td tt tc) 0 0 4 [(3, Value.int (iI k)), (2, Value.int (iI m)), (0, Value.ref (ad 0)), (1, Value.int (iI i))] []
    refine J_iload_n d_Mo_expectedIn_4 rfl 0 rfl ?_
    refine J_sipush d_Mo_expectedIn_5 (by decide) ?_
    refine J_icmp_ge (tgt := 76) d_Mo_expectedIn_8 rfl (by omega) (by omega) (fun h8_2 => ?_) (fun h8_2 => ?_)
    · refine J_iload_n d_Mo_expectedIn_76 rfl 1 rfl ?_
      refine J_iret rfl d_Mo_expectedIn_77 ⟨Nat.le_of_ble_eq_true rfl, Nat.le_of_ble_eq_true rfl⟩ ?_
      exact ⟨m, rfl, rfl, hE.1, by have := hE.2; rwa [show k = 572 by omega] at this⟩
    · refine J_aload_n d_Mo_expectedIn_11 rfl 2 rfl ?_
      refine J_get fs_Mo_22 rfl rfl d_Mo_expectedIn_12 ?_
      refine J_sipush d_Mo_expectedIn_15 (by decide) ?_
      refine J_iload_n d_Mo_expectedIn_18 rfl 3 rfl ?_
      refine J_imul d_Mo_expectedIn_19 ?_
      refine J_iload_n d_Mo_expectedIn_20 rfl 0 rfl ?_
      refine J_iadd d_Mo_expectedIn_21 ?_
      refine J_zald rfl (by omega) (by decide) d_Mo_expectedIn_22 ?_
      refine J_ifB_eq (tgt := 46) d_Mo_expectedIn_23 rfl (fun h23_3 => ?_) (fun h23_3 => ?_)
      · refine J_iconst d_Mo_expectedIn_46 ?_
        refine J_istore d_Mo_expectedIn_47 (by decide) rfl ?_
        refine J_iload_n d_Mo_expectedIn_49 rfl 2 rfl ?_
        refine J_iload d_Mo_expectedIn_50 0 rfl ?_
        refine J_bipush d_Mo_expectedIn_52 (by decide) ?_
        refine J_icmp_lt (tgt := 67) d_Mo_expectedIn_54 rfl (by omega) (by omega) (fun h54_4 => ?_) (fun h54_4 => ?_)
        · refine J_iconst d_Mo_expectedIn_67 ?_
          refine J_ior d_Mo_expectedIn_68 (iI_or (by have := hE.1; omega) (by omega)) ?_
          refine J_istore_n d_Mo_expectedIn_69 rfl (by decide) rfl ?_
          refine J_iinc (j := 2) d_Mo_expectedIn_70 rfl (by decide) rfl ?_
          refine J_goto (tgt := 4) d_Mo_expectedIn_73 rfl ?_
          refine J.sub [0, 1, 3, 4] rfl ?_
          exact ih1 (k + 1, orI m 0) (show (0 ≤ (k + 1) ∧ (k + 1) ≤ 572) ∧ (ExpK it ln bd i (k + 1) (orI m 0)) by
              exact ⟨by omega, exp_no hE (Or.inl ‹_›)⟩) (show (572 - (k + 1)).toNat < (572 - k).toNat by
              omega)
        · exact absurd h54_4 (by decide)
      · refine J_aload_n d_Mo_expectedIn_26 rfl 2 rfl ?_
        refine J_iload_n d_Mo_expectedIn_27 rfl 0 rfl ?_
        refine J_bipush d_Mo_expectedIn_28 (by decide) ?_
        refine J_idiv d_Mo_expectedIn_30 (by omega) (by omega) ?_
        refine J_iconst d_Mo_expectedIn_31 ?_
        refine J_isub d_Mo_expectedIn_32 ?_
        refine J_iload_n d_Mo_expectedIn_33 rfl 0 rfl ?_
        refine J_bipush d_Mo_expectedIn_34 (by decide) ?_
        refine J_irem d_Mo_expectedIn_36 (by omega) (by omega) ?_
        refine J_bipush d_Mo_expectedIn_37 (by decide) ?_
        refine J_idiv d_Mo_expectedIn_39 (by omega) (by omega) ?_
        refine J_callV (st := []) [Value.int (iI ((k / 52) - 1)), Value.int (iI ((k % 52) / 13))] ms_Mo_65 rfl (c_Mo_behind (by omega) (by omega) (hg.len (by omega))) rfl rfl ⟨Nat.le_of_ble_eq_true rfl, Nat.le_of_ble_eq_true rfl⟩ ⟨Nat.le_of_ble_eq_true rfl, Nat.le_of_ble_eq_true rfl⟩ (Nat.le_of_ble_eq_true rfl) d_Mo_expectedIn_40 (fun v w' hp => ?_)
        obtain ⟨rfl, rfl⟩ := hp
        show J l D b Y_Mo_expectedIn _ _ (ad, cM ad r lp rf nr lf ln bd fd tm it wk dv ct nu mt c1 c2 td tt tc) 0 0 43 [(3, Value.int (iI k)), (2, Value.int (iI m)), (0, Value.ref (ad 0)), (1, Value.int (iI i))] [Value.int (iI (bhM ln bd ((k / 52) - 1) ((k % 52) / 13)))]
        have hb5 := hg.bh (q := ((k / 52) - 1)) (d := ((k % 52) / 13)) (by omega) (by omega)
        refine J_goto (tgt := 47) d_Mo_expectedIn_43 rfl ?_
        refine J_istore d_Mo_expectedIn_47 (by decide) rfl ?_
        refine J_iload_n d_Mo_expectedIn_49 rfl 2 rfl ?_
        refine J_iload d_Mo_expectedIn_50 0 rfl ?_
        refine J_bipush d_Mo_expectedIn_52 (by decide) ?_
        refine J_icmp_lt (tgt := 67) d_Mo_expectedIn_54 rfl (by omega) (by omega) (fun h54_6 => ?_) (fun h54_6 => ?_)
        · refine J_iconst d_Mo_expectedIn_67 ?_
          refine J_ior d_Mo_expectedIn_68 (iI_or (by have := hE.1; omega) (by omega)) ?_
          refine J_istore_n d_Mo_expectedIn_69 rfl (by decide) rfl ?_
          refine J_iinc (j := 2) d_Mo_expectedIn_70 rfl (by decide) rfl ?_
          refine J_goto (tgt := 4) d_Mo_expectedIn_73 rfl ?_
          refine J.sub [0, 1, 3, 4] rfl ?_
          exact ih1 (k + 1, orI m 0) (show (0 ≤ (k + 1) ∧ (k + 1) ≤ 572) ∧ (ExpK it ln bd i (k + 1) (orI m 0)) by
              exact ⟨by omega, exp_no hE (Or.inr (show bhM ln bd (k / 52 - 1) (k % 52 / 13) < 8 by omega))⟩) (show (572 - (k + 1)).toNat < (572 - k).toNat by
              omega)
        · refine J_iconst d_Mo_expectedIn_57 ?_
          refine J_iload d_Mo_expectedIn_58 0 rfl ?_
          refine J_bipush d_Mo_expectedIn_60 (by decide) ?_
          refine J_isub d_Mo_expectedIn_62 ?_
          refine J_ishl d_Mo_expectedIn_63 (iI_shl1 (by omega)) ?_
          refine J_goto (tgt := 68) d_Mo_expectedIn_64 rfl ?_
          refine J_ior d_Mo_expectedIn_68 (iI_or (by have := hE.1; omega) (by have := p2_rng (s := ((bhM ln bd ((k / 52) - 1) ((k % 52) / 13)) - 8)) (by omega); omega)) ?_
          refine J_istore_n d_Mo_expectedIn_69 rfl (by decide) rfl ?_
          refine J_iinc (j := 2) d_Mo_expectedIn_70 rfl (by decide) rfl ?_
          refine J_goto (tgt := 4) d_Mo_expectedIn_73 rfl ?_
          refine J.sub [0, 1, 3, 4] rfl ?_
          exact ih1 (k + 1, orI m (p2 ((bhM ln bd ((k / 52) - 1) ((k % 52) / 13)) - 8))) (show (0 ≤ (k + 1) ∧ (k + 1) ≤ 572) ∧ (ExpK it ln bd i (k + 1) (orI m (p2 ((bhM ln bd ((k / 52) - 1) ((k % 52) / 13)) - 8)))) by
              exact ⟨by omega, exp_yes hE (by omega) ‹_› rfl (by show 8 ≤ bhM ln bd (k / 52 - 1) (k % 52 / 13) ∧ bhM ln bd (k / 52 - 1) (k % 52 / 13) ≤ 11; omega)⟩) (show (572 - (k + 1)).toNat < (572 - k).toNat by
              omega)
  · show (0 ≤ (0 : Int) ∧ (0 : Int) ≤ 572) ∧ (ExpK it ln bd i (0 : Int) (0 : Int))
    exact ⟨by omega, exp_0⟩
set_option maxHeartbeats 4000000 in
theorem c_Mo_makeSet {i : Int} (hg : gOK nr lf ln bd) (hi : 0 ≤ i ∧ i ≤ 12) (htm : 0 < i → 8 ≤ tm (i - 1) ∧ tm (i - 1) ≤ 11) : Ct l D b Y_Mo_makeSet { frames := 5, cells := 0, slots := 0, locals := 126 } [Value.ref (ad 0), Value.int (iI i)] (ad, cM ad r lp rf nr lf ln bd fd tm it wk dv ct nu mt c1 c2 td tt tc) (fun v w' => v = none ∧ ∃ it', w' = (ad, cM ad r lp rf nr lf ln bd fd tm it' false dv ct nu mt c1 c2 td tt tc) ∧ Mks lp nr lf ln bd tm i it it') := by
  refine Ct_of (by decide) (Nat.le_of_ble_eq_true rfl) ?_
  show J l D b Y_Mo_makeSet _ _ (ad, cM ad r lp rf nr lf ln bd fd tm it wk dv ct nu mt c1 c2 td tt tc) 0 0 0 [(0, Value.ref (ad 0)), (1, Value.int (iI i))] []
  refine J_aload_n d_Mo_makeSet_0 rfl 0 rfl ?_
  refine J_iconst d_Mo_makeSet_1 ?_
  refine J.top (show Value.int (iI 0) = Value.int (iI (bz false)) from rfl) ?_
  refine J_put fs_Mo_85 rfl (Nat.le_of_ble_eq_true rfl) (fun _ h => by cases h; exact Or.inl rfl) (nar_z _) (fit_z _) uM_obj d_Mo_makeSet_2 ?_
  refine J_iconst d_Mo_makeSet_5 ?_
  refine J_istore_n d_Mo_makeSet_6 rfl (by decide) rfl ?_
  refine J.loop (σ := Int × (Int → Bool)) (fun xx_ => match xx_ with | (k, it1) => (0 ≤ k ∧ k ≤ 572) ∧ (it1 = clr it i k)) (fun xx_ => match xx_ with | (k, it1) => (572 - k).toNat) (ws := fun xx_ => match xx_ with | (k, it1) => (ad, cM ad r lp rf nr lf ln bd fd tm it1 false dv ct nu mt c1 c2 td tt tc)) (ks := fun _ => 0) (ns := fun _ => 0) (lvs := fun xx_ => match xx_ with | (k, it1) => [(2, Value.int (iI k)), (0, Value.ref (ad 0)), (1, Value.int (iI i))]) (sts := fun _ => []) ?_ (0, it) ?_
  · rintro ⟨k, it1⟩ hI ih1
    have hI : (0 ≤ k ∧ k ≤ 572) ∧ (it1 = clr it i k) := hI
    obtain ⟨hk, hc1⟩ := hI
    show J l D b Y_Mo_makeSet _ _ (ad, cM ad r lp rf nr lf ln bd fd tm it1 false dv ct nu mt c1 c2 td tt tc) 0 0 7 [(2, Value.int (iI k)), (0, Value.ref (ad 0)), (1, Value.int (iI i))] []
    refine J_iload_n d_Mo_makeSet_7 rfl 0 rfl ?_
    refine J_sipush d_Mo_makeSet_8 (by decide) ?_
    refine J_icmp_ge (tgt := 33) d_Mo_makeSet_11 rfl (by omega) (by omega) (fun h11_2 => ?_) (fun h11_2 => ?_)
    · refine J_iload_n d_Mo_makeSet_33 rfl 2 rfl ?_
      refine J_if_ne (tgt := 44) d_Mo_makeSet_34 rfl (by omega) (fun h34_3 => ?_) (fun h34_3 => ?_)
      · have hB0 : Beg tm ln bd it it1 i 0 := by
          rw [hc1, show k = 572 by omega]
          exact beg_0 (by omega)
        refine J_iconst d_Mo_makeSet_44 ?_
        refine J_istore_n d_Mo_makeSet_45 rfl (by decide) rfl ?_
        refine J.loop (σ := Int × (Int → Bool)) (fun xx_ => match xx_ with | (k, it2) => (0 ≤ k ∧ k ≤ 572) ∧ (Beg tm ln bd it it2 i k)) (fun xx_ => match xx_ with | (k, it2) => (572 - k).toNat) (ws := fun xx_ => match xx_ with | (k, it2) => (ad, cM ad r lp rf nr lf ln bd fd tm it2 false dv ct nu mt c1 c2 td tt tc)) (ks := fun _ => 0) (ns := fun _ => 0) (lvs := fun xx_ => match xx_ with | (k, it2) => [(2, Value.int (iI k)), (0, Value.ref (ad 0)), (1, Value.int (iI i))]) (sts := fun _ => []) ?_ (0, it1) ?_
        · rintro ⟨k, it2⟩ hI ih4
          have hI : (0 ≤ k ∧ k ≤ 572) ∧ (Beg tm ln bd it it2 i k) := hI
          obtain ⟨hk2, hB⟩ := hI
          show J l D b Y_Mo_makeSet _ _ (ad, cM ad r lp rf nr lf ln bd fd tm it2 false dv ct nu mt c1 c2 td tt tc) 0 0 46 [(2, Value.int (iI k)), (0, Value.ref (ad 0)), (1, Value.int (iI i))] []
          refine J_iload_n d_Mo_makeSet_46 rfl 0 rfl ?_
          refine J_sipush d_Mo_makeSet_47 (by decide) ?_
          refine J_icmp_ge (tgt := 134) d_Mo_makeSet_50 rfl (by omega) (by omega) (fun h50_5 => ?_) (fun h50_5 => ?_)
          · refine J_aload_n d_Mo_makeSet_134 rfl 1 rfl ?_
            refine J_iload_n d_Mo_makeSet_135 rfl 2 rfl ?_
            refine J_callV (st := []) [Value.int (iI i)] ms_Mo_88 rfl (c_Mo_close hg (by omega)) rfl rfl ⟨Nat.le_of_ble_eq_true rfl, Nat.le_of_ble_eq_true rfl⟩ ⟨Nat.le_of_ble_eq_true rfl, Nat.le_of_ble_eq_true rfl⟩ (Nat.le_of_ble_eq_true rfl) d_Mo_makeSet_136 (fun v w' hp => ?_)
            obtain ⟨rfl, it6, rfl, hC6⟩ := hp
            show J l D b Y_Mo_makeSet _ _ (ad, cM ad r lp rf nr lf ln bd fd tm it6 false dv ct nu mt c1 c2 td tt tc) 0 0 139 [(2, Value.int (iI k)), (0, Value.ref (ad 0)), (1, Value.int (iI i))] []
            refine J_vret rfl d_Mo_makeSet_139 ⟨Nat.le_of_ble_eq_true rfl, Nat.le_of_ble_eq_true rfl⟩ ?_
            refine ⟨rfl, _, rfl, mks_of hB hi (by omega) (fun j a1 a2 a3 a4 => ?_) ‹Clo lp nr lf ln bd i _ _›⟩
            have hdj := bc_dot (ln := ln) (bd := bd) (c := j) (by have := htm a4; omega)
            have hlj := hg.len (q := j / 52 - 1) (by omega)
            omega
          · refine J_iload_n d_Mo_makeSet_53 rfl 2 rfl ?_
            refine J_if_le (tgt := 134) d_Mo_makeSet_54 rfl (by omega) (fun h54_7 => ?_) (fun h54_7 => ?_)
            · refine J_aload_n d_Mo_makeSet_134 rfl 1 rfl ?_
              refine J_iload_n d_Mo_makeSet_135 rfl 2 rfl ?_
              refine J_callV (st := []) [Value.int (iI i)] ms_Mo_88 rfl (c_Mo_close hg (by omega)) rfl rfl ⟨Nat.le_of_ble_eq_true rfl, Nat.le_of_ble_eq_true rfl⟩ ⟨Nat.le_of_ble_eq_true rfl, Nat.le_of_ble_eq_true rfl⟩ (Nat.le_of_ble_eq_true rfl) d_Mo_makeSet_136 (fun v w' hp => ?_)
              obtain ⟨rfl, it8, rfl, hC8⟩ := hp
              show J l D b Y_Mo_makeSet _ _ (ad, cM ad r lp rf nr lf ln bd fd tm it8 false dv ct nu mt c1 c2 td tt tc) 0 0 139 [(2, Value.int (iI k)), (0, Value.ref (ad 0)), (1, Value.int (iI i))] []
              refine J_vret rfl d_Mo_makeSet_139 ⟨Nat.le_of_ble_eq_true rfl, Nat.le_of_ble_eq_true rfl⟩ ?_
              refine ⟨rfl, _, rfl, mks_of hB hi (by omega) (fun j a1 a2 a3 a4 => ?_) ‹Clo lp nr lf ln bd i _ _›⟩
              have hdj := bc_dot (ln := ln) (bd := bd) (c := j) (by have := htm a4; omega)
              have hlj := hg.len (q := j / 52 - 1) (by omega)
              omega
            · have htmi := htm (by omega)
              refine J_aload_n d_Mo_makeSet_57 rfl 1 rfl ?_
              refine J_get fs_Mo_22 rfl rfl d_Mo_makeSet_58 ?_
              refine J_sipush d_Mo_makeSet_61 (by decide) ?_
              refine J_iload_n d_Mo_makeSet_64 rfl 2 rfl ?_
              refine J_iconst d_Mo_makeSet_65 ?_
              refine J_isub d_Mo_makeSet_66 ?_
              refine J_imul d_Mo_makeSet_67 ?_
              refine J_iload_n d_Mo_makeSet_68 rfl 0 rfl ?_
              refine J_iadd d_Mo_makeSet_69 ?_
              refine J_zald rfl (by omega) (by decide) d_Mo_makeSet_70 ?_
              refine J_ifB_eq (tgt := 106) d_Mo_makeSet_71 rfl (fun h71_9 => ?_) (fun h71_9 => ?_)
              · refine J_iconst d_Mo_makeSet_106 ?_
                refine J_istore_n d_Mo_makeSet_107 rfl (by decide) rfl ?_
                refine J_iload_n d_Mo_makeSet_108 rfl 0 rfl ?_
                refine J_if_eq (tgt := 128) d_Mo_makeSet_109 rfl (by omega) (fun h109_10 => ?_) (fun h109_10 => ?_)
                · refine J_iinc (j := 1) d_Mo_makeSet_128 rfl (by decide) rfl ?_
                  refine J_goto (tgt := 46) d_Mo_makeSet_131 rfl ?_
                  refine J.sub [0, 2, 3] rfl ?_
                  exact ih4 (k + 1, it2) (show (0 ≤ (k + 1) ∧ (k + 1) ≤ 572) ∧ (Beg tm ln bd it it2 i (k + 1)) by
                      exact ⟨by omega, beg_no hB (by omega) (by omega) (by first | exact Or.inl ‹_› | exact Or.inr ‹_›)⟩) (show (572 - (k + 1)).toNat < (572 - k).toNat by
                      omega)
                · exact absurd h109_10 (by decide)
              · refine J_aload_n d_Mo_makeSet_74 rfl 1 rfl ?_
                refine J_iload_n d_Mo_makeSet_75 rfl 0 rfl ?_
                refine J_bipush d_Mo_makeSet_76 (by decide) ?_
                refine J_idiv d_Mo_makeSet_78 (by omega) (by omega) ?_
                refine J_iconst d_Mo_makeSet_79 ?_
                refine J_isub d_Mo_makeSet_80 ?_
                refine J_iload_n d_Mo_makeSet_81 rfl 0 rfl ?_
                refine J_bipush d_Mo_makeSet_82 (by decide) ?_
                refine J_irem d_Mo_makeSet_84 (by omega) (by omega) ?_
                refine J_bipush d_Mo_makeSet_85 (by decide) ?_
                refine J_idiv d_Mo_makeSet_87 (by omega) (by omega) ?_
                refine J_callV (st := []) [Value.int (iI ((k / 52) - 1)), Value.int (iI ((k % 52) / 13))] ms_Mo_65 rfl (c_Mo_behind (by omega) (by omega) (hg.len (by omega))) rfl rfl ⟨Nat.le_of_ble_eq_true rfl, Nat.le_of_ble_eq_true rfl⟩ ⟨Nat.le_of_ble_eq_true rfl, Nat.le_of_ble_eq_true rfl⟩ (Nat.le_of_ble_eq_true rfl) d_Mo_makeSet_88 (fun v w' hp => ?_)
                obtain ⟨rfl, rfl⟩ := hp
                show J l D b Y_Mo_makeSet _ _ (ad, cM ad r lp rf nr lf ln bd fd tm it2 false dv ct nu mt c1 c2 td tt tc) 0 0 91 [(2, Value.int (iI k)), (0, Value.ref (ad 0)), (1, Value.int (iI i))] [Value.int (iI (bhM ln bd ((k / 52) - 1) ((k % 52) / 13)))]
                have hb11 := hg.bh (q := ((k / 52) - 1)) (d := ((k % 52) / 13)) (by omega) (by omega)
                refine J_aload_n d_Mo_makeSet_91 rfl 1 rfl ?_
                refine J_get fs_Mo_19 rfl rfl d_Mo_makeSet_92 ?_
                refine J_iload_n d_Mo_makeSet_95 rfl 2 rfl ?_
                refine J_iconst d_Mo_makeSet_96 ?_
                refine J_isub d_Mo_makeSet_97 ?_
                refine J_iald rfl (by omega) (by decide) d_Mo_makeSet_98 ?_
                refine J_icmp_ne (tgt := 106) d_Mo_makeSet_99 rfl (by omega) (by omega) (fun h99_12 => ?_) (fun h99_12 => ?_)
                · refine J_iconst d_Mo_makeSet_106 ?_
                  refine J_istore_n d_Mo_makeSet_107 rfl (by decide) rfl ?_
                  refine J_iload_n d_Mo_makeSet_108 rfl 0 rfl ?_
                  refine J_if_eq (tgt := 128) d_Mo_makeSet_109 rfl (by omega) (fun h109_13 => ?_) (fun h109_13 => ?_)
                  · refine J_iinc (j := 1) d_Mo_makeSet_128 rfl (by decide) rfl ?_
                    refine J_goto (tgt := 46) d_Mo_makeSet_131 rfl ?_
                    refine J.sub [0, 2, 3] rfl ?_
                    exact ih4 (k + 1, it2) (show (0 ≤ (k + 1) ∧ (k + 1) ≤ 572) ∧ (Beg tm ln bd it it2 i (k + 1)) by
                        exact ⟨by omega, beg_no hB (by omega) (by omega) (by first | exact Or.inl ‹_› | exact Or.inr ‹_›)⟩) (show (572 - (k + 1)).toNat < (572 - k).toNat by
                        omega)
                  · exact absurd h109_13 (by decide)
                · refine J_iconst d_Mo_makeSet_102 ?_
                  refine J_goto (tgt := 107) d_Mo_makeSet_103 rfl ?_
                  refine J_istore_n d_Mo_makeSet_107 rfl (by decide) rfl ?_
                  refine J_iload_n d_Mo_makeSet_108 rfl 0 rfl ?_
                  refine J_if_eq (tgt := 128) d_Mo_makeSet_109 rfl (by omega) (fun h109_14 => ?_) (fun h109_14 => ?_)
                  · exact absurd h109_14 (by decide)
                  · have hdot := bc_dot (ln := ln) (bd := bd) (c := k) (by show ¬ bhM ln bd (k / 52 - 1) (k % 52 / 13) = -1; omega)
                    have hlk := hg.len (q := k / 52 - 1) (by omega)
                    refine J_aload_n d_Mo_makeSet_112 rfl 2 rfl ?_
                    refine J_get fs_Mo_22 rfl rfl d_Mo_makeSet_113 ?_
                    refine J_sipush d_Mo_makeSet_116 (by decide) ?_
                    refine J_iload_n d_Mo_makeSet_119 rfl 3 rfl ?_
                    refine J_imul d_Mo_makeSet_120 ?_
                    refine J_iload_n d_Mo_makeSet_121 rfl 1 rfl ?_
                    refine J_iadd d_Mo_makeSet_122 ?_
                    refine J_bipush d_Mo_makeSet_123 (by decide) ?_
                    refine J_iadd d_Mo_makeSet_125 ?_
                    refine J_iconst d_Mo_makeSet_126 ?_
                    refine J.top (show Value.int (iI 1) = Value.int (iI (bz true)) from rfl) ?_
                    refine J_zast rfl (by omega) (by decide) uM_it d_Mo_makeSet_127 ?_
                    refine J_iinc (j := 1) d_Mo_makeSet_128 rfl (by decide) rfl ?_
                    refine J_goto (tgt := 46) d_Mo_makeSet_131 rfl ?_
                    refine J.sub [0, 2, 3] rfl ?_
                    exact ih4 (k + 1, upI it2 (((572 * i) + k) + 13) true) (show (0 ≤ (k + 1) ∧ (k + 1) ≤ 572) ∧ (Beg tm ln bd it (upI it2 (((572 * i) + k) + 13) true) i (k + 1)) by
                        rw [show 572 * i + k + 13 = 572 * i + (k + 13) by omega]
                        exact ⟨by omega, beg_yes hB (by omega) (by omega) ‹_› ‹_›⟩) (show (572 - (k + 1)).toNat < (572 - k).toNat by
                        omega)
        · show (0 ≤ (0 : Int) ∧ (0 : Int) ≤ 572) ∧ (Beg tm ln bd it it1 i (0 : Int))
          exact ⟨by omega, hB0⟩
      · refine J_aload_n d_Mo_makeSet_37 rfl 1 rfl ?_
        refine J_get fs_Mo_22 rfl rfl d_Mo_makeSet_38 ?_
        refine J_iconst d_Mo_makeSet_41 ?_
        refine J_iconst d_Mo_makeSet_42 ?_
        refine J.top (show Value.int (iI 1) = Value.int (iI (bz true)) from rfl) ?_
        refine J_zast rfl (by omega) (by decide) uM_it d_Mo_makeSet_43 ?_
        have hB0 : Beg tm ln bd it (upI it1 0 true) i 0 := by
          rw [hc1, show k = 572 by omega]
          exact beg_00 ‹_›
        refine J_iconst d_Mo_makeSet_44 ?_
        refine J_istore_n d_Mo_makeSet_45 rfl (by decide) rfl ?_
        refine J.loop (σ := Int × (Int → Bool)) (fun xx_ => match xx_ with | (k, it2) => (0 ≤ k ∧ k ≤ 572) ∧ (Beg tm ln bd it it2 i k)) (fun xx_ => match xx_ with | (k, it2) => (572 - k).toNat) (ws := fun xx_ => match xx_ with | (k, it2) => (ad, cM ad r lp rf nr lf ln bd fd tm it2 false dv ct nu mt c1 c2 td tt tc)) (ks := fun _ => 0) (ns := fun _ => 0) (lvs := fun xx_ => match xx_ with | (k, it2) => [(2, Value.int (iI k)), (0, Value.ref (ad 0)), (1, Value.int (iI i))]) (sts := fun _ => []) ?_ (0, upI it1 0 true) ?_
        · rintro ⟨k, it2⟩ hI ih15
          have hI : (0 ≤ k ∧ k ≤ 572) ∧ (Beg tm ln bd it it2 i k) := hI
          obtain ⟨hk2, hB⟩ := hI
          show J l D b Y_Mo_makeSet _ _ (ad, cM ad r lp rf nr lf ln bd fd tm it2 false dv ct nu mt c1 c2 td tt tc) 0 0 46 [(2, Value.int (iI k)), (0, Value.ref (ad 0)), (1, Value.int (iI i))] []
          refine J_iload_n d_Mo_makeSet_46 rfl 0 rfl ?_
          refine J_sipush d_Mo_makeSet_47 (by decide) ?_
          refine J_icmp_ge (tgt := 134) d_Mo_makeSet_50 rfl (by omega) (by omega) (fun h50_16 => ?_) (fun h50_16 => ?_)
          · refine J_aload_n d_Mo_makeSet_134 rfl 1 rfl ?_
            refine J_iload_n d_Mo_makeSet_135 rfl 2 rfl ?_
            refine J_callV (st := []) [Value.int (iI i)] ms_Mo_88 rfl (c_Mo_close hg (by omega)) rfl rfl ⟨Nat.le_of_ble_eq_true rfl, Nat.le_of_ble_eq_true rfl⟩ ⟨Nat.le_of_ble_eq_true rfl, Nat.le_of_ble_eq_true rfl⟩ (Nat.le_of_ble_eq_true rfl) d_Mo_makeSet_136 (fun v w' hp => ?_)
            obtain ⟨rfl, it17, rfl, hC17⟩ := hp
            show J l D b Y_Mo_makeSet _ _ (ad, cM ad r lp rf nr lf ln bd fd tm it17 false dv ct nu mt c1 c2 td tt tc) 0 0 139 [(2, Value.int (iI k)), (0, Value.ref (ad 0)), (1, Value.int (iI i))] []
            refine J_vret rfl d_Mo_makeSet_139 ⟨Nat.le_of_ble_eq_true rfl, Nat.le_of_ble_eq_true rfl⟩ ?_
            refine ⟨rfl, _, rfl, mks_of hB hi (by omega) (fun j a1 a2 a3 a4 => ?_) ‹Clo lp nr lf ln bd i _ _›⟩
            have hdj := bc_dot (ln := ln) (bd := bd) (c := j) (by have := htm a4; omega)
            have hlj := hg.len (q := j / 52 - 1) (by omega)
            omega
          · refine J_iload_n d_Mo_makeSet_53 rfl 2 rfl ?_
            refine J_if_le (tgt := 134) d_Mo_makeSet_54 rfl (by omega) (fun h54_18 => ?_) (fun h54_18 => ?_)
            · refine J_aload_n d_Mo_makeSet_134 rfl 1 rfl ?_
              refine J_iload_n d_Mo_makeSet_135 rfl 2 rfl ?_
              refine J_callV (st := []) [Value.int (iI i)] ms_Mo_88 rfl (c_Mo_close hg (by omega)) rfl rfl ⟨Nat.le_of_ble_eq_true rfl, Nat.le_of_ble_eq_true rfl⟩ ⟨Nat.le_of_ble_eq_true rfl, Nat.le_of_ble_eq_true rfl⟩ (Nat.le_of_ble_eq_true rfl) d_Mo_makeSet_136 (fun v w' hp => ?_)
              obtain ⟨rfl, it19, rfl, hC19⟩ := hp
              show J l D b Y_Mo_makeSet _ _ (ad, cM ad r lp rf nr lf ln bd fd tm it19 false dv ct nu mt c1 c2 td tt tc) 0 0 139 [(2, Value.int (iI k)), (0, Value.ref (ad 0)), (1, Value.int (iI i))] []
              refine J_vret rfl d_Mo_makeSet_139 ⟨Nat.le_of_ble_eq_true rfl, Nat.le_of_ble_eq_true rfl⟩ ?_
              refine ⟨rfl, _, rfl, mks_of hB hi (by omega) (fun j a1 a2 a3 a4 => ?_) ‹Clo lp nr lf ln bd i _ _›⟩
              have hdj := bc_dot (ln := ln) (bd := bd) (c := j) (by have := htm a4; omega)
              have hlj := hg.len (q := j / 52 - 1) (by omega)
              omega
            · have htmi := htm (by omega)
              refine J_aload_n d_Mo_makeSet_57 rfl 1 rfl ?_
              refine J_get fs_Mo_22 rfl rfl d_Mo_makeSet_58 ?_
              refine J_sipush d_Mo_makeSet_61 (by decide) ?_
              refine J_iload_n d_Mo_makeSet_64 rfl 2 rfl ?_
              refine J_iconst d_Mo_makeSet_65 ?_
              refine J_isub d_Mo_makeSet_66 ?_
              refine J_imul d_Mo_makeSet_67 ?_
              refine J_iload_n d_Mo_makeSet_68 rfl 0 rfl ?_
              refine J_iadd d_Mo_makeSet_69 ?_
              refine J_zald rfl (by omega) (by decide) d_Mo_makeSet_70 ?_
              refine J_ifB_eq (tgt := 106) d_Mo_makeSet_71 rfl (fun h71_20 => ?_) (fun h71_20 => ?_)
              · refine J_iconst d_Mo_makeSet_106 ?_
                refine J_istore_n d_Mo_makeSet_107 rfl (by decide) rfl ?_
                refine J_iload_n d_Mo_makeSet_108 rfl 0 rfl ?_
                refine J_if_eq (tgt := 128) d_Mo_makeSet_109 rfl (by omega) (fun h109_21 => ?_) (fun h109_21 => ?_)
                · refine J_iinc (j := 1) d_Mo_makeSet_128 rfl (by decide) rfl ?_
                  refine J_goto (tgt := 46) d_Mo_makeSet_131 rfl ?_
                  refine J.sub [0, 2, 3] rfl ?_
                  exact ih15 (k + 1, it2) (show (0 ≤ (k + 1) ∧ (k + 1) ≤ 572) ∧ (Beg tm ln bd it it2 i (k + 1)) by
                      exact ⟨by omega, beg_no hB (by omega) (by omega) (by first | exact Or.inl ‹_› | exact Or.inr ‹_›)⟩) (show (572 - (k + 1)).toNat < (572 - k).toNat by
                      omega)
                · exact absurd h109_21 (by decide)
              · refine J_aload_n d_Mo_makeSet_74 rfl 1 rfl ?_
                refine J_iload_n d_Mo_makeSet_75 rfl 0 rfl ?_
                refine J_bipush d_Mo_makeSet_76 (by decide) ?_
                refine J_idiv d_Mo_makeSet_78 (by omega) (by omega) ?_
                refine J_iconst d_Mo_makeSet_79 ?_
                refine J_isub d_Mo_makeSet_80 ?_
                refine J_iload_n d_Mo_makeSet_81 rfl 0 rfl ?_
                refine J_bipush d_Mo_makeSet_82 (by decide) ?_
                refine J_irem d_Mo_makeSet_84 (by omega) (by omega) ?_
                refine J_bipush d_Mo_makeSet_85 (by decide) ?_
                refine J_idiv d_Mo_makeSet_87 (by omega) (by omega) ?_
                refine J_callV (st := []) [Value.int (iI ((k / 52) - 1)), Value.int (iI ((k % 52) / 13))] ms_Mo_65 rfl (c_Mo_behind (by omega) (by omega) (hg.len (by omega))) rfl rfl ⟨Nat.le_of_ble_eq_true rfl, Nat.le_of_ble_eq_true rfl⟩ ⟨Nat.le_of_ble_eq_true rfl, Nat.le_of_ble_eq_true rfl⟩ (Nat.le_of_ble_eq_true rfl) d_Mo_makeSet_88 (fun v w' hp => ?_)
                obtain ⟨rfl, rfl⟩ := hp
                show J l D b Y_Mo_makeSet _ _ (ad, cM ad r lp rf nr lf ln bd fd tm it2 false dv ct nu mt c1 c2 td tt tc) 0 0 91 [(2, Value.int (iI k)), (0, Value.ref (ad 0)), (1, Value.int (iI i))] [Value.int (iI (bhM ln bd ((k / 52) - 1) ((k % 52) / 13)))]
                have hb22 := hg.bh (q := ((k / 52) - 1)) (d := ((k % 52) / 13)) (by omega) (by omega)
                refine J_aload_n d_Mo_makeSet_91 rfl 1 rfl ?_
                refine J_get fs_Mo_19 rfl rfl d_Mo_makeSet_92 ?_
                refine J_iload_n d_Mo_makeSet_95 rfl 2 rfl ?_
                refine J_iconst d_Mo_makeSet_96 ?_
                refine J_isub d_Mo_makeSet_97 ?_
                refine J_iald rfl (by omega) (by decide) d_Mo_makeSet_98 ?_
                refine J_icmp_ne (tgt := 106) d_Mo_makeSet_99 rfl (by omega) (by omega) (fun h99_23 => ?_) (fun h99_23 => ?_)
                · refine J_iconst d_Mo_makeSet_106 ?_
                  refine J_istore_n d_Mo_makeSet_107 rfl (by decide) rfl ?_
                  refine J_iload_n d_Mo_makeSet_108 rfl 0 rfl ?_
                  refine J_if_eq (tgt := 128) d_Mo_makeSet_109 rfl (by omega) (fun h109_24 => ?_) (fun h109_24 => ?_)
                  · refine J_iinc (j := 1) d_Mo_makeSet_128 rfl (by decide) rfl ?_
                    refine J_goto (tgt := 46) d_Mo_makeSet_131 rfl ?_
                    refine J.sub [0, 2, 3] rfl ?_
                    exact ih15 (k + 1, it2) (show (0 ≤ (k + 1) ∧ (k + 1) ≤ 572) ∧ (Beg tm ln bd it it2 i (k + 1)) by
                        exact ⟨by omega, beg_no hB (by omega) (by omega) (by first | exact Or.inl ‹_› | exact Or.inr ‹_›)⟩) (show (572 - (k + 1)).toNat < (572 - k).toNat by
                        omega)
                  · exact absurd h109_24 (by decide)
                · refine J_iconst d_Mo_makeSet_102 ?_
                  refine J_goto (tgt := 107) d_Mo_makeSet_103 rfl ?_
                  refine J_istore_n d_Mo_makeSet_107 rfl (by decide) rfl ?_
                  refine J_iload_n d_Mo_makeSet_108 rfl 0 rfl ?_
                  refine J_if_eq (tgt := 128) d_Mo_makeSet_109 rfl (by omega) (fun h109_25 => ?_) (fun h109_25 => ?_)
                  · exact absurd h109_25 (by decide)
                  · have hdot := bc_dot (ln := ln) (bd := bd) (c := k) (by show ¬ bhM ln bd (k / 52 - 1) (k % 52 / 13) = -1; omega)
                    have hlk := hg.len (q := k / 52 - 1) (by omega)
                    refine J_aload_n d_Mo_makeSet_112 rfl 2 rfl ?_
                    refine J_get fs_Mo_22 rfl rfl d_Mo_makeSet_113 ?_
                    refine J_sipush d_Mo_makeSet_116 (by decide) ?_
                    refine J_iload_n d_Mo_makeSet_119 rfl 3 rfl ?_
                    refine J_imul d_Mo_makeSet_120 ?_
                    refine J_iload_n d_Mo_makeSet_121 rfl 1 rfl ?_
                    refine J_iadd d_Mo_makeSet_122 ?_
                    refine J_bipush d_Mo_makeSet_123 (by decide) ?_
                    refine J_iadd d_Mo_makeSet_125 ?_
                    refine J_iconst d_Mo_makeSet_126 ?_
                    refine J.top (show Value.int (iI 1) = Value.int (iI (bz true)) from rfl) ?_
                    refine J_zast rfl (by omega) (by decide) uM_it d_Mo_makeSet_127 ?_
                    refine J_iinc (j := 1) d_Mo_makeSet_128 rfl (by decide) rfl ?_
                    refine J_goto (tgt := 46) d_Mo_makeSet_131 rfl ?_
                    refine J.sub [0, 2, 3] rfl ?_
                    exact ih15 (k + 1, upI it2 (((572 * i) + k) + 13) true) (show (0 ≤ (k + 1) ∧ (k + 1) ≤ 572) ∧ (Beg tm ln bd it (upI it2 (((572 * i) + k) + 13) true) i (k + 1)) by
                        rw [show 572 * i + k + 13 = 572 * i + (k + 13) by omega]
                        exact ⟨by omega, beg_yes hB (by omega) (by omega) ‹_› ‹_›⟩) (show (572 - (k + 1)).toNat < (572 - k).toNat by
                        omega)
        · show (0 ≤ (0 : Int) ∧ (0 : Int) ≤ 572) ∧ (Beg tm ln bd it (upI it1 0 true) i (0 : Int))
          exact ⟨by omega, hB0⟩
    · refine J_aload_n d_Mo_makeSet_14 rfl 1 rfl ?_
      refine J_get fs_Mo_22 rfl rfl d_Mo_makeSet_15 ?_
      refine J_sipush d_Mo_makeSet_18 (by decide) ?_
      refine J_iload_n d_Mo_makeSet_21 rfl 2 rfl ?_
      refine J_imul d_Mo_makeSet_22 ?_
      refine J_iload_n d_Mo_makeSet_23 rfl 0 rfl ?_
      refine J_iadd d_Mo_makeSet_24 ?_
      refine J_iconst d_Mo_makeSet_25 ?_
      refine J.top (show Value.int (iI 0) = Value.int (iI (bz false)) from rfl) ?_
      refine J_zast rfl (by omega) (by decide) uM_it d_Mo_makeSet_26 ?_
      refine J_iinc (j := 0) d_Mo_makeSet_27 rfl (by decide) rfl ?_
      refine J_goto (tgt := 7) d_Mo_makeSet_30 rfl ?_
      exact ih1 (k + 1, upI it1 ((572 * i) + k) false) (show (0 ≤ (k + 1) ∧ (k + 1) ≤ 572) ∧ ((upI it1 ((572 * i) + k) false) = clr it i (k + 1)) by
          exact ⟨by omega, by rw [hc1, clr_s (by omega)]⟩) (show (572 - (k + 1)).toNat < (572 - k).toNat by
          omega)
  · show (0 ≤ (0 : Int) ∧ (0 : Int) ≤ 572) ∧ (it = clr it i (0 : Int))
    exact ⟨by omega, clr_0.symm⟩
set_option maxHeartbeats 4000000 in
theorem c_Mo_back {n : Int} (hf : 0 ≤ fd ∧ fd ≤ 12) (hn : -2147483648 ≤ n ∧ n ≤ 2147483647) : Ct l D b Y_Mo_back { frames := 1, cells := 0, slots := 0, locals := 21 } [Value.ref (ad 0), Value.int (iI n)] (ad, cM ad r lp rf nr lf ln bd fd tm it wk dv ct nu mt c1 c2 td tt tc) (fun v w' => ∃ z rf' fd' wk', v = some (.int (iI z)) ∧ w' = (ad, cM ad r lp rf' nr lf ln bd fd' tm it wk' dv ct nu mt c1 c2 td tt tc) ∧ ((¬ (0 ≤ n ∧ n ≤ fd) ∧ z = 0 ∧ rf' = 1 ∧ fd' = fd ∧ wk' = wk) ∨ ((0 ≤ n ∧ n ≤ fd) ∧ z = fd - n ∧ rf' = 0 ∧ fd' = fd - n ∧ wk' = false))) := by
  refine Ct_of (by decide) (Nat.le_of_ble_eq_true rfl) ?_
  show J l D b Y_Mo_back _ _ (ad, cM ad r lp rf nr lf ln bd fd tm it wk dv ct nu mt c1 c2 td tt tc) 0 0 0 [(0, Value.ref (ad 0)), (1, Value.int (iI n))] []
  refine J_aload_n d_Mo_back_0 rfl 0 rfl ?_
  refine J_iconst d_Mo_back_1 ?_
  refine J_put fs_Mo_53 rfl (Nat.le_of_ble_eq_true rfl) (fun _ h => by cases h; exact Or.inl rfl) rfl rfl uM_obj d_Mo_back_2 ?_
  refine J_iload_n d_Mo_back_5 rfl 1 rfl ?_
  refine J_if_lt (tgt := 17) d_Mo_back_6 rfl (by omega) (fun h6_1 => ?_) (fun h6_1 => ?_)
  · refine J_aload_n d_Mo_back_17 rfl 0 rfl ?_
    refine J_iconst d_Mo_back_18 ?_
    refine J_callV (st := []) [Value.int (iI 1)] ms_Mo_91 rfl (c_Mo_refuse) rfl rfl ⟨Nat.le_of_ble_eq_true rfl, Nat.le_of_ble_eq_true rfl⟩ ⟨Nat.le_of_ble_eq_true rfl, Nat.le_of_ble_eq_true rfl⟩ (Nat.le_of_ble_eq_true rfl) d_Mo_back_19 (fun v w' hp => ?_)
    obtain ⟨rfl, rfl⟩ := hp
    show J l D b Y_Mo_back _ _ (ad, cM ad r lp 1 nr lf ln bd fd tm it wk dv ct nu mt c1 c2 td tt tc) 0 0 22 [(0, Value.ref (ad 0)), (1, Value.int (iI n))] [Value.int (iI 0)]
    refine J_iret rfl d_Mo_back_22 ⟨Nat.le_of_ble_eq_true rfl, Nat.le_of_ble_eq_true rfl⟩ ?_
    exact ⟨_, _, _, _, rfl, rfl, by first | exact Or.inl ⟨by omega, rfl, rfl, rfl, rfl⟩ | exact Or.inr ⟨by omega, rfl, rfl, rfl, rfl⟩⟩
  · refine J_iload_n d_Mo_back_9 rfl 1 rfl ?_
    refine J_aload_n d_Mo_back_10 rfl 0 rfl ?_
    refine J_get fs_Mo_97 rfl rfl d_Mo_back_11 ?_
    refine J_icmp_le (tgt := 23) d_Mo_back_14 rfl (by omega) (by omega) (fun h14_3 => ?_) (fun h14_3 => ?_)
    · refine J_aload_n d_Mo_back_23 rfl 0 rfl ?_
      refine J_dup d_Mo_back_24 rfl ?_
      refine J_get fs_Mo_97 rfl rfl d_Mo_back_25 ?_
      refine J_iload_n d_Mo_back_28 rfl 1 rfl ?_
      refine J_isub d_Mo_back_29 ?_
      refine J_put fs_Mo_97 rfl (Nat.le_of_ble_eq_true rfl) (fun _ h => by cases h; exact Or.inl rfl) rfl rfl uM_obj d_Mo_back_30 ?_
      refine J_aload_n d_Mo_back_33 rfl 0 rfl ?_
      refine J_iconst d_Mo_back_34 ?_
      refine J.top (show Value.int (iI 0) = Value.int (iI (bz false)) from rfl) ?_
      refine J_put fs_Mo_85 rfl (Nat.le_of_ble_eq_true rfl) (fun _ h => by cases h; exact Or.inl rfl) (nar_z _) (fit_z _) uM_obj d_Mo_back_35 ?_
      refine J_aload_n d_Mo_back_38 rfl 0 rfl ?_
      refine J_get fs_Mo_97 rfl rfl d_Mo_back_39 ?_
      refine J_iret rfl d_Mo_back_42 ⟨Nat.le_of_ble_eq_true rfl, Nat.le_of_ble_eq_true rfl⟩ ?_
      exact ⟨_, _, _, _, rfl, rfl, by first | exact Or.inl ⟨by omega, rfl, rfl, rfl, rfl⟩ | exact Or.inr ⟨by omega, rfl, rfl, rfl, rfl⟩⟩
    · refine J_aload_n d_Mo_back_17 rfl 0 rfl ?_
      refine J_iconst d_Mo_back_18 ?_
      refine J_callV (st := []) [Value.int (iI 1)] ms_Mo_91 rfl (c_Mo_refuse) rfl rfl ⟨Nat.le_of_ble_eq_true rfl, Nat.le_of_ble_eq_true rfl⟩ ⟨Nat.le_of_ble_eq_true rfl, Nat.le_of_ble_eq_true rfl⟩ (Nat.le_of_ble_eq_true rfl) d_Mo_back_19 (fun v w' hp => ?_)
      obtain ⟨rfl, rfl⟩ := hp
      show J l D b Y_Mo_back _ _ (ad, cM ad r lp 1 nr lf ln bd fd tm it wk dv ct nu mt c1 c2 td tt tc) 0 0 22 [(0, Value.ref (ad 0)), (1, Value.int (iI n))] [Value.int (iI 0)]
      refine J_iret rfl d_Mo_back_22 ⟨Nat.le_of_ble_eq_true rfl, Nat.le_of_ble_eq_true rfl⟩ ?_
      exact ⟨_, _, _, _, rfl, rfl, by first | exact Or.inl ⟨by omega, rfl, rfl, rfl, rfl⟩ | exact Or.inr ⟨by omega, rfl, rfl, rfl, rfl⟩⟩
set_option maxHeartbeats 4000000 in
theorem c_Mo_expected  (hg : gOK nr lf ln bd) (hf : 0 ≤ fd ∧ fd ≤ 12) : Ct l D b Y_Mo_expected { frames := 3, cells := 0, slots := 0, locals := 67 } [Value.ref (ad 0)] (ad, cM ad r lp rf nr lf ln bd fd tm it wk dv ct nu mt c1 c2 td tt tc) (fun v w' => ∃ e, v = some (.int (iI e)) ∧ w' = (ad, cM ad r lp 0 nr lf ln bd fd tm it wk dv ct nu mt c1 c2 td tt tc) ∧ ExpR it ln bd fd e) := by
  refine Ct_of (by decide) (Nat.le_of_ble_eq_true rfl) ?_
  show J l D b Y_Mo_expected _ _ (ad, cM ad r lp rf nr lf ln bd fd tm it wk dv ct nu mt c1 c2 td tt tc) 0 0 0 [(0, Value.ref (ad 0))] []
  refine J_aload_n d_Mo_expected_0 rfl 0 rfl ?_
  refine J_iconst d_Mo_expected_1 ?_
  refine J_put fs_Mo_53 rfl (Nat.le_of_ble_eq_true rfl) (fun _ h => by cases h; exact Or.inl rfl) rfl rfl uM_obj d_Mo_expected_2 ?_
  refine J_aload_n d_Mo_expected_5 rfl 0 rfl ?_
  refine J_aload_n d_Mo_expected_6 rfl 0 rfl ?_
  refine J_get fs_Mo_97 rfl rfl d_Mo_expected_7 ?_
  refine J_callV (st := []) [Value.int (iI fd)] ms_Mo_100 rfl (c_Mo_expectedIn hg (by omega)) rfl rfl ⟨Nat.le_of_ble_eq_true rfl, Nat.le_of_ble_eq_true rfl⟩ ⟨Nat.le_of_ble_eq_true rfl, Nat.le_of_ble_eq_true rfl⟩ (Nat.le_of_ble_eq_true rfl) d_Mo_expected_10 (fun v w' hp => ?_)
  obtain ⟨e1, rfl, rfl, hE1⟩ := hp
  show J l D b Y_Mo_expected _ _ (ad, cM ad r lp 0 nr lf ln bd fd tm it wk dv ct nu mt c1 c2 td tt tc) 0 0 13 [(0, Value.ref (ad 0))] [Value.int (iI e1)]
  refine J_iret rfl d_Mo_expected_13 ⟨Nat.le_of_ble_eq_true rfl, Nat.le_of_ble_eq_true rfl⟩ ?_
  exact ⟨_, rfl, rfl, ‹_›⟩
set_option maxHeartbeats 4000000 in
theorem c_Mo_items {i : Int} (hf : 0 ≤ fd ∧ fd ≤ 12) (hi : -2147483648 ≤ i ∧ i ≤ 2147483647) : Ct l D b Y_Mo_items { frames := 1, cells := 0, slots := 0, locals := 23 } [Value.ref (ad 0), Value.int (iI i)] (ad, cM ad r lp rf nr lf ln bd fd tm it wk dv ct nu mt c1 c2 td tt tc) (fun v w' => ∃ z rf', v = some (.int (iI z)) ∧ w' = (ad, cM ad r lp rf' nr lf ln bd fd tm it wk dv ct nu mt c1 c2 td tt tc) ∧ ((¬ (0 ≤ i ∧ i ≤ fd) ∧ z = 0 ∧ rf' = 1) ∨ ((0 ≤ i ∧ i ≤ fd) ∧ z = cntR i it ∧ rf' = 0))) := by
  refine Ct_of (by decide) (Nat.le_of_ble_eq_true rfl) ?_
  show J l D b Y_Mo_items _ _ (ad, cM ad r lp rf nr lf ln bd fd tm it wk dv ct nu mt c1 c2 td tt tc) 0 0 0 [(0, Value.ref (ad 0)), (1, Value.int (iI i))] []
  refine J_aload_n d_Mo_items_0 rfl 0 rfl ?_
  refine J_iconst d_Mo_items_1 ?_
  refine J_put fs_Mo_53 rfl (Nat.le_of_ble_eq_true rfl) (fun _ h => by cases h; exact Or.inl rfl) rfl rfl uM_obj d_Mo_items_2 ?_
  refine J_aload_n d_Mo_items_5 rfl 0 rfl ?_
  refine J_iload_n d_Mo_items_6 rfl 1 rfl ?_
  refine J_callV (st := []) [Value.int (iI i)] ms_Mo_110 rfl (c_Mo_isSet (by omega) (by omega)) rfl rfl ⟨Nat.le_of_ble_eq_true rfl, Nat.le_of_ble_eq_true rfl⟩ ⟨Nat.le_of_ble_eq_true rfl, Nat.le_of_ble_eq_true rfl⟩ (Nat.le_of_ble_eq_true rfl) d_Mo_items_7 (fun v w' hp => ?_)
  obtain ⟨rfl, rfl⟩ := hp
  show J l D b Y_Mo_items _ _ (ad, cM ad r lp 0 nr lf ln bd fd tm it wk dv ct nu mt c1 c2 td tt tc) 0 0 10 [(0, Value.ref (ad 0)), (1, Value.int (iI i))] [Value.int (iI (bz (decide (0 ≤ i ∧ i ≤ fd))))]
  refine J_ifB_eq (tgt := 21) d_Mo_items_10 rfl (fun h10_2 => ?_) (fun h10_2 => ?_)
  · have hii := of_decide_eq_false ‹decide (0 ≤ i ∧ i ≤ fd) = false›
    refine J_aload_n d_Mo_items_21 rfl 0 rfl ?_
    refine J_iconst d_Mo_items_22 ?_
    refine J_callV (st := []) [Value.int (iI 1)] ms_Mo_91 rfl (c_Mo_refuse) rfl rfl ⟨Nat.le_of_ble_eq_true rfl, Nat.le_of_ble_eq_true rfl⟩ ⟨Nat.le_of_ble_eq_true rfl, Nat.le_of_ble_eq_true rfl⟩ (Nat.le_of_ble_eq_true rfl) d_Mo_items_23 (fun v w' hp => ?_)
    obtain ⟨rfl, rfl⟩ := hp
    show J l D b Y_Mo_items _ _ (ad, cM ad r lp 1 nr lf ln bd fd tm it wk dv ct nu mt c1 c2 td tt tc) 0 0 26 [(0, Value.ref (ad 0)), (1, Value.int (iI i))] [Value.int (iI 0)]
    refine J_iret rfl d_Mo_items_26 ⟨Nat.le_of_ble_eq_true rfl, Nat.le_of_ble_eq_true rfl⟩ ?_
    exact ⟨_, _, rfl, rfl, by first | exact Or.inl ⟨hii, rfl, rfl⟩ | exact Or.inr ⟨hii, rfl, rfl⟩⟩
  · have hii := of_decide_eq_true ‹decide (0 ≤ i ∧ i ≤ fd) = true›
    refine J_aload_n d_Mo_items_13 rfl 0 rfl ?_
    refine J_iload_n d_Mo_items_14 rfl 1 rfl ?_
    refine J_callV (st := []) [Value.int (iI i)] ms_Mo_103 rfl (c_Mo_sizeOf (by omega)) rfl rfl ⟨Nat.le_of_ble_eq_true rfl, Nat.le_of_ble_eq_true rfl⟩ ⟨Nat.le_of_ble_eq_true rfl, Nat.le_of_ble_eq_true rfl⟩ (Nat.le_of_ble_eq_true rfl) d_Mo_items_15 (fun v w' hp => ?_)
    obtain ⟨rfl, rfl⟩ := hp
    show J l D b Y_Mo_items _ _ (ad, cM ad r lp 0 nr lf ln bd fd tm it wk dv ct nu mt c1 c2 td tt tc) 0 0 18 [(0, Value.ref (ad 0)), (1, Value.int (iI i))] [Value.int (iI (cntR i it))]
    have hc4 := cntR_rng (i := i) (it := it)
    refine J_goto (tgt := 26) d_Mo_items_18 rfl ?_
    refine J_iret rfl d_Mo_items_26 ⟨Nat.le_of_ble_eq_true rfl, Nat.le_of_ble_eq_true rfl⟩ ?_
    exact ⟨_, _, rfl, rfl, by first | exact Or.inl ⟨hii, rfl, rfl⟩ | exact Or.inr ⟨hii, rfl, rfl⟩⟩
end M3
