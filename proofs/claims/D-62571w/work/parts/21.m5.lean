section M5
variable {l : Launch} {D : jD} {b : Nat} {w : jW} {ad : Nat → Nat} {r : Nat → Option jE} {lp : Bool} {rf : Int} {nr : Int} {lf : Int → Int} {ln : Int → Int} {bd : Int → Int} {fd : Int} {tm : Int → Int} {it : Int → Bool} {wk : Bool} {dv : Int → Bool} {ct : Int → Bool} {nu : Int → Int} {mt : Int → Bool} {c1 : Int} {c2 : Int} {td : Int → Int} {tt : Int → Int} {tc : Int}
set_option maxHeartbeats 4000000 in
theorem c_Mo_cut {q : Int} {k : Int} {i : Int} {j : Int} (hg : gOK nr lf ln bd) (hq : 0 ≤ q ∧ q < 10) (hk : 0 ≤ k ∧ k ≤ 3) : Ct l D b Y_Mo_cut { frames := 0, cells := 0, slots := 0, locals := 0 } [Value.ref (ad 0), Value.int (iI q), Value.int (iI k), Value.int (iI i), Value.int (iI j)] (ad, cM ad r lp rf nr lf ln bd fd tm it wk dv ct nu mt c1 c2 td tt tc) (fun v w' => v = some (.int (iI (cutV (ln q) c1 c2 k i j))) ∧ w' = (ad, cM ad r lp rf nr lf ln bd fd tm it wk dv ct nu mt c1 c2 td tt tc)) := by
  refine Ct_of (by decide) (Nat.le_of_ble_eq_true rfl) ?_
  have hlq := hg.2.2.1 q (by omega) (by omega)
  show J l D b Y_Mo_cut _ _ (ad, cM ad r lp rf nr lf ln bd fd tm it wk dv ct nu mt c1 c2 td tt tc) 0 0 0 [(0, Value.ref (ad 0)), (1, Value.int (iI q)), (2, Value.int (iI k)), (3, Value.int (iI i)), (4, Value.int (iI j))] []
  refine J_iload_n d_Mo_cut_0 rfl 2 rfl ?_
  refine J_if_ne (tgt := 8) d_Mo_cut_1 rfl (by omega) (fun h1_1 => ?_) (fun h1_1 => ?_)
  · refine J_iload_n d_Mo_cut_8 rfl 2 rfl ?_
    refine J_aload_n d_Mo_cut_9 rfl 0 rfl ?_
    refine J_get fs_Mo_13 rfl rfl d_Mo_cut_10 ?_
    refine J_iload_n d_Mo_cut_13 rfl 1 rfl ?_
    refine J_iald rfl (by omega) (by decide) d_Mo_cut_14 ?_
    refine J_icmp_ne (tgt := 23) d_Mo_cut_15 rfl (by omega) (by omega) (fun h15_2 => ?_) (fun h15_2 => ?_)
    · refine J_iload_n d_Mo_cut_23 rfl 2 rfl ?_
      refine J_iconst d_Mo_cut_24 ?_
      refine J_icmp_ne (tgt := 35) d_Mo_cut_25 rfl (by omega) (by omega) (fun h25_3 => ?_) (fun h25_3 => ?_)
      · refine J_aload_n d_Mo_cut_35 rfl 0 rfl ?_
        refine J_get fs_Mo_120 rfl rfl d_Mo_cut_36 ?_
        refine J_iret rfl d_Mo_cut_39 ⟨Nat.le_of_ble_eq_true rfl, Nat.le_of_ble_eq_true rfl⟩ ?_
        exact ⟨by unfold cutV; rw [if_neg (by omega), if_neg (by omega), if_neg (by omega)], rfl⟩
      · refine J_aload_n d_Mo_cut_28 rfl 0 rfl ?_
        refine J_get fs_Mo_117 rfl rfl d_Mo_cut_29 ?_
        refine J_goto (tgt := 39) d_Mo_cut_32 rfl ?_
        refine J_iret rfl d_Mo_cut_39 ⟨Nat.le_of_ble_eq_true rfl, Nat.le_of_ble_eq_true rfl⟩ ?_
        exact ⟨by unfold cutV; rw [if_neg (by omega), if_neg (by omega), if_pos (by omega)], rfl⟩
    · refine J_iload d_Mo_cut_18 4 rfl ?_
      refine J_goto (tgt := 39) d_Mo_cut_20 rfl ?_
      refine J_iret rfl d_Mo_cut_39 ⟨Nat.le_of_ble_eq_true rfl, Nat.le_of_ble_eq_true rfl⟩ ?_
      exact ⟨by unfold cutV; rw [if_neg (by omega), if_pos (by omega)], rfl⟩
  · refine J_iload_n d_Mo_cut_4 rfl 3 rfl ?_
    refine J_goto (tgt := 39) d_Mo_cut_5 rfl ?_
    refine J_iret rfl d_Mo_cut_39 ⟨Nat.le_of_ble_eq_true rfl, Nat.le_of_ble_eq_true rfl⟩ ?_
    exact ⟨by unfold cutV; rw [if_pos (by omega)], rfl⟩
set_option maxHeartbeats 4000000 in
theorem c_Mo_isDerived {s : Int} {a : Int} {e : Int} (hs : (0 ≤ s ∧ s ≤ 4) ∨ (8 ≤ s ∧ s ≤ 11)) (ha : 0 ≤ a ∧ a ≤ e ∧ e ≤ 12) (htm : ∀ x, 0 ≤ x → x < 12 → -2147483648 ≤ tm x ∧ tm x ≤ 2147483647) : Ct l D b Y_Mo_isDerived { frames := 1, cells := 0, slots := 0, locals := 22 } [Value.ref (ad 0), Value.int (iI s), Value.int (iI a), Value.int (iI e)] (ad, cM ad r lp rf nr lf ln bd fd tm it wk dv ct nu mt c1 c2 td tt tc) (fun v w' => v = some (.int (iI (bz (dsy tm (dvT dv) s a e)))) ∧ w' = (ad, cM ad r lp rf nr lf ln bd fd tm it wk dv ct nu mt c1 c2 td tt tc)) := by
  refine Ct_of (by decide) (Nat.le_of_ble_eq_true rfl) ?_
  show J l D b Y_Mo_isDerived _ _ (ad, cM ad r lp rf nr lf ln bd fd tm it wk dv ct nu mt c1 c2 td tt tc) 0 0 0 [(0, Value.ref (ad 0)), (1, Value.int (iI s)), (2, Value.int (iI a)), (3, Value.int (iI e))] []
  refine J_iload_n d_Mo_isDerived_0 rfl 1 rfl ?_
  refine J_bipush d_Mo_isDerived_1 (by decide) ?_
  refine J_icmp_lt (tgt := 31) d_Mo_isDerived_3 rfl (by omega) (by omega) (fun h3_1 => ?_) (fun h3_1 => ?_)
  · refine J_aload_n d_Mo_isDerived_31 rfl 0 rfl ?_
    refine J_get fs_Mo_26 rfl rfl d_Mo_isDerived_32 ?_
    refine J_iload_n d_Mo_isDerived_35 rfl 1 rfl ?_
    refine J_iload_n d_Mo_isDerived_36 rfl 2 rfl ?_
    refine J_iload_n d_Mo_isDerived_37 rfl 3 rfl ?_
    refine J_callS (st := [Value.ref (ad 6)]) [Value.int (iI s), Value.int (iI a), Value.int (iI e)] ms_Mo_113 (c_Mo_node) rfl rfl ⟨Nat.le_of_ble_eq_true rfl, Nat.le_of_ble_eq_true rfl⟩ ⟨Nat.le_of_ble_eq_true rfl, Nat.le_of_ble_eq_true rfl⟩ (Nat.le_of_ble_eq_true rfl) d_Mo_isDerived_38 (fun v w' hp => ?_)
    obtain ⟨rfl, rfl⟩ := hp
    show J l D b Y_Mo_isDerived _ _ (ad, cM ad r lp rf nr lf ln bd fd tm it wk dv ct nu mt c1 c2 td tt tc) 0 0 41 [(0, Value.ref (ad 0)), (1, Value.int (iI s)), (2, Value.int (iI a)), (3, Value.int (iI e))] [Value.int (iI (169 * s + 13 * a + e)), Value.ref (ad 6)]
    refine J_zald rfl (by omega) (by decide) d_Mo_isDerived_41 ?_
    refine J_zret rfl d_Mo_isDerived_42 ⟨Nat.le_of_ble_eq_true rfl, Nat.le_of_ble_eq_true rfl⟩ ?_
    exact ⟨by unfold dsy dvT; rw [if_neg (by omega)], rfl⟩
  · refine J_iload_n d_Mo_isDerived_6 rfl 3 rfl ?_
    refine J_iload_n d_Mo_isDerived_7 rfl 2 rfl ?_
    refine J_iconst d_Mo_isDerived_8 ?_
    refine J_iadd d_Mo_isDerived_9 ?_
    refine J_icmp_ne (tgt := 27) d_Mo_isDerived_10 rfl (by omega) (by omega) (fun h10_3 => ?_) (fun h10_3 => ?_)
    · refine J_iconst d_Mo_isDerived_27 ?_
      refine J_goto (tgt := 42) d_Mo_isDerived_28 rfl ?_
      refine J.top (show Value.int (iI 0) = Value.int (iI (bz false)) from rfl) ?_
      refine J_zret rfl d_Mo_isDerived_42 ⟨Nat.le_of_ble_eq_true rfl, Nat.le_of_ble_eq_true rfl⟩ ?_
      exact ⟨by unfold dsy; rw [if_pos (by omega), decide_eq_false (by omega)], rfl⟩
    · refine J_aload_n d_Mo_isDerived_13 rfl 0 rfl ?_
      refine J_get fs_Mo_19 rfl rfl d_Mo_isDerived_14 ?_
      refine J_iload_n d_Mo_isDerived_17 rfl 2 rfl ?_
      refine J_iald rfl (by omega) (by decide) d_Mo_isDerived_18 ?_
      refine J_iload_n d_Mo_isDerived_19 rfl 1 rfl ?_
      have htma := htm a (by omega) (by omega)
      refine J_icmp_ne (tgt := 27) d_Mo_isDerived_20 rfl (by omega) (by omega) (fun h20_4 => ?_) (fun h20_4 => ?_)
      · refine J_iconst d_Mo_isDerived_27 ?_
        refine J_goto (tgt := 42) d_Mo_isDerived_28 rfl ?_
        refine J.top (show Value.int (iI 0) = Value.int (iI (bz false)) from rfl) ?_
        refine J_zret rfl d_Mo_isDerived_42 ⟨Nat.le_of_ble_eq_true rfl, Nat.le_of_ble_eq_true rfl⟩ ?_
        exact ⟨by unfold dsy; rw [if_pos (by omega), decide_eq_false (by omega)], rfl⟩
      · refine J_iconst d_Mo_isDerived_23 ?_
        refine J_goto (tgt := 42) d_Mo_isDerived_24 rfl ?_
        refine J.top (show Value.int (iI 1) = Value.int (iI (bz true)) from rfl) ?_
        refine J_zret rfl d_Mo_isDerived_42 ⟨Nat.le_of_ble_eq_true rfl, Nat.le_of_ble_eq_true rfl⟩ ?_
        exact ⟨by unfold dsy; rw [if_pos (by omega), decide_eq_true (by omega)], rfl⟩
set_option maxHeartbeats 4000000 in
theorem c_Mo_isWay {q : Int} {i : Int} {j : Int} (hg : gOK nr lf ln bd) (htm : ∀ x, 0 ≤ x → x < 12 → -2147483648 ≤ tm x ∧ tm x ≤ 2147483647) (hq : 0 ≤ q ∧ q < nr) (hij : 0 ≤ i ∧ i ≤ j ∧ j ≤ 12) (hc : i ≤ c1 ∧ c1 ≤ c2 ∧ c2 ≤ j) : Ct l D b Y_Mo_isWay { frames := 2, cells := 0, slots := 0, locals := 45 } [Value.ref (ad 0), Value.int (iI q), Value.int (iI i), Value.int (iI j)] (ad, cM ad r lp rf nr lf ln bd fd tm it wk dv ct nu mt c1 c2 td tt tc) (fun v w' => v = some (.int (iI (bz (wayB tm (dvT dv) (ln q) (bsM bd q) c1 c2 i j)))) ∧ w' = (ad, cM ad r lp rf nr lf ln bd fd tm it wk dv ct nu mt c1 c2 td tt tc)) := by
  refine Ct_of (by decide) (Nat.le_of_ble_eq_true rfl) ?_
  have hg1 := hg.1
  have hlq := hg.2.2.1 q (by omega) (by omega)
  show J l D b Y_Mo_isWay _ _ (ad, cM ad r lp rf nr lf ln bd fd tm it wk dv ct nu mt c1 c2 td tt tc) 0 0 0 [(0, Value.ref (ad 0)), (1, Value.int (iI q)), (2, Value.int (iI i)), (3, Value.int (iI j))] []
  refine J_aload_n d_Mo_isWay_0 rfl 0 rfl ?_
  refine J_get fs_Mo_13 rfl rfl d_Mo_isWay_1 ?_
  refine J_iload_n d_Mo_isWay_4 rfl 1 rfl ?_
  refine J_iald rfl (by omega) (by decide) d_Mo_isWay_5 ?_
  refine J_if_ne (tgt := 20) d_Mo_isWay_6 rfl (by omega) (fun h6_1 => ?_) (fun h6_1 => ?_)
  · refine J_iconst d_Mo_isWay_20 ?_
    refine J_istore d_Mo_isWay_21 (by decide) rfl ?_
    refine J_iconst d_Mo_isWay_23 ?_
    refine J_istore d_Mo_isWay_24 (by decide) rfl ?_
    refine J.loop (σ := Int × Bool) (fun xx_ => match xx_ with | (k, al) => (0 ≤ k ∧ k ≤ ln q) ∧ (al = allB (wayK tm (dvT dv) (ln q) (bsM bd q) c1 c2 i j) k)) (fun xx_ => match xx_ with | (k, al) => (ln q - k).toNat) (ws := fun xx_ => match xx_ with | (k, al) => (ad, cM ad r lp rf nr lf ln bd fd tm it wk dv ct nu mt c1 c2 td tt tc)) (ks := fun _ => 0) (ns := fun _ => 0) (lvs := fun xx_ => match xx_ with | (k, al) => [(5, Value.int (iI k)), (4, Value.int (iI (bz al))), (0, Value.ref (ad 0)), (1, Value.int (iI q)), (2, Value.int (iI i)), (3, Value.int (iI j))]) (sts := fun _ => []) ?_ (0, true) ?_
    · rintro ⟨k, al⟩ hI ih2
      have hI : (0 ≤ k ∧ k ≤ ln q) ∧ (al = allB (wayK tm (dvT dv) (ln q) (bsM bd q) c1 c2 i j) k) := hI
      obtain ⟨hk, hal⟩ := hI
      show J l D b Y_Mo_isWay _ _ (ad, cM ad r lp rf nr lf ln bd fd tm it wk dv ct nu mt c1 c2 td tt tc) 0 0 26 [(5, Value.int (iI k)), (4, Value.int (iI (bz al))), (0, Value.ref (ad 0)), (1, Value.int (iI q)), (2, Value.int (iI i)), (3, Value.int (iI j))] []
      refine J_iload d_Mo_isWay_26 0 rfl ?_
      refine J_aload_n d_Mo_isWay_28 rfl 2 rfl ?_
      refine J_get fs_Mo_13 rfl rfl d_Mo_isWay_29 ?_
      refine J_iload_n d_Mo_isWay_32 rfl 3 rfl ?_
      refine J_iald rfl (by omega) (by decide) d_Mo_isWay_33 ?_
      refine J_icmp_ge (tgt := 108) d_Mo_isWay_34 rfl (by omega) (by omega) (fun h34_3 => ?_) (fun h34_3 => ?_)
      · refine J_iload d_Mo_isWay_108 1 rfl ?_
        refine J_zret rfl d_Mo_isWay_110 ⟨Nat.le_of_ble_eq_true rfl, Nat.le_of_ble_eq_true rfl⟩ ?_
        exact ⟨by unfold wayB; rw [if_neg (by omega), hal, show k = ln q by omega], rfl⟩
      · refine J_aload_n d_Mo_isWay_37 rfl 2 rfl ?_
        refine J_iload_n d_Mo_isWay_38 rfl 3 rfl ?_
        refine J_iload d_Mo_isWay_39 0 rfl ?_
        refine J_iload_n d_Mo_isWay_41 rfl 4 rfl ?_
        refine J_iload_n d_Mo_isWay_42 rfl 5 rfl ?_
        refine J_callV (st := []) [Value.int (iI q), Value.int (iI k), Value.int (iI i), Value.int (iI j)] ms_Mo_123 rfl (c_Mo_cut hg (by omega) (by omega)) rfl rfl ⟨Nat.le_of_ble_eq_true rfl, Nat.le_of_ble_eq_true rfl⟩ ⟨Nat.le_of_ble_eq_true rfl, Nat.le_of_ble_eq_true rfl⟩ (Nat.le_of_ble_eq_true rfl) d_Mo_isWay_43 (fun v w' hp => ?_)
        obtain ⟨rfl, rfl⟩ := hp
        show J l D b Y_Mo_isWay _ _ (ad, cM ad r lp rf nr lf ln bd fd tm it wk dv ct nu mt c1 c2 td tt tc) 0 0 46 [(5, Value.int (iI k)), (4, Value.int (iI (bz al))), (0, Value.ref (ad 0)), (1, Value.int (iI q)), (2, Value.int (iI i)), (3, Value.int (iI j))] [Value.int (iI (cutV (ln q) c1 c2 k i j))]
        refine J_istore d_Mo_isWay_46 (by decide) rfl ?_
        refine J_aload_n d_Mo_isWay_48 rfl 3 rfl ?_
        refine J_iload_n d_Mo_isWay_49 rfl 4 rfl ?_
        refine J_iload d_Mo_isWay_50 1 rfl ?_
        refine J_iconst d_Mo_isWay_52 ?_
        refine J_iadd d_Mo_isWay_53 ?_
        refine J_iload_n d_Mo_isWay_54 rfl 5 rfl ?_
        refine J_iload_n d_Mo_isWay_55 rfl 6 rfl ?_
        refine J_callV (st := []) [Value.int (iI q), Value.int (iI (k + 1)), Value.int (iI i), Value.int (iI j)] ms_Mo_123 rfl (c_Mo_cut hg (by omega) (by omega)) rfl rfl ⟨Nat.le_of_ble_eq_true rfl, Nat.le_of_ble_eq_true rfl⟩ ⟨Nat.le_of_ble_eq_true rfl, Nat.le_of_ble_eq_true rfl⟩ (Nat.le_of_ble_eq_true rfl) d_Mo_isWay_56 (fun v w' hp => ?_)
        obtain ⟨rfl, rfl⟩ := hp
        show J l D b Y_Mo_isWay _ _ (ad, cM ad r lp rf nr lf ln bd fd tm it wk dv ct nu mt c1 c2 td tt tc) 0 0 59 [(6, Value.int (iI (cutV (ln q) c1 c2 k i j))), (5, Value.int (iI k)), (4, Value.int (iI (bz al))), (0, Value.ref (ad 0)), (1, Value.int (iI q)), (2, Value.int (iI i)), (3, Value.int (iI j))] [Value.int (iI (cutV (ln q) c1 c2 (k + 1) i j))]
        refine J_istore d_Mo_isWay_59 (by decide) rfl ?_
        have hca := cutV_rng (n := ln q) (k := k) hc
        have hcb := cutV_rng (n := ln q) (k := k + 1) hc
        refine J_iload d_Mo_isWay_61 3 rfl ?_
        refine J_ifB_eq (tgt := 99) d_Mo_isWay_63 rfl (fun h63_6 => ?_) (fun h63_6 => ?_)
        · refine J_iconst d_Mo_isWay_99 ?_
          refine J_istore d_Mo_isWay_100 (by decide) rfl ?_
          refine J_iinc (j := 3) d_Mo_isWay_102 rfl (by decide) rfl ?_
          refine J_goto (tgt := 26) d_Mo_isWay_105 rfl ?_
          refine J.sub [0, 1, 4, 5, 6, 7] rfl ?_
          exact ih2 (k + 1, false) (show (0 ≤ (k + 1) ∧ (k + 1) ≤ ln q) ∧ (false = allB (wayK tm (dvT dv) (ln q) (bsM bd q) c1 c2 i j) (k + 1)) by
              refine ⟨by omega, ?_⟩
              rw [allB_s _ (by omega), ← hal]
              first
                | (rw [‹al = false›]; rfl)
                | (unfold wayK; rw [decide_eq_false (show ¬ cutV (ln q) c1 c2 k i j ≤ cutV (ln q) c1 c2 (k + 1) i j by omega)]; simp; done)
                | (unfold wayK; rw [‹dsy _ _ _ _ _ = false›]; simp; done)) (show (ln q - (k + 1)).toNat < (ln q - k).toNat by
              omega)
        · refine J_iload d_Mo_isWay_66 1 rfl ?_
          refine J_iload d_Mo_isWay_68 0 rfl ?_
          refine J_icmp_gt (tgt := 99) d_Mo_isWay_70 rfl (by omega) (by omega) (fun h70_7 => ?_) (fun h70_7 => ?_)
          · refine J_iconst d_Mo_isWay_99 ?_
            refine J_istore d_Mo_isWay_100 (by decide) rfl ?_
            refine J_iinc (j := 3) d_Mo_isWay_102 rfl (by decide) rfl ?_
            refine J_goto (tgt := 26) d_Mo_isWay_105 rfl ?_
            refine J.sub [0, 1, 4, 5, 6, 7] rfl ?_
            exact ih2 (k + 1, false) (show (0 ≤ (k + 1) ∧ (k + 1) ≤ ln q) ∧ (false = allB (wayK tm (dvT dv) (ln q) (bsM bd q) c1 c2 i j) (k + 1)) by
                refine ⟨by omega, ?_⟩
                rw [allB_s _ (by omega), ← hal]
                first
                  | (rw [‹al = false›]; rfl)
                  | (unfold wayK; rw [decide_eq_false (show ¬ cutV (ln q) c1 c2 k i j ≤ cutV (ln q) c1 c2 (k + 1) i j by omega)]; simp; done)
                  | (unfold wayK; rw [‹dsy _ _ _ _ _ = false›]; simp; done)) (show (ln q - (k + 1)).toNat < (ln q - k).toNat by
                omega)
          · refine J_aload_n d_Mo_isWay_73 rfl 4 rfl ?_
            refine J_aload_n d_Mo_isWay_74 rfl 4 rfl ?_
            refine J_get fs_Mo_16 rfl rfl d_Mo_isWay_75 ?_
            refine J_iconst d_Mo_isWay_78 ?_
            refine J_iload_n d_Mo_isWay_79 rfl 5 rfl ?_
            refine J_imul d_Mo_isWay_80 ?_
            refine J_iload d_Mo_isWay_81 2 rfl ?_
            refine J_iadd d_Mo_isWay_83 ?_
            refine J_iald rfl (by omega) (by decide) d_Mo_isWay_84 ?_
            have hsy := hg.2.2.2.1 (3 * q + k) (by omega) (by omega)
            have hsz := hg.2.2.2.2 q k (by omega) (by omega) (by omega) (by omega)
            refine J_iload d_Mo_isWay_85 1 rfl ?_
            refine J_iload d_Mo_isWay_87 0 rfl ?_
            refine J_callV (st := []) [Value.int (iI (bd ((3 * q) + k))), Value.int (iI (cutV (ln q) c1 c2 k i j)), Value.int (iI (cutV (ln q) c1 c2 (k + 1) i j))] ms_Mo_126 rfl (c_Mo_isDerived (by omega) (by omega) htm) rfl rfl ⟨Nat.le_of_ble_eq_true rfl, Nat.le_of_ble_eq_true rfl⟩ ⟨Nat.le_of_ble_eq_true rfl, Nat.le_of_ble_eq_true rfl⟩ (Nat.le_of_ble_eq_true rfl) d_Mo_isWay_89 (fun v w' hp => ?_)
            obtain ⟨rfl, rfl⟩ := hp
            show J l D b Y_Mo_isWay _ _ (ad, cM ad r lp rf nr lf ln bd fd tm it wk dv ct nu mt c1 c2 td tt tc) 0 0 92 [(7, Value.int (iI (cutV (ln q) c1 c2 (k + 1) i j))), (6, Value.int (iI (cutV (ln q) c1 c2 k i j))), (5, Value.int (iI k)), (4, Value.int (iI (bz al))), (0, Value.ref (ad 0)), (1, Value.int (iI q)), (2, Value.int (iI i)), (3, Value.int (iI j))] [Value.int (iI (bz (dsy tm (dvT dv) (bd ((3 * q) + k)) (cutV (ln q) c1 c2 k i j) (cutV (ln q) c1 c2 (k + 1) i j))))]
            refine J_ifB_eq (tgt := 99) d_Mo_isWay_92 rfl (fun h92_9 => ?_) (fun h92_9 => ?_)
            · refine J_iconst d_Mo_isWay_99 ?_
              refine J_istore d_Mo_isWay_100 (by decide) rfl ?_
              refine J_iinc (j := 3) d_Mo_isWay_102 rfl (by decide) rfl ?_
              refine J_goto (tgt := 26) d_Mo_isWay_105 rfl ?_
              refine J.sub [0, 1, 4, 5, 6, 7] rfl ?_
              exact ih2 (k + 1, false) (show (0 ≤ (k + 1) ∧ (k + 1) ≤ ln q) ∧ (false = allB (wayK tm (dvT dv) (ln q) (bsM bd q) c1 c2 i j) (k + 1)) by
                  refine ⟨by omega, ?_⟩
                  rw [allB_s _ (by omega), ← hal]
                  first
                    | (rw [‹al = false›]; rfl)
                    | (unfold wayK; rw [decide_eq_false (show ¬ cutV (ln q) c1 c2 k i j ≤ cutV (ln q) c1 c2 (k + 1) i j by omega)]; simp; done)
                    | (unfold wayK; rw [‹dsy _ _ _ _ _ = false›]; simp; done)) (show (ln q - (k + 1)).toNat < (ln q - k).toNat by
                  omega)
            · refine J_iconst d_Mo_isWay_95 ?_
              refine J_goto (tgt := 100) d_Mo_isWay_96 rfl ?_
              refine J_istore d_Mo_isWay_100 (by decide) rfl ?_
              refine J_iinc (j := 3) d_Mo_isWay_102 rfl (by decide) rfl ?_
              refine J_goto (tgt := 26) d_Mo_isWay_105 rfl ?_
              refine J.sub [0, 1, 4, 5, 6, 7] rfl ?_
              exact ih2 (k + 1, true) (show (0 ≤ (k + 1) ∧ (k + 1) ≤ ln q) ∧ (true = allB (wayK tm (dvT dv) (ln q) (bsM bd q) c1 c2 i j) (k + 1)) by
                  refine ⟨by omega, ?_⟩
                  rw [allB_s _ (by omega), ← hal, ‹al = true›]
                  unfold wayK
                  rw [decide_eq_true (show cutV (ln q) c1 c2 k i j ≤ cutV (ln q) c1 c2 (k + 1) i j by omega), ‹dsy _ _ _ _ _ = true›]
                  rfl) (show (ln q - (k + 1)).toNat < (ln q - k).toNat by
                  omega)
    · show (0 ≤ (0 : Int) ∧ (0 : Int) ≤ ln q) ∧ (true = allB (wayK tm (dvT dv) (ln q) (bsM bd q) c1 c2 i j) (0 : Int))
      exact ⟨by omega, rfl⟩
  · refine J_iload_n d_Mo_isWay_9 rfl 2 rfl ?_
    refine J_iload_n d_Mo_isWay_10 rfl 3 rfl ?_
    refine J_icmp_ne (tgt := 18) d_Mo_isWay_11 rfl (by omega) (by omega) (fun h11_10 => ?_) (fun h11_10 => ?_)
    · refine J_iconst d_Mo_isWay_18 ?_
      refine J.top (show Value.int (iI 0) = Value.int (iI (bz false)) from rfl) ?_
      refine J_zret rfl d_Mo_isWay_19 ⟨Nat.le_of_ble_eq_true rfl, Nat.le_of_ble_eq_true rfl⟩ ?_
      exact ⟨by unfold wayB; rw [if_pos (by omega), decide_eq_false (by omega)], rfl⟩
    · refine J_iconst d_Mo_isWay_14 ?_
      refine J_goto (tgt := 19) d_Mo_isWay_15 rfl ?_
      refine J.top (show Value.int (iI 1) = Value.int (iI (bz true)) from rfl) ?_
      refine J_zret rfl d_Mo_isWay_19 ⟨Nat.le_of_ble_eq_true rfl, Nat.le_of_ble_eq_true rfl⟩ ?_
      exact ⟨by unfold wayB; rw [if_pos (by omega), decide_eq_true (by omega)], rfl⟩
set_option maxHeartbeats 4000000 in
theorem c_Mo_nextCuts {q : Int} {j : Int} (hg : gOK nr lf ln bd) (hq : 0 ≤ q ∧ q < 10) (hj : 0 ≤ j ∧ j ≤ 12) (hc : 0 ≤ c1 ∧ c1 ≤ 12 ∧ 0 ≤ c2 ∧ c2 ≤ 12) : Ct l D b Y_Mo_nextCuts { frames := 0, cells := 0, slots := 0, locals := 0 } [Value.ref (ad 0), Value.int (iI q), Value.int (iI j)] (ad, cM ad r lp rf nr lf ln bd fd tm it wk dv ct nu mt c1 c2 td tt tc) (fun v w' => ∃ m d1 d2, v = some (.int (iI (bz m))) ∧ w' = (ad, cM ad r lp rf nr lf ln bd fd tm it wk dv ct nu mt d1 d2 td tt tc) ∧ Nxt (ln q) j c1 c2 m d1 d2) := by
  refine Ct_of (by decide) (Nat.le_of_ble_eq_true rfl) ?_
  have hlq := hg.2.2.1 q (by omega) (by omega)
  show J l D b Y_Mo_nextCuts _ _ (ad, cM ad r lp rf nr lf ln bd fd tm it wk dv ct nu mt c1 c2 td tt tc) 0 0 0 [(0, Value.ref (ad 0)), (1, Value.int (iI q)), (2, Value.int (iI j))] []
  refine J_aload_n d_Mo_nextCuts_0 rfl 0 rfl ?_
  refine J_get fs_Mo_13 rfl rfl d_Mo_nextCuts_1 ?_
  refine J_iload_n d_Mo_nextCuts_4 rfl 1 rfl ?_
  refine J_iald rfl (by omega) (by decide) d_Mo_nextCuts_5 ?_
  refine J_iconst d_Mo_nextCuts_6 ?_
  refine J_icmp_ne (tgt := 30) d_Mo_nextCuts_7 rfl (by omega) (by omega) (fun h7_1 => ?_) (fun h7_1 => ?_)
  · refine J_aload_n d_Mo_nextCuts_30 rfl 0 rfl ?_
    refine J_get fs_Mo_13 rfl rfl d_Mo_nextCuts_31 ?_
    refine J_iload_n d_Mo_nextCuts_34 rfl 1 rfl ?_
    refine J_iald rfl (by omega) (by decide) d_Mo_nextCuts_35 ?_
    refine J_iconst d_Mo_nextCuts_36 ?_
    refine J_icmp_lt (tgt := 48) d_Mo_nextCuts_37 rfl (by omega) (by omega) (fun h37_2 => ?_) (fun h37_2 => ?_)
    · refine J_iconst d_Mo_nextCuts_48 ?_
      refine J.top (show Value.int (iI 0) = Value.int (iI (bz false)) from rfl) ?_
      refine J_zret rfl d_Mo_nextCuts_49 ⟨Nat.le_of_ble_eq_true rfl, Nat.le_of_ble_eq_true rfl⟩ ?_
      exact ⟨_, _, _, rfl, rfl, Or.inr (Or.inl ⟨by omega, by omega, rfl, rfl, rfl⟩)⟩
    · refine J_aload_n d_Mo_nextCuts_40 rfl 0 rfl ?_
      refine J_get fs_Mo_117 rfl rfl d_Mo_nextCuts_41 ?_
      refine J_iload_n d_Mo_nextCuts_44 rfl 2 rfl ?_
      refine J_icmp_ne (tgt := 50) d_Mo_nextCuts_45 rfl (by omega) (by omega) (fun h45_3 => ?_) (fun h45_3 => ?_)
      · refine J_aload_n d_Mo_nextCuts_50 rfl 0 rfl ?_
        refine J_dup d_Mo_nextCuts_51 rfl ?_
        refine J_get fs_Mo_117 rfl rfl d_Mo_nextCuts_52 ?_
        refine J_iconst d_Mo_nextCuts_55 ?_
        refine J_iadd d_Mo_nextCuts_56 ?_
        refine J_put fs_Mo_117 rfl (Nat.le_of_ble_eq_true rfl) (fun _ h => by cases h; exact Or.inl rfl) rfl rfl uM_obj d_Mo_nextCuts_57 ?_
        refine J_aload_n d_Mo_nextCuts_60 rfl 0 rfl ?_
        refine J_aload_n d_Mo_nextCuts_61 rfl 0 rfl ?_
        refine J_get fs_Mo_117 rfl rfl d_Mo_nextCuts_62 ?_
        refine J_put fs_Mo_120 rfl (Nat.le_of_ble_eq_true rfl) (fun _ h => by cases h; exact Or.inl rfl) rfl rfl uM_obj d_Mo_nextCuts_65 ?_
        refine J_iconst d_Mo_nextCuts_68 ?_
        refine J.top (show Value.int (iI 1) = Value.int (iI (bz true)) from rfl) ?_
        refine J_zret rfl d_Mo_nextCuts_69 ⟨Nat.le_of_ble_eq_true rfl, Nat.le_of_ble_eq_true rfl⟩ ?_
        exact ⟨_, _, _, rfl, rfl, Or.inr (Or.inr ⟨by omega, by omega, rfl, rfl, rfl⟩)⟩
      · refine J_iconst d_Mo_nextCuts_48 ?_
        refine J.top (show Value.int (iI 0) = Value.int (iI (bz false)) from rfl) ?_
        refine J_zret rfl d_Mo_nextCuts_49 ⟨Nat.le_of_ble_eq_true rfl, Nat.le_of_ble_eq_true rfl⟩ ?_
        exact ⟨_, _, _, rfl, rfl, Or.inr (Or.inl ⟨by omega, by omega, rfl, rfl, rfl⟩)⟩
  · refine J_aload_n d_Mo_nextCuts_10 rfl 0 rfl ?_
    refine J_get fs_Mo_120 rfl rfl d_Mo_nextCuts_11 ?_
    refine J_iload_n d_Mo_nextCuts_14 rfl 2 rfl ?_
    refine J_icmp_ge (tgt := 30) d_Mo_nextCuts_15 rfl (by omega) (by omega) (fun h15_4 => ?_) (fun h15_4 => ?_)
    · refine J_aload_n d_Mo_nextCuts_30 rfl 0 rfl ?_
      refine J_get fs_Mo_13 rfl rfl d_Mo_nextCuts_31 ?_
      refine J_iload_n d_Mo_nextCuts_34 rfl 1 rfl ?_
      refine J_iald rfl (by omega) (by decide) d_Mo_nextCuts_35 ?_
      refine J_iconst d_Mo_nextCuts_36 ?_
      refine J_icmp_lt (tgt := 48) d_Mo_nextCuts_37 rfl (by omega) (by omega) (fun h37_5 => ?_) (fun h37_5 => ?_)
      · refine J_iconst d_Mo_nextCuts_48 ?_
        refine J.top (show Value.int (iI 0) = Value.int (iI (bz false)) from rfl) ?_
        refine J_zret rfl d_Mo_nextCuts_49 ⟨Nat.le_of_ble_eq_true rfl, Nat.le_of_ble_eq_true rfl⟩ ?_
        exact ⟨_, _, _, rfl, rfl, Or.inr (Or.inl ⟨by omega, by omega, rfl, rfl, rfl⟩)⟩
      · refine J_aload_n d_Mo_nextCuts_40 rfl 0 rfl ?_
        refine J_get fs_Mo_117 rfl rfl d_Mo_nextCuts_41 ?_
        refine J_iload_n d_Mo_nextCuts_44 rfl 2 rfl ?_
        refine J_icmp_ne (tgt := 50) d_Mo_nextCuts_45 rfl (by omega) (by omega) (fun h45_6 => ?_) (fun h45_6 => ?_)
        · refine J_aload_n d_Mo_nextCuts_50 rfl 0 rfl ?_
          refine J_dup d_Mo_nextCuts_51 rfl ?_
          refine J_get fs_Mo_117 rfl rfl d_Mo_nextCuts_52 ?_
          refine J_iconst d_Mo_nextCuts_55 ?_
          refine J_iadd d_Mo_nextCuts_56 ?_
          refine J_put fs_Mo_117 rfl (Nat.le_of_ble_eq_true rfl) (fun _ h => by cases h; exact Or.inl rfl) rfl rfl uM_obj d_Mo_nextCuts_57 ?_
          refine J_aload_n d_Mo_nextCuts_60 rfl 0 rfl ?_
          refine J_aload_n d_Mo_nextCuts_61 rfl 0 rfl ?_
          refine J_get fs_Mo_117 rfl rfl d_Mo_nextCuts_62 ?_
          refine J_put fs_Mo_120 rfl (Nat.le_of_ble_eq_true rfl) (fun _ h => by cases h; exact Or.inl rfl) rfl rfl uM_obj d_Mo_nextCuts_65 ?_
          refine J_iconst d_Mo_nextCuts_68 ?_
          refine J.top (show Value.int (iI 1) = Value.int (iI (bz true)) from rfl) ?_
          refine J_zret rfl d_Mo_nextCuts_69 ⟨Nat.le_of_ble_eq_true rfl, Nat.le_of_ble_eq_true rfl⟩ ?_
          exact ⟨_, _, _, rfl, rfl, Or.inr (Or.inr ⟨by omega, by omega, rfl, rfl, rfl⟩)⟩
        · refine J_iconst d_Mo_nextCuts_48 ?_
          refine J.top (show Value.int (iI 0) = Value.int (iI (bz false)) from rfl) ?_
          refine J_zret rfl d_Mo_nextCuts_49 ⟨Nat.le_of_ble_eq_true rfl, Nat.le_of_ble_eq_true rfl⟩ ?_
          exact ⟨_, _, _, rfl, rfl, Or.inr (Or.inl ⟨by omega, by omega, rfl, rfl, rfl⟩)⟩
    · refine J_aload_n d_Mo_nextCuts_18 rfl 0 rfl ?_
      refine J_dup d_Mo_nextCuts_19 rfl ?_
      refine J_get fs_Mo_120 rfl rfl d_Mo_nextCuts_20 ?_
      refine J_iconst d_Mo_nextCuts_23 ?_
      refine J_iadd d_Mo_nextCuts_24 ?_
      refine J_put fs_Mo_120 rfl (Nat.le_of_ble_eq_true rfl) (fun _ h => by cases h; exact Or.inl rfl) rfl rfl uM_obj d_Mo_nextCuts_25 ?_
      refine J_iconst d_Mo_nextCuts_28 ?_
      refine J.top (show Value.int (iI 1) = Value.int (iI (bz true)) from rfl) ?_
      refine J_zret rfl d_Mo_nextCuts_29 ⟨Nat.le_of_ble_eq_true rfl, Nat.le_of_ble_eq_true rfl⟩ ?_
      exact ⟨_, _, _, rfl, rfl, Or.inl ⟨by omega, rfl, rfl, rfl⟩⟩
set_option maxHeartbeats 4000000 in
theorem c_Mo_waysBy {q : Int} {i : Int} {j : Int} (hg : gOK nr lf ln bd) (htm : ∀ x, 0 ≤ x → x < 12 → -2147483648 ≤ tm x ∧ tm x ≤ 2147483647) (hq : 0 ≤ q ∧ q < nr) (hij : 0 ≤ i ∧ i ≤ j ∧ j ≤ 12) : Ct l D b Y_Mo_waysBy { frames := 3, cells := 0, slots := 0, locals := 72 } [Value.ref (ad 0), Value.int (iI q), Value.int (iI i), Value.int (iI j)] (ad, cM ad r lp rf nr lf ln bd fd tm it wk dv ct nu mt c1 c2 td tt tc) (fun v w' => ∃ d1 d2, v = some (.int (iI (nWays (fun p => wayB tm (dvT dv) (ln q) (bsM bd q) p.1 p.2 i j) (sfx (ln q) j i i)))) ∧ w' = (ad, cM ad r lp rf nr lf ln bd fd tm it wk dv ct nu mt d1 d2 td tt tc)) := by
  refine Ct_of (by decide) (Nat.le_of_ble_eq_true rfl) ?_
  have hg1 := hg.1
  have hlq := hg.2.2.1 q (by omega) (by omega)
  show J l D b Y_Mo_waysBy _ _ (ad, cM ad r lp rf nr lf ln bd fd tm it wk dv ct nu mt c1 c2 td tt tc) 0 0 0 [(0, Value.ref (ad 0)), (1, Value.int (iI q)), (2, Value.int (iI i)), (3, Value.int (iI j))] []
  refine J_iconst d_Mo_waysBy_0 ?_
  refine J_istore d_Mo_waysBy_1 (by decide) rfl ?_
  refine J_iconst d_Mo_waysBy_3 ?_
  refine J_istore d_Mo_waysBy_4 (by decide) rfl ?_
  refine J_aload_n d_Mo_waysBy_6 rfl 2 rfl ?_
  refine J_iload_n d_Mo_waysBy_7 rfl 4 rfl ?_
  refine J_callV (st := []) [Value.int (iI i)] ms_Mo_130 rfl (c_Mo_firstCuts) rfl rfl ⟨Nat.le_of_ble_eq_true rfl, Nat.le_of_ble_eq_true rfl⟩ ⟨Nat.le_of_ble_eq_true rfl, Nat.le_of_ble_eq_true rfl⟩ (Nat.le_of_ble_eq_true rfl) d_Mo_waysBy_8 (fun v w' hp => ?_)
  obtain ⟨rfl, rfl⟩ := hp
  show J l D b Y_Mo_waysBy _ _ (ad, cM ad r lp rf nr lf ln bd fd tm it wk dv ct nu mt i i td tt tc) 0 0 11 [(5, Value.int (iI 1)), (4, Value.int (iI 0)), (0, Value.ref (ad 0)), (1, Value.int (iI q)), (2, Value.int (iI i)), (3, Value.int (iI j))] []
  refine J.loop (σ := Bool × Int × Int × Int) (fun xx_ => match xx_ with | (mo, n, d1, d2) => (mo = true → i ≤ d1 ∧ d1 ≤ d2 ∧ d2 ≤ j) ∧ (n + nWays (fun p => wayB tm (dvT dv) (ln q) (bsM bd q) p.1 p.2 i j) (if mo = true then sfx (ln q) j d1 d2 else []) = nWays (fun p => wayB tm (dvT dv) (ln q) (bsM bd q) p.1 p.2 i j) (sfx (ln q) j i i))) (fun xx_ => match xx_ with | (mo, n, d1, d2) => (if mo = true then sfx (ln q) j d1 d2 else []).length) (ws := fun xx_ => match xx_ with | (mo, n, d1, d2) => (ad, cM ad r lp rf nr lf ln bd fd tm it wk dv ct nu mt d1 d2 td tt tc)) (ks := fun _ => 0) (ns := fun _ => 0) (lvs := fun xx_ => match xx_ with | (mo, n, d1, d2) => [(5, Value.int (iI (bz mo))), (4, Value.int (iI n)), (0, Value.ref (ad 0)), (1, Value.int (iI q)), (2, Value.int (iI i)), (3, Value.int (iI j))]) (sts := fun _ => []) ?_ (true, 0, i, i) ?_
  · rintro ⟨mo, n, d1, d2⟩ hI ih2
    have hI : (mo = true → i ≤ d1 ∧ d1 ≤ d2 ∧ d2 ≤ j) ∧ (n + nWays (fun p => wayB tm (dvT dv) (ln q) (bsM bd q) p.1 p.2 i j) (if mo = true then sfx (ln q) j d1 d2 else []) = nWays (fun p => wayB tm (dvT dv) (ln q) (bsM bd q) p.1 p.2 i j) (sfx (ln q) j i i)) := hI
    obtain ⟨hD, hn⟩ := hI
    show J l D b Y_Mo_waysBy _ _ (ad, cM ad r lp rf nr lf ln bd fd tm it wk dv ct nu mt d1 d2 td tt tc) 0 0 11 [(5, Value.int (iI (bz mo))), (4, Value.int (iI n)), (0, Value.ref (ad 0)), (1, Value.int (iI q)), (2, Value.int (iI i)), (3, Value.int (iI j))] []
    refine J_iload d_Mo_waysBy_11 0 rfl ?_
    refine J_ifB_eq (tgt := 47) d_Mo_waysBy_13 rfl (fun h13_3 => ?_) (fun h13_3 => ?_)
    · refine J_iload d_Mo_waysBy_47 1 rfl ?_
      refine J_iret rfl d_Mo_waysBy_49 ⟨Nat.le_of_ble_eq_true rfl, Nat.le_of_ble_eq_true rfl⟩ ?_
      exact ⟨_, _, by rw [← hn, ‹mo = false›, if_neg (by decide)]; rw [nWays_nil, Int.add_zero], rfl⟩
    · have hDt := hD ‹_›
      refine J_iload d_Mo_waysBy_16 1 rfl ?_
      refine J_aload_n d_Mo_waysBy_18 rfl 2 rfl ?_
      refine J_iload_n d_Mo_waysBy_19 rfl 3 rfl ?_
      refine J_iload_n d_Mo_waysBy_20 rfl 4 rfl ?_
      refine J_iload_n d_Mo_waysBy_21 rfl 5 rfl ?_
      refine J_callV (st := [Value.int (iI n)]) [Value.int (iI q), Value.int (iI i), Value.int (iI j)] ms_Mo_133 rfl (c_Mo_isWay hg htm (by omega) (by omega) (by omega)) rfl rfl ⟨Nat.le_of_ble_eq_true rfl, Nat.le_of_ble_eq_true rfl⟩ ⟨Nat.le_of_ble_eq_true rfl, Nat.le_of_ble_eq_true rfl⟩ (Nat.le_of_ble_eq_true rfl) d_Mo_waysBy_22 (fun v w' hp => ?_)
      obtain ⟨rfl, rfl⟩ := hp
      show J l D b Y_Mo_waysBy _ _ (ad, cM ad r lp rf nr lf ln bd fd tm it wk dv ct nu mt d1 d2 td tt tc) 0 0 25 [(5, Value.int (iI (bz mo))), (4, Value.int (iI n)), (0, Value.ref (ad 0)), (1, Value.int (iI q)), (2, Value.int (iI i)), (3, Value.int (iI j))] [Value.int (iI (bz (wayB tm (dvT dv) (ln q) (bsM bd q) d1 d2 i j))), Value.int (iI n)]
      refine J_ifB_eq (tgt := 32) d_Mo_waysBy_25 rfl (fun h25_5 => ?_) (fun h25_5 => ?_)
      · refine J_iconst d_Mo_waysBy_32 ?_
        refine J_iadd d_Mo_waysBy_33 ?_
        refine J_istore d_Mo_waysBy_34 (by decide) rfl ?_
        refine J_aload_n d_Mo_waysBy_36 rfl 2 rfl ?_
        refine J_iload_n d_Mo_waysBy_37 rfl 3 rfl ?_
        refine J_iload_n d_Mo_waysBy_38 rfl 5 rfl ?_
        refine J_callV (st := []) [Value.int (iI q), Value.int (iI j)] ms_Mo_136 rfl (c_Mo_nextCuts hg (by omega) (by omega) (by omega)) rfl rfl ⟨Nat.le_of_ble_eq_true rfl, Nat.le_of_ble_eq_true rfl⟩ ⟨Nat.le_of_ble_eq_true rfl, Nat.le_of_ble_eq_true rfl⟩ (Nat.le_of_ble_eq_true rfl) d_Mo_waysBy_39 (fun v w' hp => ?_)
        obtain ⟨m6, x6, y6, rfl, rfl, hN6⟩ := hp
        show J l D b Y_Mo_waysBy _ _ (ad, cM ad r lp rf nr lf ln bd fd tm it wk dv ct nu mt x6 y6 td tt tc) 0 0 42 [(4, Value.int (iI (n + 0))), (5, Value.int (iI (bz mo))), (0, Value.ref (ad 0)), (1, Value.int (iI q)), (2, Value.int (iI i)), (3, Value.int (iI j))] [Value.int (iI (bz m6))]
        refine J_istore d_Mo_waysBy_42 (by decide) rfl ?_
        refine J_goto (tgt := 11) d_Mo_waysBy_44 rfl ?_
        exact ih2 (m6, n + 0, x6, y6) (show (m6 = true → i ≤ x6 ∧ x6 ≤ y6 ∧ y6 ≤ j) ∧ ((n + 0) + nWays (fun p => wayB tm (dvT dv) (ln q) (bsM bd q) p.1 p.2 i j) (if m6 = true then sfx (ln q) j x6 y6 else []) = nWays (fun p => wayB tm (dvT dv) (ln q) (bsM bd q) p.1 p.2 i j) (sfx (ln q) j i i)) by
            have hN := ‹Nxt (ln q) j d1 d2 _ _ _›
            refine ⟨fun hm => nxt_rng hN hDt (by omega), ?_⟩
            rw [← hn, ‹mo = true›, if_pos rfl, sfx_nx hN (by omega)]
            rw [nWays_cons]
            first
              | (rw [if_pos (show (fun p => wayB tm (dvT dv) (ln q) (bsM bd q) p.1 p.2 i j) (d1, d2) = true from ‹wayB _ _ _ _ _ _ _ _ = true›)]; rw [Int.add_assoc]; done)
              | (rw [if_neg (show ¬ (fun p => wayB tm (dvT dv) (ln q) (bsM bd q) p.1 p.2 i j) (d1, d2) = true by show ¬ wayB tm (dvT dv) (ln q) (bsM bd q) d1 d2 i j = true; rw [‹wayB _ _ _ _ _ _ _ _ = false›]; decide), Int.add_zero, Int.zero_add]; done)) (show (if m6 = true then sfx (ln q) j x6 y6 else []).length < (if mo = true then sfx (ln q) j d1 d2 else []).length by
            rw [‹mo = true›, if_pos rfl, sfx_nx ‹Nxt (ln q) j d1 d2 _ _ _› (by omega)]
            exact Nat.lt_succ_self _)
      · refine J_iconst d_Mo_waysBy_28 ?_
        refine J_goto (tgt := 33) d_Mo_waysBy_29 rfl ?_
        refine J_iadd d_Mo_waysBy_33 ?_
        refine J_istore d_Mo_waysBy_34 (by decide) rfl ?_
        refine J_aload_n d_Mo_waysBy_36 rfl 2 rfl ?_
        refine J_iload_n d_Mo_waysBy_37 rfl 3 rfl ?_
        refine J_iload_n d_Mo_waysBy_38 rfl 5 rfl ?_
        refine J_callV (st := []) [Value.int (iI q), Value.int (iI j)] ms_Mo_136 rfl (c_Mo_nextCuts hg (by omega) (by omega) (by omega)) rfl rfl ⟨Nat.le_of_ble_eq_true rfl, Nat.le_of_ble_eq_true rfl⟩ ⟨Nat.le_of_ble_eq_true rfl, Nat.le_of_ble_eq_true rfl⟩ (Nat.le_of_ble_eq_true rfl) d_Mo_waysBy_39 (fun v w' hp => ?_)
        obtain ⟨m7, x7, y7, rfl, rfl, hN7⟩ := hp
        show J l D b Y_Mo_waysBy _ _ (ad, cM ad r lp rf nr lf ln bd fd tm it wk dv ct nu mt x7 y7 td tt tc) 0 0 42 [(4, Value.int (iI (n + 1))), (5, Value.int (iI (bz mo))), (0, Value.ref (ad 0)), (1, Value.int (iI q)), (2, Value.int (iI i)), (3, Value.int (iI j))] [Value.int (iI (bz m7))]
        refine J_istore d_Mo_waysBy_42 (by decide) rfl ?_
        refine J_goto (tgt := 11) d_Mo_waysBy_44 rfl ?_
        exact ih2 (m7, n + 1, x7, y7) (show (m7 = true → i ≤ x7 ∧ x7 ≤ y7 ∧ y7 ≤ j) ∧ ((n + 1) + nWays (fun p => wayB tm (dvT dv) (ln q) (bsM bd q) p.1 p.2 i j) (if m7 = true then sfx (ln q) j x7 y7 else []) = nWays (fun p => wayB tm (dvT dv) (ln q) (bsM bd q) p.1 p.2 i j) (sfx (ln q) j i i)) by
            have hN := ‹Nxt (ln q) j d1 d2 _ _ _›
            refine ⟨fun hm => nxt_rng hN hDt (by omega), ?_⟩
            rw [← hn, ‹mo = true›, if_pos rfl, sfx_nx hN (by omega)]
            rw [nWays_cons]
            first
              | (rw [if_pos (show (fun p => wayB tm (dvT dv) (ln q) (bsM bd q) p.1 p.2 i j) (d1, d2) = true from ‹wayB _ _ _ _ _ _ _ _ = true›)]; rw [Int.add_assoc]; done)
              | (rw [if_neg (show ¬ (fun p => wayB tm (dvT dv) (ln q) (bsM bd q) p.1 p.2 i j) (d1, d2) = true by show ¬ wayB tm (dvT dv) (ln q) (bsM bd q) d1 d2 i j = true; rw [‹wayB _ _ _ _ _ _ _ _ = false›]; decide), Int.add_zero, Int.zero_add]; done)) (show (if m7 = true then sfx (ln q) j x7 y7 else []).length < (if mo = true then sfx (ln q) j d1 d2 else []).length by
            rw [‹mo = true›, if_pos rfl, sfx_nx ‹Nxt (ln q) j d1 d2 _ _ _› (by omega)]
            exact Nat.lt_succ_self _)
  · show (true = true → i ≤ i ∧ i ≤ i ∧ i ≤ j) ∧ ((0 : Int) + nWays (fun p => wayB tm (dvT dv) (ln q) (bsM bd q) p.1 p.2 i j) (if true = true then sfx (ln q) j i i else []) = nWays (fun p => wayB tm (dvT dv) (ln q) (bsM bd q) p.1 p.2 i j) (sfx (ln q) j i i))
    exact ⟨fun _ => by omega, by rw [if_pos rfl, Int.zero_add]⟩
end M5
