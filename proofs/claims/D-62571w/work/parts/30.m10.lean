section M10
variable {l : Launch} {D : jD} {b : Nat} {w : jW} {ad : Nat → Nat} {r : Nat → Option jE} {lp : Bool} {rf : Int} {nr : Int} {lf : Int → Int} {ln : Int → Int} {bd : Int → Int} {fd : Int} {tm : Int → Int} {it : Int → Bool} {wk : Bool} {dv : Int → Bool} {ct : Int → Bool} {nu : Int → Int} {mt : Int → Bool} {c1 : Int} {c2 : Int} {td : Int → Int} {tt : Int → Int} {tc : Int}
variable {qq : Int × Int × Int} {t' : Int}
set_option maxHeartbeats 4000000 in
theorem c_Mo_come {x : Int} {t : Int} (hc : 0 ≤ tc ∧ tc < 900) : Ct l D b Y_Mo_come { frames := 0, cells := 0, slots := 0, locals := 0 } [Value.ref (ad 0), Value.int (iI x), Value.long (iL t)] (ad, cM ad r lp rf nr lf ln bd fd tm it wk dv ct nu mt c1 c2 td tt tc) (fun v w' => v = none ∧ w' = (ad, cM ad r lp rf nr lf ln bd fd tm it wk dv ct nu mt c1 c2 (upI td tc x) (upI tt tc t) (tc + 1))) := by
  refine Ct_of (by decide) (Nat.le_of_ble_eq_true rfl) ?_
  show J l D b Y_Mo_come _ _ (ad, cM ad r lp rf nr lf ln bd fd tm it wk dv ct nu mt c1 c2 td tt tc) 0 0 0 [(0, Value.ref (ad 0)), (1, Value.int (iI x)), (2, Value.long (iL t))] []
  refine J_aload_n d_Mo_come_0 rfl 0 rfl ?_
  refine J_get fs_Mo_39 rfl rfl d_Mo_come_1 ?_
  refine J_aload_n d_Mo_come_4 rfl 0 rfl ?_
  refine J_get fs_Mo_176 rfl rfl d_Mo_come_5 ?_
  refine J_iload_n d_Mo_come_8 rfl 1 rfl ?_
  refine J_iast rfl (by omega) (by decide) uM_td d_Mo_come_9 ?_
  refine J_aload_n d_Mo_come_10 rfl 0 rfl ?_
  refine J_get fs_Mo_42 rfl rfl d_Mo_come_11 ?_
  refine J_aload_n d_Mo_come_14 rfl 0 rfl ?_
  refine J_get fs_Mo_176 rfl rfl d_Mo_come_15 ?_
  refine J_lload_n d_Mo_come_18 rfl 2 rfl ?_
  refine J_last rfl (by omega) (by decide) uM_tt d_Mo_come_19 ?_
  refine J_aload_n d_Mo_come_20 rfl 0 rfl ?_
  refine J_dup d_Mo_come_21 rfl ?_
  refine J_get fs_Mo_176 rfl rfl d_Mo_come_22 ?_
  refine J_iconst d_Mo_come_25 ?_
  refine J_iadd d_Mo_come_26 ?_
  refine J_put fs_Mo_176 rfl (Nat.le_of_ble_eq_true rfl) (fun _ h => by cases h; exact Or.inl rfl) rfl rfl uM_obj d_Mo_come_27 ?_
  refine J_vret rfl d_Mo_come_30 ⟨Nat.le_of_ble_eq_true rfl, Nat.le_of_ble_eq_true rfl⟩ ?_
  exact ⟨rfl, rfl⟩
set_option maxHeartbeats 4000000 in
theorem c_Mo_comeAll {q : Int} {i : Int} {j : Int} {t : Int} (hg : gOK nr lf ln bd) (hq : 0 ≤ q ∧ q < nr) (hij : 0 ≤ i ∧ i ≤ j ∧ j ≤ 12) (hc : i ≤ c1 ∧ c1 ≤ c2 ∧ c2 ≤ j) (htc : 0 ≤ tc ∧ tc ≤ 890) (ht : 0 ≤ t ∧ t ≤ 1000000000000) (hpos : ∀ k, 0 ≤ k → k < ln q → bd (3 * q + k) < 8 → 0 < nu (169 * bd (3 * q + k) + 13 * cutV (ln q) c1 c2 k i j + cutV (ln q) c1 c2 (k + 1) i j) ∧ nu (169 * bd (3 * q + k) + 13 * cutV (ln q) c1 c2 k i j + cutV (ln q) c1 c2 (k + 1) i j) ≤ 1000000000000) : Ct l D b Y_Mo_comeAll { frames := 1, cells := 0, slots := 0, locals := 24 } [Value.ref (ad 0), Value.int (iI q), Value.int (iI i), Value.int (iI j), Value.long (iL t)] (ad, cM ad r lp rf nr lf ln bd fd tm it wk dv ct nu mt c1 c2 td tt tc) (fun v w' => v = none ∧ ∃ td' tt' tc', w' = (ad, cM ad r lp rf nr lf ln bd fd tm it wk dv ct nu mt c1 c2 td' tt' tc') ∧ stkI td' tt' tc' = (kidsL (nuT nu) ln (bsM bd) i j (q, c1, c2) t).map mE ++ stkI td tt tc ∧ tc ≤ tc' ∧ tc' ≤ tc + 3) := by
  refine Ct_of (by decide) (Nat.le_of_ble_eq_true rfl) ?_
  have hg1 := hg.1
  have hlq := hg.2.2.1 q (by omega) (by omega)
  show J l D b Y_Mo_comeAll _ _ (ad, cM ad r lp rf nr lf ln bd fd tm it wk dv ct nu mt c1 c2 td tt tc) 0 0 0 [(0, Value.ref (ad 0)), (1, Value.int (iI q)), (2, Value.int (iI i)), (3, Value.int (iI j)), (4, Value.long (iL t))] []
  refine J_lload d_Mo_comeAll_0 4 rfl ?_
  refine J_lstore d_Mo_comeAll_2 (by decide) rfl ?_
  refine J_aload_n d_Mo_comeAll_4 rfl 1 rfl ?_
  refine J_get fs_Mo_13 rfl rfl d_Mo_comeAll_5 ?_
  refine J_iload_n d_Mo_comeAll_8 rfl 2 rfl ?_
  refine J_iald rfl (by omega) (by decide) d_Mo_comeAll_9 ?_
  refine J_iconst d_Mo_comeAll_10 ?_
  refine J_isub d_Mo_comeAll_11 ?_
  refine J_istore d_Mo_comeAll_12 (by decide) rfl ?_
  refine J.loop (σ := Int × Int × (Int → Int) × (Int → Int) × Int) (fun xx_ => match xx_ with | (k, u, td1, tt1, tc1) => (-1 ≤ k ∧ k ≤ ln q - 1) ∧ (stkI td1 tt1 tc1 = (kfI (nuT nu) ln (bsM bd) i j (q, c1, c2) t k).1.map mE ++ stkI td tt tc) ∧ (u = (kfI (nuT nu) ln (bsM bd) i j (q, c1, c2) t k).2) ∧ (0 ≤ u ∧ u ≤ 1000000000000) ∧ (tc ≤ tc1 ∧ tc1 ≤ tc + (ln q - 1 - k))) (fun xx_ => match xx_ with | (k, u, td1, tt1, tc1) => (k + 1).toNat) (ws := fun xx_ => match xx_ with | (k, u, td1, tt1, tc1) => (ad, cM ad r lp rf nr lf ln bd fd tm it wk dv ct nu mt c1 c2 td1 tt1 tc1)) (ks := fun _ => 0) (ns := fun _ => 0) (lvs := fun xx_ => match xx_ with | (k, u, td1, tt1, tc1) => [(8, Value.int (iI k)), (6, Value.long (iL u)), (0, Value.ref (ad 0)), (1, Value.int (iI q)), (2, Value.int (iI i)), (3, Value.int (iI j)), (4, Value.long (iL t))]) (sts := fun _ => []) ?_ ((ln q) - 1, t, td, tt, tc) ?_
  · rintro ⟨k, u, td1, tt1, tc1⟩ hI ih1
    have hI : (-1 ≤ k ∧ k ≤ ln q - 1) ∧ (stkI td1 tt1 tc1 = (kfI (nuT nu) ln (bsM bd) i j (q, c1, c2) t k).1.map mE ++ stkI td tt tc) ∧ (u = (kfI (nuT nu) ln (bsM bd) i j (q, c1, c2) t k).2) ∧ (0 ≤ u ∧ u ≤ 1000000000000) ∧ (tc ≤ tc1 ∧ tc1 ≤ tc + (ln q - 1 - k)) := hI
    obtain ⟨hk, hs, hr, hu, hb⟩ := hI
    show J l D b Y_Mo_comeAll _ _ (ad, cM ad r lp rf nr lf ln bd fd tm it wk dv ct nu mt c1 c2 td1 tt1 tc1) 0 0 14 [(8, Value.int (iI k)), (6, Value.long (iL u)), (0, Value.ref (ad 0)), (1, Value.int (iI q)), (2, Value.int (iI i)), (3, Value.int (iI j)), (4, Value.long (iL t))] []
    refine J_iload d_Mo_comeAll_14 0 rfl ?_
    refine J_if_lt (tgt := 100) d_Mo_comeAll_16 rfl (by omega) (fun h16_2 => ?_) (fun h16_2 => ?_)
    · refine J_vret rfl d_Mo_comeAll_100 ⟨Nat.le_of_ble_eq_true rfl, Nat.le_of_ble_eq_true rfl⟩ ?_
      exact ⟨rfl, _, _, _, rfl, by rw [hs, show k = -1 by omega]; rfl, by omega, by omega⟩
    · refine J_aload_n d_Mo_comeAll_19 rfl 2 rfl ?_
      refine J_get fs_Mo_16 rfl rfl d_Mo_comeAll_20 ?_
      refine J_iconst d_Mo_comeAll_23 ?_
      refine J_iload_n d_Mo_comeAll_24 rfl 3 rfl ?_
      refine J_imul d_Mo_comeAll_25 ?_
      refine J_iload d_Mo_comeAll_26 0 rfl ?_
      refine J_iadd d_Mo_comeAll_28 ?_
      refine J_iald rfl (by omega) (by decide) d_Mo_comeAll_29 ?_
      have hsy := hg.2.2.2.1 (3 * q + k) (by omega) (by omega)
      have hsz := hg.2.2.2.2 q k (by omega) (by omega) (by omega) (by omega)
      refine J_istore d_Mo_comeAll_30 (by decide) rfl ?_
      refine J_iload d_Mo_comeAll_32 0 rfl ?_
      refine J_bipush d_Mo_comeAll_34 (by decide) ?_
      refine J_icmp_ge (tgt := 94) d_Mo_comeAll_36 rfl (by omega) (by omega) (fun h36_3 => ?_) (fun h36_3 => ?_)
      · refine J_iinc (j := 1) d_Mo_comeAll_94 rfl (by decide) rfl ?_
        refine J_goto (tgt := 14) d_Mo_comeAll_97 rfl ?_
        refine J.sub [0, 2, 3, 4, 5, 6, 7] rfl ?_
        exact ih1 (k + (-1), u, td1, tt1, tc1) (show (-1 ≤ (k + (-1)) ∧ (k + (-1)) ≤ ln q - 1) ∧ (stkI td1 tt1 tc1 = (kfI (nuT nu) ln (bsM bd) i j (q, c1, c2) t (k + (-1))).1.map mE ++ stkI td tt tc) ∧ (u = (kfI (nuT nu) ln (bsM bd) i j (q, c1, c2) t (k + (-1))).2) ∧ (0 ≤ u ∧ u ≤ 1000000000000) ∧ (tc ≤ tc1 ∧ tc1 ≤ tc + (ln q - 1 - (k + (-1)))) by
            refine ⟨by omega, ?_, ?_, by omega, by omega⟩
            · rw [kf_no (by show 0 ≤ k ∧ k ≤ ln q - 1; omega) (show ¬ bd (3 * q + k) < 8 by omega)]
              exact hs
            · rw [kf_no (by show 0 ≤ k ∧ k ≤ ln q - 1; omega) (show ¬ bd (3 * q + k) < 8 by omega)]
              exact hr) (show (((k + (-1)) + 1).toNat) < ((k + 1).toNat) by
            omega)
      · refine J_iload d_Mo_comeAll_39 0 rfl ?_
        refine J_aload_n d_Mo_comeAll_41 rfl 3 rfl ?_
        refine J_iload_n d_Mo_comeAll_42 rfl 4 rfl ?_
        refine J_iload d_Mo_comeAll_43 1 rfl ?_
        refine J_iload_n d_Mo_comeAll_45 rfl 5 rfl ?_
        refine J_iload_n d_Mo_comeAll_46 rfl 6 rfl ?_
        refine J_callV (st := [Value.int (iI (bd ((3 * q) + k)))]) [Value.int (iI q), Value.int (iI k), Value.int (iI i), Value.int (iI j)] ms_Mo_123 rfl (c_Mo_cut hg (by omega) (by omega)) rfl rfl ⟨Nat.le_of_ble_eq_true rfl, Nat.le_of_ble_eq_true rfl⟩ ⟨Nat.le_of_ble_eq_true rfl, Nat.le_of_ble_eq_true rfl⟩ (Nat.le_of_ble_eq_true rfl) d_Mo_comeAll_47 (fun v w' hp => ?_)
        obtain ⟨rfl, rfl⟩ := hp
        show J l D b Y_Mo_comeAll _ _ (ad, cM ad r lp rf nr lf ln bd fd tm it wk dv ct nu mt c1 c2 td1 tt1 tc1) 0 0 50 [(9, Value.int (iI (bd ((3 * q) + k)))), (8, Value.int (iI k)), (6, Value.long (iL u)), (0, Value.ref (ad 0)), (1, Value.int (iI q)), (2, Value.int (iI i)), (3, Value.int (iI j)), (4, Value.long (iL t))] [Value.int (iI (cutV (ln q) c1 c2 k i j)), Value.int (iI (bd ((3 * q) + k)))]
        refine J_aload_n d_Mo_comeAll_50 rfl 3 rfl ?_
        refine J_iload_n d_Mo_comeAll_51 rfl 4 rfl ?_
        refine J_iload d_Mo_comeAll_52 1 rfl ?_
        refine J_iconst d_Mo_comeAll_54 ?_
        refine J_iadd d_Mo_comeAll_55 ?_
        refine J_iload_n d_Mo_comeAll_56 rfl 5 rfl ?_
        refine J_iload_n d_Mo_comeAll_57 rfl 6 rfl ?_
        refine J_callV (st := [Value.int (iI (cutV (ln q) c1 c2 k i j)), Value.int (iI (bd ((3 * q) + k)))]) [Value.int (iI q), Value.int (iI (k + 1)), Value.int (iI i), Value.int (iI j)] ms_Mo_123 rfl (c_Mo_cut hg (by omega) (by omega)) rfl rfl ⟨Nat.le_of_ble_eq_true rfl, Nat.le_of_ble_eq_true rfl⟩ ⟨Nat.le_of_ble_eq_true rfl, Nat.le_of_ble_eq_true rfl⟩ (Nat.le_of_ble_eq_true rfl) d_Mo_comeAll_58 (fun v w' hp => ?_)
        obtain ⟨rfl, rfl⟩ := hp
        show J l D b Y_Mo_comeAll _ _ (ad, cM ad r lp rf nr lf ln bd fd tm it wk dv ct nu mt c1 c2 td1 tt1 tc1) 0 0 61 [(9, Value.int (iI (bd ((3 * q) + k)))), (8, Value.int (iI k)), (6, Value.long (iL u)), (0, Value.ref (ad 0)), (1, Value.int (iI q)), (2, Value.int (iI i)), (3, Value.int (iI j)), (4, Value.long (iL t))] [Value.int (iI (cutV (ln q) c1 c2 (k + 1) i j)), Value.int (iI (cutV (ln q) c1 c2 k i j)), Value.int (iI (bd ((3 * q) + k)))]
        refine J_callS (st := []) [Value.int (iI (bd ((3 * q) + k))), Value.int (iI (cutV (ln q) c1 c2 k i j)), Value.int (iI (cutV (ln q) c1 c2 (k + 1) i j))] ms_Mo_113 (c_Mo_node) rfl rfl ⟨Nat.le_of_ble_eq_true rfl, Nat.le_of_ble_eq_true rfl⟩ ⟨Nat.le_of_ble_eq_true rfl, Nat.le_of_ble_eq_true rfl⟩ (Nat.le_of_ble_eq_true rfl) d_Mo_comeAll_61 (fun v w' hp => ?_)
        obtain ⟨rfl, rfl⟩ := hp
        show J l D b Y_Mo_comeAll _ _ (ad, cM ad r lp rf nr lf ln bd fd tm it wk dv ct nu mt c1 c2 td1 tt1 tc1) 0 0 64 [(9, Value.int (iI (bd ((3 * q) + k)))), (8, Value.int (iI k)), (6, Value.long (iL u)), (0, Value.ref (ad 0)), (1, Value.int (iI q)), (2, Value.int (iI i)), (3, Value.int (iI j)), (4, Value.long (iL t))] [Value.int (iI (169 * (bd ((3 * q) + k)) + 13 * (cutV (ln q) c1 c2 k i j) + (cutV (ln q) c1 c2 (k + 1) i j)))]
        have hca := cutV_rng (n := ln q) (k := k) hc
        have hcb := cutV_rng (n := ln q) (k := k + 1) hc
        have hp9 := hpos k (by omega) (by omega) (by omega)
        refine J_istore d_Mo_comeAll_64 (by decide) rfl ?_
        refine J_aload_n d_Mo_comeAll_66 rfl 4 rfl ?_
        refine J_iload d_Mo_comeAll_67 0 rfl ?_
        refine J_lload d_Mo_comeAll_69 3 rfl ?_
        refine J_aload_n d_Mo_comeAll_71 rfl 4 rfl ?_
        refine J_get fs_Mo_32 rfl rfl d_Mo_comeAll_72 ?_
        refine J_iload d_Mo_comeAll_75 0 rfl ?_
        refine J_lald rfl (by omega) (by decide) d_Mo_comeAll_77 ?_
        refine J_lrem d_Mo_comeAll_78 (by omega) (by omega) ?_
        refine J_callV (st := []) [Value.int (iI (169 * (bd ((3 * q) + k)) + 13 * (cutV (ln q) c1 c2 k i j) + (cutV (ln q) c1 c2 (k + 1) i j))), Value.long (iL (u % (nu (169 * (bd ((3 * q) + k)) + 13 * (cutV (ln q) c1 c2 k i j) + (cutV (ln q) c1 c2 (k + 1) i j)))))] ms_Mo_179 rfl (c_Mo_come (by omega)) rfl rfl ⟨Nat.le_of_ble_eq_true rfl, Nat.le_of_ble_eq_true rfl⟩ ⟨Nat.le_of_ble_eq_true rfl, Nat.le_of_ble_eq_true rfl⟩ (Nat.le_of_ble_eq_true rfl) d_Mo_comeAll_79 (fun v w' hp => ?_)
        obtain ⟨rfl, rfl⟩ := hp
        show J l D b Y_Mo_comeAll _ _ (ad, cM ad r lp rf nr lf ln bd fd tm it wk dv ct nu mt c1 c2 (upI td1 tc1 (169 * (bd ((3 * q) + k)) + 13 * (cutV (ln q) c1 c2 k i j) + (cutV (ln q) c1 c2 (k + 1) i j))) (upI tt1 tc1 (u % (nu (169 * (bd ((3 * q) + k)) + 13 * (cutV (ln q) c1 c2 k i j) + (cutV (ln q) c1 c2 (k + 1) i j))))) (tc1 + 1)) 0 0 82 [(10, Value.int (iI (169 * (bd ((3 * q) + k)) + 13 * (cutV (ln q) c1 c2 k i j) + (cutV (ln q) c1 c2 (k + 1) i j)))), (9, Value.int (iI (bd ((3 * q) + k)))), (8, Value.int (iI k)), (6, Value.long (iL u)), (0, Value.ref (ad 0)), (1, Value.int (iI q)), (2, Value.int (iI i)), (3, Value.int (iI j)), (4, Value.long (iL t))] []
        have hd0 := Int.ediv_nonneg (a := u) (b := nu (169 * bd (3 * q + k) + 13 * cutV (ln q) c1 c2 k i j + cutV (ln q) c1 c2 (k + 1) i j)) (by omega) (by omega)
        have hd1 := Int.ediv_le_self (a := u) (nu (169 * bd (3 * q + k) + 13 * cutV (ln q) c1 c2 k i j + cutV (ln q) c1 c2 (k + 1) i j)) (by omega)
        refine J_lload d_Mo_comeAll_82 3 rfl ?_
        refine J_aload_n d_Mo_comeAll_84 rfl 4 rfl ?_
        refine J_get fs_Mo_32 rfl rfl d_Mo_comeAll_85 ?_
        refine J_iload d_Mo_comeAll_88 0 rfl ?_
        refine J_lald rfl (by omega) (by decide) d_Mo_comeAll_90 ?_
        refine J_ldiv d_Mo_comeAll_91 (by omega) (by omega) ?_
        refine J_lstore d_Mo_comeAll_92 (by decide) rfl ?_
        refine J_iinc (j := 3) d_Mo_comeAll_94 rfl (by decide) rfl ?_
        refine J_goto (tgt := 14) d_Mo_comeAll_97 rfl ?_
        refine J.sub [0, 1, 4, 5, 6, 7, 8] rfl ?_
        exact ih1 (k + (-1), u / (nu (169 * (bd ((3 * q) + k)) + 13 * (cutV (ln q) c1 c2 k i j) + (cutV (ln q) c1 c2 (k + 1) i j))), upI td1 tc1 (169 * (bd ((3 * q) + k)) + 13 * (cutV (ln q) c1 c2 k i j) + (cutV (ln q) c1 c2 (k + 1) i j)), upI tt1 tc1 (u % (nu (169 * (bd ((3 * q) + k)) + 13 * (cutV (ln q) c1 c2 k i j) + (cutV (ln q) c1 c2 (k + 1) i j)))), tc1 + 1) (show (-1 ≤ (k + (-1)) ∧ (k + (-1)) ≤ ln q - 1) ∧ (stkI (upI td1 tc1 (169 * (bd ((3 * q) + k)) + 13 * (cutV (ln q) c1 c2 k i j) + (cutV (ln q) c1 c2 (k + 1) i j))) (upI tt1 tc1 (u % (nu (169 * (bd ((3 * q) + k)) + 13 * (cutV (ln q) c1 c2 k i j) + (cutV (ln q) c1 c2 (k + 1) i j))))) (tc1 + 1) = (kfI (nuT nu) ln (bsM bd) i j (q, c1, c2) t (k + (-1))).1.map mE ++ stkI td tt tc) ∧ ((u / (nu (169 * (bd ((3 * q) + k)) + 13 * (cutV (ln q) c1 c2 k i j) + (cutV (ln q) c1 c2 (k + 1) i j)))) = (kfI (nuT nu) ln (bsM bd) i j (q, c1, c2) t (k + (-1))).2) ∧ (0 ≤ (u / (nu (169 * (bd ((3 * q) + k)) + 13 * (cutV (ln q) c1 c2 k i j) + (cutV (ln q) c1 c2 (k + 1) i j)))) ∧ (u / (nu (169 * (bd ((3 * q) + k)) + 13 * (cutV (ln q) c1 c2 k i j) + (cutV (ln q) c1 c2 (k + 1) i j)))) ≤ 1000000000000) ∧ (tc ≤ (tc1 + 1) ∧ (tc1 + 1) ≤ tc + (ln q - 1 - (k + (-1)))) by
            refine ⟨by omega, ?_, ?_, by omega, by omega⟩
            · rw [kf_yes (by show 0 ≤ k ∧ k ≤ ln q - 1; omega) (show bd (3 * q + k) < 8 by omega), stk_push (by omega), hs, hr]
              rfl
            · rw [kf_yes (by show 0 ≤ k ∧ k ≤ ln q - 1; omega) (show bd (3 * q + k) < 8 by omega), hr]
              rfl) (show (((k + (-1)) + 1).toNat) < ((k + 1).toNat) by
            omega)
  · show (-1 ≤ ((ln q) - 1) ∧ ((ln q) - 1) ≤ ln q - 1) ∧ (stkI td tt tc = (kfI (nuT nu) ln (bsM bd) i j (q, c1, c2) t ((ln q) - 1)).1.map mE ++ stkI td tt tc) ∧ (t = (kfI (nuT nu) ln (bsM bd) i j (q, c1, c2) t ((ln q) - 1)).2) ∧ (0 ≤ t ∧ t ≤ 1000000000000) ∧ (tc ≤ tc ∧ tc ≤ tc + (ln q - 1 - ((ln q) - 1)))
    exact ⟨by omega, by rw [kf_0 rfl]; rfl, by rw [kf_0 rfl], by omega, by omega⟩
set_option maxHeartbeats 4000000 in
theorem c_Mo_takeRoot {x : Int} {t : Int} (hg : gOK nr lf ln bd) (htm : ∀ x, 0 ≤ x → x < 12 → -2147483648 ≤ tm x ∧ tm x ≤ 2147483647) (hf : 0 ≤ fd ∧ fd ≤ 12) (hx : vN fd x) (hnu : ∀ x, 0 ≤ x → x < 845 → ct x = true → 0 ≤ nu x ∧ nu x ≤ 1000000000000) (hok : okN nr lf ln bd tm dv ct (x / 169) (x % 169 / 13) (x % 13)) (hps : ∀ q ∈ (wl nr lf ln (x / 169) (x % 169 / 13) (x % 13) 0), (wayT tm (dvT dv) ln (bsM bd) (x % 169 / 13) (x % 13)) q = true → ∀ k, 0 ≤ k → k < ln q.1 → bd (3 * q.1 + k) < 8 → 0 < nu (kidx ln (bsM bd) (x % 169 / 13) (x % 13) q k)) (ht : 0 ≤ t ∧ t ≤ 1000000000000) (htc : 0 ≤ tc ∧ tc ≤ 890) (hfd : findL (wayT tm (dvT dv) ln (bsM bd) (x % 169 / 13) (x % 13)) (pV (nuT nu) ln (bsM bd) (x % 169 / 13) (x % 13)) (wl nr lf ln (x / 169) (x % 169 / 13) (x % 13) 0) t = some (qq, t')) : Ct l D b Y_Mo_takeRoot { frames := 3, cells := 0, slots := 0, locals := 72 } [Value.ref (ad 0), Value.int (iI x), Value.long (iL t)] (ad, cM ad r lp rf nr lf ln bd fd tm it wk dv ct nu mt c1 c2 td tt tc) (fun v w' => ∃ d1 d2 td' tt' tc', v = some (.int (iI qq.1)) ∧ w' = (ad, cM ad r lp rf nr lf ln bd fd tm it wk dv ct nu mt d1 d2 td' tt' tc') ∧ stkI td' tt' tc' = (kidsL (nuT nu) ln (bsM bd) (x % 169 / 13) (x % 13) qq t').map mE ++ stkI td tt tc ∧ tc ≤ tc' ∧ tc' ≤ tc + 3) := by
  refine Ct_of (by decide) (Nat.le_of_ble_eq_true rfl) ?_
  have hg1 := hg.1
  have hx2 := hx
  unfold vN at hx2
  show J l D b Y_Mo_takeRoot _ _ (ad, cM ad r lp rf nr lf ln bd fd tm it wk dv ct nu mt c1 c2 td tt tc) 0 0 0 [(0, Value.ref (ad 0)), (1, Value.int (iI x)), (2, Value.long (iL t))] []
  refine J_iload_n d_Mo_takeRoot_0 rfl 1 rfl ?_
  refine J_sipush d_Mo_takeRoot_1 (by decide) ?_
  refine J_idiv d_Mo_takeRoot_4 (by omega) (by omega) ?_
  refine J_istore d_Mo_takeRoot_5 (by decide) rfl ?_
  refine J_iload_n d_Mo_takeRoot_7 rfl 2 rfl ?_
  refine J_sipush d_Mo_takeRoot_8 (by decide) ?_
  refine J_irem d_Mo_takeRoot_11 (by omega) (by omega) ?_
  refine J_bipush d_Mo_takeRoot_12 (by decide) ?_
  refine J_idiv d_Mo_takeRoot_14 (by omega) (by omega) ?_
  refine J_istore d_Mo_takeRoot_15 (by decide) rfl ?_
  refine J_iload_n d_Mo_takeRoot_17 rfl 3 rfl ?_
  refine J_bipush d_Mo_takeRoot_18 (by decide) ?_
  refine J_irem d_Mo_takeRoot_20 (by omega) (by omega) ?_
  refine J_istore d_Mo_takeRoot_21 (by decide) rfl ?_
  refine J_lload_n d_Mo_takeRoot_23 rfl 5 rfl ?_
  refine J_lstore d_Mo_takeRoot_24 (by decide) rfl ?_
  refine J_iconst d_Mo_takeRoot_26 ?_
  refine J_istore d_Mo_takeRoot_27 (by decide) rfl ?_
  refine J.loop (σ := Int × Int × Int × Int) (fun xx_ => match xx_ with | (r', u1, x1, y1) => (0 ≤ r' ∧ r' ≤ nr) ∧ (findL (wayT tm (dvT dv) ln (bsM bd) (x % 169 / 13) (x % 13)) (pV (nuT nu) ln (bsM bd) (x % 169 / 13) (x % 13)) (wl nr lf ln (x / 169) (x % 169 / 13) (x % 13) r') u1 = findL (wayT tm (dvT dv) ln (bsM bd) (x % 169 / 13) (x % 13)) (pV (nuT nu) ln (bsM bd) (x % 169 / 13) (x % 13)) (wl nr lf ln (x / 169) (x % 169 / 13) (x % 13) 0) t) ∧ (0 ≤ u1 ∧ u1 ≤ 1000000000000) ∧ (∀ q ∈ wl nr lf ln (x / 169) (x % 169 / 13) (x % 13) r', q ∈ (wl nr lf ln (x / 169) (x % 169 / 13) (x % 13) 0))) (fun xx_ => match xx_ with | (r', u1, x1, y1) => (nr - r').toNat) (ws := fun xx_ => match xx_ with | (r', u1, x1, y1) => (ad, cM ad r lp rf nr lf ln bd fd tm it wk dv ct nu mt x1 y1 td tt tc)) (ks := fun _ => 0) (ns := fun _ => 0) (lvs := fun xx_ => match xx_ with | (r', u1, x1, y1) => [(9, Value.int (iI r')), (7, Value.long (iL u1)), (6, Value.int (iI (x % 13))), (5, Value.int (iI ((x % 169) / 13))), (4, Value.int (iI (x / 169))), (0, Value.ref (ad 0)), (1, Value.int (iI x)), (2, Value.long (iL t))]) (sts := fun _ => []) ?_ (0, t, c1, c2) ?_
  · rintro ⟨r', u1, x1, y1⟩ hI ih1
    have hI : (0 ≤ r' ∧ r' ≤ nr) ∧ (findL (wayT tm (dvT dv) ln (bsM bd) (x % 169 / 13) (x % 13)) (pV (nuT nu) ln (bsM bd) (x % 169 / 13) (x % 13)) (wl nr lf ln (x / 169) (x % 169 / 13) (x % 13) r') u1 = findL (wayT tm (dvT dv) ln (bsM bd) (x % 169 / 13) (x % 13)) (pV (nuT nu) ln (bsM bd) (x % 169 / 13) (x % 13)) (wl nr lf ln (x / 169) (x % 169 / 13) (x % 13) 0) t) ∧ (0 ≤ u1 ∧ u1 ≤ 1000000000000) ∧ (∀ q ∈ wl nr lf ln (x / 169) (x % 169 / 13) (x % 13) r', q ∈ (wl nr lf ln (x / 169) (x % 169 / 13) (x % 13) 0)) := hI
    obtain ⟨hr, hI, hu, hW⟩ := hI
    show J l D b Y_Mo_takeRoot _ _ (ad, cM ad r lp rf nr lf ln bd fd tm it wk dv ct nu mt x1 y1 td tt tc) 0 0 29 [(9, Value.int (iI r')), (7, Value.long (iL u1)), (6, Value.int (iI (x % 13))), (5, Value.int (iI ((x % 169) / 13))), (4, Value.int (iI (x / 169))), (0, Value.ref (ad 0)), (1, Value.int (iI x)), (2, Value.long (iL t))] []
    refine J_iload d_Mo_takeRoot_29 0 rfl ?_
    refine J_aload_n d_Mo_takeRoot_31 rfl 5 rfl ?_
    refine J_get fs_Mo_73 rfl rfl d_Mo_takeRoot_32 ?_
    refine J_icmp_ge (tgt := 142) d_Mo_takeRoot_35 rfl (by omega) (by omega) (fun h35_2 => ?_) (fun h35_2 => ?_)
    · refine J_iconst d_Mo_takeRoot_142 ?_
      refine J_iret rfl d_Mo_takeRoot_143 ⟨Nat.le_of_ble_eq_true rfl, Nat.le_of_ble_eq_true rfl⟩ ?_
      rw [wl_end (r := r') (by omega), hfd] at hI
      cases hI
    · refine J_aload_n d_Mo_takeRoot_38 rfl 5 rfl ?_
      refine J_get fs_Mo_7 rfl rfl d_Mo_takeRoot_39 ?_
      refine J_iload d_Mo_takeRoot_42 0 rfl ?_
      refine J_iald rfl (by omega) (by decide) d_Mo_takeRoot_44 ?_
      have hlr := hg.2.1 r' (by omega) (by omega)
      refine J_iload d_Mo_takeRoot_45 4 rfl ?_
      refine J_icmp_ne (tgt := 54) d_Mo_takeRoot_47 rfl (by omega) (by omega) (fun h47_3 => ?_) (fun h47_3 => ?_)
      · refine J_iconst d_Mo_takeRoot_54 ?_
        refine J_istore d_Mo_takeRoot_55 (by decide) rfl ?_
        refine J_aload_n d_Mo_takeRoot_57 rfl 6 rfl ?_
        refine J_iload d_Mo_takeRoot_58 4 rfl ?_
        refine J_callV (st := []) [Value.int (iI ((x % 169) / 13))] ms_Mo_130 rfl (c_Mo_firstCuts) rfl rfl ⟨Nat.le_of_ble_eq_true rfl, Nat.le_of_ble_eq_true rfl⟩ ⟨Nat.le_of_ble_eq_true rfl, Nat.le_of_ble_eq_true rfl⟩ (Nat.le_of_ble_eq_true rfl) d_Mo_takeRoot_60 (fun v w' hp => ?_)
        obtain ⟨rfl, rfl⟩ := hp
        show J l D b Y_Mo_takeRoot _ _ (ad, cM ad r lp rf nr lf ln bd fd tm it wk dv ct nu mt ((x % 169) / 13) ((x % 169) / 13) td tt tc) 0 0 63 [(10, Value.int (iI 0)), (9, Value.int (iI r')), (7, Value.long (iL u1)), (6, Value.int (iI (x % 13))), (5, Value.int (iI ((x % 169) / 13))), (4, Value.int (iI (x / 169))), (0, Value.ref (ad 0)), (1, Value.int (iI x)), (2, Value.long (iL t))] []
        refine J.loop (σ := Bool × Int × Int × Int) (fun xx_ => match xx_ with | (mo, u2, x2, y2) => (mo = true → x % 169 / 13 ≤ x2 ∧ x2 ≤ y2 ∧ y2 ≤ x % 13) ∧ (findL (wayT tm (dvT dv) ln (bsM bd) (x % 169 / 13) (x % 13)) (pV (nuT nu) ln (bsM bd) (x % 169 / 13) (x % 13)) (rs nr lf ln (x / 169) (x % 169 / 13) (x % 13) mo r' x2 y2) u2 = findL (wayT tm (dvT dv) ln (bsM bd) (x % 169 / 13) (x % 13)) (pV (nuT nu) ln (bsM bd) (x % 169 / 13) (x % 13)) (wl nr lf ln (x / 169) (x % 169 / 13) (x % 13) 0) t) ∧ (0 ≤ u2 ∧ u2 ≤ 1000000000000) ∧ (∀ q ∈ rs nr lf ln (x / 169) (x % 169 / 13) (x % 13) mo r' x2 y2, q ∈ (wl nr lf ln (x / 169) (x % 169 / 13) (x % 13) 0))) (fun xx_ => match xx_ with | (mo, u2, x2, y2) => if mo = true then (sfx (ln r') (x % 13) x2 y2).length else 0) (ws := fun xx_ => match xx_ with | (mo, u2, x2, y2) => (ad, cM ad r lp rf nr lf ln bd fd tm it wk dv ct nu mt x2 y2 td tt tc)) (ks := fun _ => 0) (ns := fun _ => 0) (lvs := fun xx_ => match xx_ with | (mo, u2, x2, y2) => [(10, Value.int (iI (bz mo))), (9, Value.int (iI r')), (7, Value.long (iL u2)), (6, Value.int (iI (x % 13))), (5, Value.int (iI ((x % 169) / 13))), (4, Value.int (iI (x / 169))), (0, Value.ref (ad 0)), (1, Value.int (iI x)), (2, Value.long (iL t))]) (sts := fun _ => []) ?_ (false, u1, ((x % 169) / 13), ((x % 169) / 13)) ?_
        · rintro ⟨mo, u2, x2, y2⟩ hI ih5
          have hI : (mo = true → x % 169 / 13 ≤ x2 ∧ x2 ≤ y2 ∧ y2 ≤ x % 13) ∧ (findL (wayT tm (dvT dv) ln (bsM bd) (x % 169 / 13) (x % 13)) (pV (nuT nu) ln (bsM bd) (x % 169 / 13) (x % 13)) (rs nr lf ln (x / 169) (x % 169 / 13) (x % 13) mo r' x2 y2) u2 = findL (wayT tm (dvT dv) ln (bsM bd) (x % 169 / 13) (x % 13)) (pV (nuT nu) ln (bsM bd) (x % 169 / 13) (x % 13)) (wl nr lf ln (x / 169) (x % 169 / 13) (x % 13) 0) t) ∧ (0 ≤ u2 ∧ u2 ≤ 1000000000000) ∧ (∀ q ∈ rs nr lf ln (x / 169) (x % 169 / 13) (x % 13) mo r' x2 y2, q ∈ (wl nr lf ln (x / 169) (x % 169 / 13) (x % 13) 0)) := hI
          obtain ⟨hD, hI2, hu2, hW2⟩ := hI
          show J l D b Y_Mo_takeRoot _ _ (ad, cM ad r lp rf nr lf ln bd fd tm it wk dv ct nu mt x2 y2 td tt tc) 0 0 63 [(10, Value.int (iI (bz mo))), (9, Value.int (iI r')), (7, Value.long (iL u2)), (6, Value.int (iI (x % 13))), (5, Value.int (iI ((x % 169) / 13))), (4, Value.int (iI (x / 169))), (0, Value.ref (ad 0)), (1, Value.int (iI x)), (2, Value.long (iL t))] []
          refine J_iload d_Mo_takeRoot_63 0 rfl ?_
          refine J_ifB_eq (tgt := 136) d_Mo_takeRoot_65 rfl (fun h65_6 => ?_) (fun h65_6 => ?_)
          · refine J_iinc (j := 1) d_Mo_takeRoot_136 rfl (by decide) rfl ?_
            refine J_goto (tgt := 29) d_Mo_takeRoot_139 rfl ?_
            refine J.sub [0, 2, 3, 4, 5, 6, 7, 8] rfl ?_
            exact ih1 (r' + 1, u2, x2, y2) (show (0 ≤ (r' + 1) ∧ (r' + 1) ≤ nr) ∧ (findL (wayT tm (dvT dv) ln (bsM bd) (x % 169 / 13) (x % 13)) (pV (nuT nu) ln (bsM bd) (x % 169 / 13) (x % 13)) (wl nr lf ln (x / 169) (x % 169 / 13) (x % 13) (r' + 1)) u2 = findL (wayT tm (dvT dv) ln (bsM bd) (x % 169 / 13) (x % 13)) (pV (nuT nu) ln (bsM bd) (x % 169 / 13) (x % 13)) (wl nr lf ln (x / 169) (x % 169 / 13) (x % 13) 0) t) ∧ (0 ≤ u2 ∧ u2 ≤ 1000000000000) ∧ (∀ q ∈ wl nr lf ln (x / 169) (x % 169 / 13) (x % 13) (r' + 1), q ∈ (wl nr lf ln (x / 169) (x % 169 / 13) (x % 13) 0)) by
                rw [‹mo = false›, rs_f] at hI2 hW2
                exact ⟨by omega, hI2, hu2, hW2⟩) (show ((nr - (r' + 1)).toNat) < ((nr - r').toNat) by
                omega)
          · have hDt := hD ‹_›
            have hlq := hg.2.2.1 r' (by omega) (by omega)
            refine J_aload_n d_Mo_takeRoot_68 rfl 6 rfl ?_
            refine J_iload d_Mo_takeRoot_69 1 rfl ?_
            refine J_iload d_Mo_takeRoot_71 4 rfl ?_
            refine J_iload d_Mo_takeRoot_73 3 rfl ?_
            refine J_callV (st := []) [Value.int (iI r'), Value.int (iI ((x % 169) / 13)), Value.int (iI (x % 13))] ms_Mo_133 rfl (c_Mo_isWay hg htm (by omega) (by omega) (by omega)) rfl rfl ⟨Nat.le_of_ble_eq_true rfl, Nat.le_of_ble_eq_true rfl⟩ ⟨Nat.le_of_ble_eq_true rfl, Nat.le_of_ble_eq_true rfl⟩ (Nat.le_of_ble_eq_true rfl) d_Mo_takeRoot_75 (fun v w' hp => ?_)
            obtain ⟨rfl, rfl⟩ := hp
            show J l D b Y_Mo_takeRoot _ _ (ad, cM ad r lp rf nr lf ln bd fd tm it wk dv ct nu mt x2 y2 td tt tc) 0 0 78 [(10, Value.int (iI (bz mo))), (9, Value.int (iI r')), (7, Value.long (iL u2)), (6, Value.int (iI (x % 13))), (5, Value.int (iI ((x % 169) / 13))), (4, Value.int (iI (x / 169))), (0, Value.ref (ad 0)), (1, Value.int (iI x)), (2, Value.long (iL t))] [Value.int (iI (bz (wayB tm (dvT dv) (ln r') (bsM bd r') x2 y2 ((x % 169) / 13) (x % 13))))]
            refine J_ifB_eq (tgt := 123) d_Mo_takeRoot_78 rfl (fun h78_8 => ?_) (fun h78_8 => ?_)
            · refine J_aload_n d_Mo_takeRoot_123 rfl 6 rfl ?_
              refine J_iload d_Mo_takeRoot_124 1 rfl ?_
              refine J_iload d_Mo_takeRoot_126 3 rfl ?_
              refine J_callV (st := []) [Value.int (iI r'), Value.int (iI (x % 13))] ms_Mo_136 rfl (c_Mo_nextCuts hg (by omega) (by omega) (by omega)) rfl rfl ⟨Nat.le_of_ble_eq_true rfl, Nat.le_of_ble_eq_true rfl⟩ ⟨Nat.le_of_ble_eq_true rfl, Nat.le_of_ble_eq_true rfl⟩ (Nat.le_of_ble_eq_true rfl) d_Mo_takeRoot_128 (fun v w' hp => ?_)
              obtain ⟨m9, x9, y9, rfl, rfl, hN9⟩ := hp
              show J l D b Y_Mo_takeRoot _ _ (ad, cM ad r lp rf nr lf ln bd fd tm it wk dv ct nu mt x9 y9 td tt tc) 0 0 131 [(10, Value.int (iI (bz mo))), (9, Value.int (iI r')), (7, Value.long (iL u2)), (6, Value.int (iI (x % 13))), (5, Value.int (iI ((x % 169) / 13))), (4, Value.int (iI (x / 169))), (0, Value.ref (ad 0)), (1, Value.int (iI x)), (2, Value.long (iL t))] [Value.int (iI (bz m9))]
              refine J_istore d_Mo_takeRoot_131 (by decide) rfl ?_
              refine J_goto (tgt := 63) d_Mo_takeRoot_133 rfl ?_
              exact ih5 (m9, u2, x9, y9) (show (m9 = true → x % 169 / 13 ≤ x9 ∧ x9 ≤ y9 ∧ y9 ≤ x % 13) ∧ (findL (wayT tm (dvT dv) ln (bsM bd) (x % 169 / 13) (x % 13)) (pV (nuT nu) ln (bsM bd) (x % 169 / 13) (x % 13)) (rs nr lf ln (x / 169) (x % 169 / 13) (x % 13) m9 r' x9 y9) u2 = findL (wayT tm (dvT dv) ln (bsM bd) (x % 169 / 13) (x % 13)) (pV (nuT nu) ln (bsM bd) (x % 169 / 13) (x % 13)) (wl nr lf ln (x / 169) (x % 169 / 13) (x % 13) 0) t) ∧ (0 ≤ u2 ∧ u2 ≤ 1000000000000) ∧ (∀ q ∈ rs nr lf ln (x / 169) (x % 169 / 13) (x % 13) m9 r' x9 y9, q ∈ (wl nr lf ln (x / 169) (x % 169 / 13) (x % 13) 0)) by
                  have hN := ‹Nxt (ln r') (x % 13) x2 y2 _ _ _›
                  rw [‹mo = true›, rs_nx hN (by omega)] at hI2 hW2
                  refine ⟨fun hm => nxt_rng hN hDt (by omega), ?_, hu2, fun q hq => hW2 q (List.mem_cons_of_mem _ hq)⟩
                  rw [findL_cons, if_neg (by rw [show wayT tm (dvT dv) ln (bsM bd) (x % 169 / 13) (x % 13) (r', x2, y2) = false from ‹_›]; decide)] at hI2
                  exact hI2) (show (if m9 = true then (sfx (ln r') (x % 13) x9 y9).length else 0) < (if mo = true then (sfx (ln r') (x % 13) x2 y2).length else 0) by
                  rw [‹mo = true›, if_pos rfl, sfx_nx ‹Nxt (ln r') (x % 13) x2 y2 _ _ _› (by omega), List.length_cons]
                  split
                  · exact Nat.lt_succ_self _
                  · exact Nat.succ_pos _)
            · refine J_aload_n d_Mo_takeRoot_81 rfl 6 rfl ?_
              refine J_iload d_Mo_takeRoot_82 1 rfl ?_
              refine J_iload d_Mo_takeRoot_84 4 rfl ?_
              refine J_iload d_Mo_takeRoot_86 3 rfl ?_
              refine J_callV (st := []) [Value.int (iI r'), Value.int (iI ((x % 169) / 13)), Value.int (iI (x % 13))] ms_Mo_151 rfl (c_Mo_byWay hg (by omega) (by omega) (by omega) hnu) rfl rfl ⟨Nat.le_of_ble_eq_true rfl, Nat.le_of_ble_eq_true rfl⟩ ⟨Nat.le_of_ble_eq_true rfl, Nat.le_of_ble_eq_true rfl⟩ (Nat.le_of_ble_eq_true rfl) d_Mo_takeRoot_88 (fun v w' hp => ?_)
              obtain ⟨z10, rfl, rfl, hB10⟩ := hp
              show J l D b Y_Mo_takeRoot _ _ (ad, cM ad r lp rf nr lf ln bd fd tm it wk dv ct nu mt x2 y2 td tt tc) 0 0 91 [(10, Value.int (iI (bz mo))), (9, Value.int (iI r')), (7, Value.long (iL u2)), (6, Value.int (iI (x % 13))), (5, Value.int (iI ((x % 169) / 13))), (4, Value.int (iI (x / 169))), (0, Value.ref (ad 0)), (1, Value.int (iI x)), (2, Value.long (iL t))] [Value.long (iL z10)]
              refine J_lstore d_Mo_takeRoot_91 (by decide) rfl ?_
              have hm9 := hW2 (r', x2, y2) (by rw [‹mo = true›]; exact rs_mem (by omega))
              have hb9 : wOk (dvT ct) ln (bsM bd) (x % 169 / 13) (x % 13) (r', x2, y2) ∧ z10 = pV (nuT nu) ln (bsM bd) (x % 169 / 13) (x % 13) (r', x2, y2) ∧ 0 ≤ z10 ∧ z10 ≤ 1000000000000 := by
                rcases ‹_ ∨ (_ ∧ z10 = -1)› with h | h
                · exact h
                · exact absurd (hok _ hm9 ‹_›) h.1
              refine J_lload d_Mo_takeRoot_93 3 rfl ?_
              refine J_lload d_Mo_takeRoot_95 0 rfl ?_
              refine J_lcmp_ge (tgt := 116) d_Mo_takeRoot_97 d_Mo_takeRoot_98 rfl (by omega) (by omega) (fun h97_11 => ?_) (fun h97_11 => ?_)
              · refine J_lload d_Mo_takeRoot_116 3 rfl ?_
                refine J_lload d_Mo_takeRoot_118 0 rfl ?_
                refine J_lsub d_Mo_takeRoot_120 ?_
                refine J_lstore d_Mo_takeRoot_121 (by decide) rfl ?_
                refine J_aload_n d_Mo_takeRoot_123 rfl 7 rfl ?_
                refine J_iload d_Mo_takeRoot_124 3 rfl ?_
                refine J_iload d_Mo_takeRoot_126 4 rfl ?_
                refine J_callV (st := []) [Value.int (iI r'), Value.int (iI (x % 13))] ms_Mo_136 rfl (c_Mo_nextCuts hg (by omega) (by omega) (by omega)) rfl rfl ⟨Nat.le_of_ble_eq_true rfl, Nat.le_of_ble_eq_true rfl⟩ ⟨Nat.le_of_ble_eq_true rfl, Nat.le_of_ble_eq_true rfl⟩ (Nat.le_of_ble_eq_true rfl) d_Mo_takeRoot_128 (fun v w' hp => ?_)
                obtain ⟨m12, x12, y12, rfl, rfl, hN12⟩ := hp
                show J l D b Y_Mo_takeRoot _ _ (ad, cM ad r lp rf nr lf ln bd fd tm it wk dv ct nu mt x12 y12 td tt tc) 0 0 131 [(7, Value.long (iL (u2 - z10))), (11, Value.long (iL z10)), (10, Value.int (iI (bz mo))), (9, Value.int (iI r')), (6, Value.int (iI (x % 13))), (5, Value.int (iI ((x % 169) / 13))), (4, Value.int (iI (x / 169))), (0, Value.ref (ad 0)), (1, Value.int (iI x)), (2, Value.long (iL t))] [Value.int (iI (bz m12))]
                refine J_istore d_Mo_takeRoot_131 (by decide) rfl ?_
                refine J_goto (tgt := 63) d_Mo_takeRoot_133 rfl ?_
                refine J.sub [0, 3, 1, 4, 5, 6, 7, 8, 9] rfl ?_
                exact ih5 (m12, u2 - z10, x12, y12) (show (m12 = true → x % 169 / 13 ≤ x12 ∧ x12 ≤ y12 ∧ y12 ≤ x % 13) ∧ (findL (wayT tm (dvT dv) ln (bsM bd) (x % 169 / 13) (x % 13)) (pV (nuT nu) ln (bsM bd) (x % 169 / 13) (x % 13)) (rs nr lf ln (x / 169) (x % 169 / 13) (x % 13) m12 r' x12 y12) (u2 - z10) = findL (wayT tm (dvT dv) ln (bsM bd) (x % 169 / 13) (x % 13)) (pV (nuT nu) ln (bsM bd) (x % 169 / 13) (x % 13)) (wl nr lf ln (x / 169) (x % 169 / 13) (x % 13) 0) t) ∧ (0 ≤ (u2 - z10) ∧ (u2 - z10) ≤ 1000000000000) ∧ (∀ q ∈ rs nr lf ln (x / 169) (x % 169 / 13) (x % 13) m12 r' x12 y12, q ∈ (wl nr lf ln (x / 169) (x % 169 / 13) (x % 13) 0)) by
                    have hN := ‹Nxt (ln r') (x % 13) x2 y2 _ _ _›
                    rw [‹mo = true›, rs_nx hN (by omega)] at hI2 hW2
                    refine ⟨fun hm => nxt_rng hN hDt (by omega), ?_, by omega, fun q hq => hW2 q (List.mem_cons_of_mem _ hq)⟩
                    rw [findL_cons, if_pos (show wayT tm (dvT dv) ln (bsM bd) (x % 169 / 13) (x % 13) (r', x2, y2) = true from ‹_›), if_neg (by rw [← hb9.2.1]; omega), ← hb9.2.1] at hI2
                    exact hI2) (show (if m12 = true then (sfx (ln r') (x % 13) x12 y12).length else 0) < (if mo = true then (sfx (ln r') (x % 13) x2 y2).length else 0) by
                    rw [‹mo = true›, if_pos rfl, sfx_nx ‹Nxt (ln r') (x % 13) x2 y2 _ _ _› (by omega), List.length_cons]
                    split
                    · exact Nat.lt_succ_self _
                    · exact Nat.succ_pos _)
              · have hp9 : ∀ k, 0 ≤ k → k < ln r' → bd (3 * r' + k) < 8 → 0 < nu (169 * bd (3 * r' + k) + 13 * cutV (ln r') x2 y2 k (x % 169 / 13) (x % 13) + cutV (ln r') x2 y2 (k + 1) (x % 169 / 13) (x % 13)) ∧ nu (169 * bd (3 * r' + k) + 13 * cutV (ln r') x2 y2 k (x % 169 / 13) (x % 13) + cutV (ln r') x2 y2 (k + 1) (x % 169 / 13) (x % 13)) ≤ 1000000000000 := by
                  intro k a1 a2 a3
                  have b1 := hps _ hm9 ‹_› k a1 a2 a3
                  have b2 := hb9.1 k a1 a2 a3
                  have hca := cutV_rng (n := ln r') (k := k) hDt
                  have hcb := cutV_rng (n := ln r') (k := k + 1) hDt
                  have hsy := hg.2.2.2.1 (3 * r' + k) (by omega) (by omega)
                  have hsz := hg.2.2.2.2 r' k (by omega) (by omega) (by omega) (by omega)
                  exact ⟨b1, (hnu (169 * bd (3 * r' + k) + 13 * cutV (ln r') x2 y2 k (x % 169 / 13) (x % 13) + cutV (ln r') x2 y2 (k + 1) (x % 169 / 13) (x % 13)) (by omega) (by omega) b2).2⟩
                obtain ⟨m9, z91, z92, hN9⟩ := nxt_ex (n := ln r') (j := x % 13) (c1 := x2) (c2 := y2)
                have hI9 := hI2
                rw [‹mo = true›, rs_nx hN9 (by omega)] at hI9
                refine J_aload_n d_Mo_takeRoot_101 rfl 7 rfl ?_
                refine J_iload d_Mo_takeRoot_102 2 rfl ?_
                refine J_iload d_Mo_takeRoot_104 5 rfl ?_
                refine J_iload d_Mo_takeRoot_106 4 rfl ?_
                refine J_lload d_Mo_takeRoot_108 3 rfl ?_
                refine J_callV (st := []) [Value.int (iI r'), Value.int (iI ((x % 169) / 13)), Value.int (iI (x % 13)), Value.long (iL u2)] ms_Mo_183 rfl (c_Mo_comeAll hg (by omega) (by omega) (by omega) (by omega) (by omega) hp9) rfl rfl ⟨Nat.le_of_ble_eq_true rfl, Nat.le_of_ble_eq_true rfl⟩ ⟨Nat.le_of_ble_eq_true rfl, Nat.le_of_ble_eq_true rfl⟩ (Nat.le_of_ble_eq_true rfl) d_Mo_takeRoot_110 (fun v w' hp => ?_)
                obtain ⟨rfl, td13, tt13, tc13, rfl, hS13, hl13, hu13⟩ := hp
                show J l D b Y_Mo_takeRoot _ _ (ad, cM ad r lp rf nr lf ln bd fd tm it wk dv ct nu mt x2 y2 td13 tt13 tc13) 0 0 113 [(11, Value.long (iL z10)), (10, Value.int (iI (bz mo))), (9, Value.int (iI r')), (7, Value.long (iL u2)), (6, Value.int (iI (x % 13))), (5, Value.int (iI ((x % 169) / 13))), (4, Value.int (iI (x / 169))), (0, Value.ref (ad 0)), (1, Value.int (iI x)), (2, Value.long (iL t))] []
                refine J_iload d_Mo_takeRoot_113 2 rfl ?_
                refine J_iret rfl d_Mo_takeRoot_115 ⟨Nat.le_of_ble_eq_true rfl, Nat.le_of_ble_eq_true rfl⟩ ?_
                rw [findL_cons, if_pos (show wayT tm (dvT dv) ln (bsM bd) (x % 169 / 13) (x % 13) (r', x2, y2) = true from ‹_›), if_pos (by rw [← hb9.2.1]; omega), hfd] at hI9
                have e9 := Option.some.inj hI9
                have e1 : (r', x2, y2) = qq := congrArg Prod.fst e9
                have e2 : u2 = t' := congrArg Prod.snd e9
                subst e1
                subst e2
                exact ⟨_, _, _, _, _, rfl, rfl, ‹_›, ‹_›, ‹_›⟩
        · show (false = true → x % 169 / 13 ≤ ((x % 169) / 13) ∧ ((x % 169) / 13) ≤ ((x % 169) / 13) ∧ ((x % 169) / 13) ≤ x % 13) ∧ (findL (wayT tm (dvT dv) ln (bsM bd) (x % 169 / 13) (x % 13)) (pV (nuT nu) ln (bsM bd) (x % 169 / 13) (x % 13)) (rs nr lf ln (x / 169) (x % 169 / 13) (x % 13) false r' ((x % 169) / 13) ((x % 169) / 13)) u1 = findL (wayT tm (dvT dv) ln (bsM bd) (x % 169 / 13) (x % 13)) (pV (nuT nu) ln (bsM bd) (x % 169 / 13) (x % 13)) (wl nr lf ln (x / 169) (x % 169 / 13) (x % 13) 0) t) ∧ (0 ≤ u1 ∧ u1 ≤ 1000000000000) ∧ (∀ q ∈ rs nr lf ln (x / 169) (x % 169 / 13) (x % 13) false r' ((x % 169) / 13) ((x % 169) / 13), q ∈ (wl nr lf ln (x / 169) (x % 169 / 13) (x % 13) 0))
          refine ⟨(fun h => by cases h), ?_, hu, ?_⟩
          · rw [← rs_out (by omega) ‹_›]
            exact hI
          · rw [← rs_out (by omega) ‹_›]
            exact hW
      · refine J_iconst d_Mo_takeRoot_50 ?_
        refine J_goto (tgt := 55) d_Mo_takeRoot_51 rfl ?_
        refine J_istore d_Mo_takeRoot_55 (by decide) rfl ?_
        refine J_aload_n d_Mo_takeRoot_57 rfl 6 rfl ?_
        refine J_iload d_Mo_takeRoot_58 4 rfl ?_
        refine J_callV (st := []) [Value.int (iI ((x % 169) / 13))] ms_Mo_130 rfl (c_Mo_firstCuts) rfl rfl ⟨Nat.le_of_ble_eq_true rfl, Nat.le_of_ble_eq_true rfl⟩ ⟨Nat.le_of_ble_eq_true rfl, Nat.le_of_ble_eq_true rfl⟩ (Nat.le_of_ble_eq_true rfl) d_Mo_takeRoot_60 (fun v w' hp => ?_)
        obtain ⟨rfl, rfl⟩ := hp
        show J l D b Y_Mo_takeRoot _ _ (ad, cM ad r lp rf nr lf ln bd fd tm it wk dv ct nu mt ((x % 169) / 13) ((x % 169) / 13) td tt tc) 0 0 63 [(10, Value.int (iI 1)), (9, Value.int (iI r')), (7, Value.long (iL u1)), (6, Value.int (iI (x % 13))), (5, Value.int (iI ((x % 169) / 13))), (4, Value.int (iI (x / 169))), (0, Value.ref (ad 0)), (1, Value.int (iI x)), (2, Value.long (iL t))] []
        refine J.loop (σ := Bool × Int × Int × Int) (fun xx_ => match xx_ with | (mo, u2, x2, y2) => (mo = true → x % 169 / 13 ≤ x2 ∧ x2 ≤ y2 ∧ y2 ≤ x % 13) ∧ (findL (wayT tm (dvT dv) ln (bsM bd) (x % 169 / 13) (x % 13)) (pV (nuT nu) ln (bsM bd) (x % 169 / 13) (x % 13)) (rs nr lf ln (x / 169) (x % 169 / 13) (x % 13) mo r' x2 y2) u2 = findL (wayT tm (dvT dv) ln (bsM bd) (x % 169 / 13) (x % 13)) (pV (nuT nu) ln (bsM bd) (x % 169 / 13) (x % 13)) (wl nr lf ln (x / 169) (x % 169 / 13) (x % 13) 0) t) ∧ (0 ≤ u2 ∧ u2 ≤ 1000000000000) ∧ (∀ q ∈ rs nr lf ln (x / 169) (x % 169 / 13) (x % 13) mo r' x2 y2, q ∈ (wl nr lf ln (x / 169) (x % 169 / 13) (x % 13) 0))) (fun xx_ => match xx_ with | (mo, u2, x2, y2) => if mo = true then (sfx (ln r') (x % 13) x2 y2).length else 0) (ws := fun xx_ => match xx_ with | (mo, u2, x2, y2) => (ad, cM ad r lp rf nr lf ln bd fd tm it wk dv ct nu mt x2 y2 td tt tc)) (ks := fun _ => 0) (ns := fun _ => 0) (lvs := fun xx_ => match xx_ with | (mo, u2, x2, y2) => [(10, Value.int (iI (bz mo))), (9, Value.int (iI r')), (7, Value.long (iL u2)), (6, Value.int (iI (x % 13))), (5, Value.int (iI ((x % 169) / 13))), (4, Value.int (iI (x / 169))), (0, Value.ref (ad 0)), (1, Value.int (iI x)), (2, Value.long (iL t))]) (sts := fun _ => []) ?_ (true, u1, ((x % 169) / 13), ((x % 169) / 13)) ?_
        · rintro ⟨mo, u2, x2, y2⟩ hI ih15
          have hI : (mo = true → x % 169 / 13 ≤ x2 ∧ x2 ≤ y2 ∧ y2 ≤ x % 13) ∧ (findL (wayT tm (dvT dv) ln (bsM bd) (x % 169 / 13) (x % 13)) (pV (nuT nu) ln (bsM bd) (x % 169 / 13) (x % 13)) (rs nr lf ln (x / 169) (x % 169 / 13) (x % 13) mo r' x2 y2) u2 = findL (wayT tm (dvT dv) ln (bsM bd) (x % 169 / 13) (x % 13)) (pV (nuT nu) ln (bsM bd) (x % 169 / 13) (x % 13)) (wl nr lf ln (x / 169) (x % 169 / 13) (x % 13) 0) t) ∧ (0 ≤ u2 ∧ u2 ≤ 1000000000000) ∧ (∀ q ∈ rs nr lf ln (x / 169) (x % 169 / 13) (x % 13) mo r' x2 y2, q ∈ (wl nr lf ln (x / 169) (x % 169 / 13) (x % 13) 0)) := hI
          obtain ⟨hD, hI2, hu2, hW2⟩ := hI
          show J l D b Y_Mo_takeRoot _ _ (ad, cM ad r lp rf nr lf ln bd fd tm it wk dv ct nu mt x2 y2 td tt tc) 0 0 63 [(10, Value.int (iI (bz mo))), (9, Value.int (iI r')), (7, Value.long (iL u2)), (6, Value.int (iI (x % 13))), (5, Value.int (iI ((x % 169) / 13))), (4, Value.int (iI (x / 169))), (0, Value.ref (ad 0)), (1, Value.int (iI x)), (2, Value.long (iL t))] []
          refine J_iload d_Mo_takeRoot_63 0 rfl ?_
          refine J_ifB_eq (tgt := 136) d_Mo_takeRoot_65 rfl (fun h65_16 => ?_) (fun h65_16 => ?_)
          · refine J_iinc (j := 1) d_Mo_takeRoot_136 rfl (by decide) rfl ?_
            refine J_goto (tgt := 29) d_Mo_takeRoot_139 rfl ?_
            refine J.sub [0, 2, 3, 4, 5, 6, 7, 8] rfl ?_
            exact ih1 (r' + 1, u2, x2, y2) (show (0 ≤ (r' + 1) ∧ (r' + 1) ≤ nr) ∧ (findL (wayT tm (dvT dv) ln (bsM bd) (x % 169 / 13) (x % 13)) (pV (nuT nu) ln (bsM bd) (x % 169 / 13) (x % 13)) (wl nr lf ln (x / 169) (x % 169 / 13) (x % 13) (r' + 1)) u2 = findL (wayT tm (dvT dv) ln (bsM bd) (x % 169 / 13) (x % 13)) (pV (nuT nu) ln (bsM bd) (x % 169 / 13) (x % 13)) (wl nr lf ln (x / 169) (x % 169 / 13) (x % 13) 0) t) ∧ (0 ≤ u2 ∧ u2 ≤ 1000000000000) ∧ (∀ q ∈ wl nr lf ln (x / 169) (x % 169 / 13) (x % 13) (r' + 1), q ∈ (wl nr lf ln (x / 169) (x % 169 / 13) (x % 13) 0)) by
                rw [‹mo = false›, rs_f] at hI2 hW2
                exact ⟨by omega, hI2, hu2, hW2⟩) (show ((nr - (r' + 1)).toNat) < ((nr - r').toNat) by
                omega)
          · have hDt := hD ‹_›
            have hlq := hg.2.2.1 r' (by omega) (by omega)
            refine J_aload_n d_Mo_takeRoot_68 rfl 6 rfl ?_
            refine J_iload d_Mo_takeRoot_69 1 rfl ?_
            refine J_iload d_Mo_takeRoot_71 4 rfl ?_
            refine J_iload d_Mo_takeRoot_73 3 rfl ?_
            refine J_callV (st := []) [Value.int (iI r'), Value.int (iI ((x % 169) / 13)), Value.int (iI (x % 13))] ms_Mo_133 rfl (c_Mo_isWay hg htm (by omega) (by omega) (by omega)) rfl rfl ⟨Nat.le_of_ble_eq_true rfl, Nat.le_of_ble_eq_true rfl⟩ ⟨Nat.le_of_ble_eq_true rfl, Nat.le_of_ble_eq_true rfl⟩ (Nat.le_of_ble_eq_true rfl) d_Mo_takeRoot_75 (fun v w' hp => ?_)
            obtain ⟨rfl, rfl⟩ := hp
            show J l D b Y_Mo_takeRoot _ _ (ad, cM ad r lp rf nr lf ln bd fd tm it wk dv ct nu mt x2 y2 td tt tc) 0 0 78 [(10, Value.int (iI (bz mo))), (9, Value.int (iI r')), (7, Value.long (iL u2)), (6, Value.int (iI (x % 13))), (5, Value.int (iI ((x % 169) / 13))), (4, Value.int (iI (x / 169))), (0, Value.ref (ad 0)), (1, Value.int (iI x)), (2, Value.long (iL t))] [Value.int (iI (bz (wayB tm (dvT dv) (ln r') (bsM bd r') x2 y2 ((x % 169) / 13) (x % 13))))]
            refine J_ifB_eq (tgt := 123) d_Mo_takeRoot_78 rfl (fun h78_18 => ?_) (fun h78_18 => ?_)
            · refine J_aload_n d_Mo_takeRoot_123 rfl 6 rfl ?_
              refine J_iload d_Mo_takeRoot_124 1 rfl ?_
              refine J_iload d_Mo_takeRoot_126 3 rfl ?_
              refine J_callV (st := []) [Value.int (iI r'), Value.int (iI (x % 13))] ms_Mo_136 rfl (c_Mo_nextCuts hg (by omega) (by omega) (by omega)) rfl rfl ⟨Nat.le_of_ble_eq_true rfl, Nat.le_of_ble_eq_true rfl⟩ ⟨Nat.le_of_ble_eq_true rfl, Nat.le_of_ble_eq_true rfl⟩ (Nat.le_of_ble_eq_true rfl) d_Mo_takeRoot_128 (fun v w' hp => ?_)
              obtain ⟨m19, x19, y19, rfl, rfl, hN19⟩ := hp
              show J l D b Y_Mo_takeRoot _ _ (ad, cM ad r lp rf nr lf ln bd fd tm it wk dv ct nu mt x19 y19 td tt tc) 0 0 131 [(10, Value.int (iI (bz mo))), (9, Value.int (iI r')), (7, Value.long (iL u2)), (6, Value.int (iI (x % 13))), (5, Value.int (iI ((x % 169) / 13))), (4, Value.int (iI (x / 169))), (0, Value.ref (ad 0)), (1, Value.int (iI x)), (2, Value.long (iL t))] [Value.int (iI (bz m19))]
              refine J_istore d_Mo_takeRoot_131 (by decide) rfl ?_
              refine J_goto (tgt := 63) d_Mo_takeRoot_133 rfl ?_
              exact ih15 (m19, u2, x19, y19) (show (m19 = true → x % 169 / 13 ≤ x19 ∧ x19 ≤ y19 ∧ y19 ≤ x % 13) ∧ (findL (wayT tm (dvT dv) ln (bsM bd) (x % 169 / 13) (x % 13)) (pV (nuT nu) ln (bsM bd) (x % 169 / 13) (x % 13)) (rs nr lf ln (x / 169) (x % 169 / 13) (x % 13) m19 r' x19 y19) u2 = findL (wayT tm (dvT dv) ln (bsM bd) (x % 169 / 13) (x % 13)) (pV (nuT nu) ln (bsM bd) (x % 169 / 13) (x % 13)) (wl nr lf ln (x / 169) (x % 169 / 13) (x % 13) 0) t) ∧ (0 ≤ u2 ∧ u2 ≤ 1000000000000) ∧ (∀ q ∈ rs nr lf ln (x / 169) (x % 169 / 13) (x % 13) m19 r' x19 y19, q ∈ (wl nr lf ln (x / 169) (x % 169 / 13) (x % 13) 0)) by
                  have hN := ‹Nxt (ln r') (x % 13) x2 y2 _ _ _›
                  rw [‹mo = true›, rs_nx hN (by omega)] at hI2 hW2
                  refine ⟨fun hm => nxt_rng hN hDt (by omega), ?_, hu2, fun q hq => hW2 q (List.mem_cons_of_mem _ hq)⟩
                  rw [findL_cons, if_neg (by rw [show wayT tm (dvT dv) ln (bsM bd) (x % 169 / 13) (x % 13) (r', x2, y2) = false from ‹_›]; decide)] at hI2
                  exact hI2) (show (if m19 = true then (sfx (ln r') (x % 13) x19 y19).length else 0) < (if mo = true then (sfx (ln r') (x % 13) x2 y2).length else 0) by
                  rw [‹mo = true›, if_pos rfl, sfx_nx ‹Nxt (ln r') (x % 13) x2 y2 _ _ _› (by omega), List.length_cons]
                  split
                  · exact Nat.lt_succ_self _
                  · exact Nat.succ_pos _)
            · refine J_aload_n d_Mo_takeRoot_81 rfl 6 rfl ?_
              refine J_iload d_Mo_takeRoot_82 1 rfl ?_
              refine J_iload d_Mo_takeRoot_84 4 rfl ?_
              refine J_iload d_Mo_takeRoot_86 3 rfl ?_
              refine J_callV (st := []) [Value.int (iI r'), Value.int (iI ((x % 169) / 13)), Value.int (iI (x % 13))] ms_Mo_151 rfl (c_Mo_byWay hg (by omega) (by omega) (by omega) hnu) rfl rfl ⟨Nat.le_of_ble_eq_true rfl, Nat.le_of_ble_eq_true rfl⟩ ⟨Nat.le_of_ble_eq_true rfl, Nat.le_of_ble_eq_true rfl⟩ (Nat.le_of_ble_eq_true rfl) d_Mo_takeRoot_88 (fun v w' hp => ?_)
              obtain ⟨z20, rfl, rfl, hB20⟩ := hp
              show J l D b Y_Mo_takeRoot _ _ (ad, cM ad r lp rf nr lf ln bd fd tm it wk dv ct nu mt x2 y2 td tt tc) 0 0 91 [(10, Value.int (iI (bz mo))), (9, Value.int (iI r')), (7, Value.long (iL u2)), (6, Value.int (iI (x % 13))), (5, Value.int (iI ((x % 169) / 13))), (4, Value.int (iI (x / 169))), (0, Value.ref (ad 0)), (1, Value.int (iI x)), (2, Value.long (iL t))] [Value.long (iL z20)]
              refine J_lstore d_Mo_takeRoot_91 (by decide) rfl ?_
              have hm9 := hW2 (r', x2, y2) (by rw [‹mo = true›]; exact rs_mem (by omega))
              have hb9 : wOk (dvT ct) ln (bsM bd) (x % 169 / 13) (x % 13) (r', x2, y2) ∧ z20 = pV (nuT nu) ln (bsM bd) (x % 169 / 13) (x % 13) (r', x2, y2) ∧ 0 ≤ z20 ∧ z20 ≤ 1000000000000 := by
                rcases ‹_ ∨ (_ ∧ z20 = -1)› with h | h
                · exact h
                · exact absurd (hok _ hm9 ‹_›) h.1
              refine J_lload d_Mo_takeRoot_93 3 rfl ?_
              refine J_lload d_Mo_takeRoot_95 0 rfl ?_
              refine J_lcmp_ge (tgt := 116) d_Mo_takeRoot_97 d_Mo_takeRoot_98 rfl (by omega) (by omega) (fun h97_21 => ?_) (fun h97_21 => ?_)
              · refine J_lload d_Mo_takeRoot_116 3 rfl ?_
                refine J_lload d_Mo_takeRoot_118 0 rfl ?_
                refine J_lsub d_Mo_takeRoot_120 ?_
                refine J_lstore d_Mo_takeRoot_121 (by decide) rfl ?_
                refine J_aload_n d_Mo_takeRoot_123 rfl 7 rfl ?_
                refine J_iload d_Mo_takeRoot_124 3 rfl ?_
                refine J_iload d_Mo_takeRoot_126 4 rfl ?_
                refine J_callV (st := []) [Value.int (iI r'), Value.int (iI (x % 13))] ms_Mo_136 rfl (c_Mo_nextCuts hg (by omega) (by omega) (by omega)) rfl rfl ⟨Nat.le_of_ble_eq_true rfl, Nat.le_of_ble_eq_true rfl⟩ ⟨Nat.le_of_ble_eq_true rfl, Nat.le_of_ble_eq_true rfl⟩ (Nat.le_of_ble_eq_true rfl) d_Mo_takeRoot_128 (fun v w' hp => ?_)
                obtain ⟨m22, x22, y22, rfl, rfl, hN22⟩ := hp
                show J l D b Y_Mo_takeRoot _ _ (ad, cM ad r lp rf nr lf ln bd fd tm it wk dv ct nu mt x22 y22 td tt tc) 0 0 131 [(7, Value.long (iL (u2 - z20))), (11, Value.long (iL z20)), (10, Value.int (iI (bz mo))), (9, Value.int (iI r')), (6, Value.int (iI (x % 13))), (5, Value.int (iI ((x % 169) / 13))), (4, Value.int (iI (x / 169))), (0, Value.ref (ad 0)), (1, Value.int (iI x)), (2, Value.long (iL t))] [Value.int (iI (bz m22))]
                refine J_istore d_Mo_takeRoot_131 (by decide) rfl ?_
                refine J_goto (tgt := 63) d_Mo_takeRoot_133 rfl ?_
                refine J.sub [0, 3, 1, 4, 5, 6, 7, 8, 9] rfl ?_
                exact ih15 (m22, u2 - z20, x22, y22) (show (m22 = true → x % 169 / 13 ≤ x22 ∧ x22 ≤ y22 ∧ y22 ≤ x % 13) ∧ (findL (wayT tm (dvT dv) ln (bsM bd) (x % 169 / 13) (x % 13)) (pV (nuT nu) ln (bsM bd) (x % 169 / 13) (x % 13)) (rs nr lf ln (x / 169) (x % 169 / 13) (x % 13) m22 r' x22 y22) (u2 - z20) = findL (wayT tm (dvT dv) ln (bsM bd) (x % 169 / 13) (x % 13)) (pV (nuT nu) ln (bsM bd) (x % 169 / 13) (x % 13)) (wl nr lf ln (x / 169) (x % 169 / 13) (x % 13) 0) t) ∧ (0 ≤ (u2 - z20) ∧ (u2 - z20) ≤ 1000000000000) ∧ (∀ q ∈ rs nr lf ln (x / 169) (x % 169 / 13) (x % 13) m22 r' x22 y22, q ∈ (wl nr lf ln (x / 169) (x % 169 / 13) (x % 13) 0)) by
                    have hN := ‹Nxt (ln r') (x % 13) x2 y2 _ _ _›
                    rw [‹mo = true›, rs_nx hN (by omega)] at hI2 hW2
                    refine ⟨fun hm => nxt_rng hN hDt (by omega), ?_, by omega, fun q hq => hW2 q (List.mem_cons_of_mem _ hq)⟩
                    rw [findL_cons, if_pos (show wayT tm (dvT dv) ln (bsM bd) (x % 169 / 13) (x % 13) (r', x2, y2) = true from ‹_›), if_neg (by rw [← hb9.2.1]; omega), ← hb9.2.1] at hI2
                    exact hI2) (show (if m22 = true then (sfx (ln r') (x % 13) x22 y22).length else 0) < (if mo = true then (sfx (ln r') (x % 13) x2 y2).length else 0) by
                    rw [‹mo = true›, if_pos rfl, sfx_nx ‹Nxt (ln r') (x % 13) x2 y2 _ _ _› (by omega), List.length_cons]
                    split
                    · exact Nat.lt_succ_self _
                    · exact Nat.succ_pos _)
              · have hp9 : ∀ k, 0 ≤ k → k < ln r' → bd (3 * r' + k) < 8 → 0 < nu (169 * bd (3 * r' + k) + 13 * cutV (ln r') x2 y2 k (x % 169 / 13) (x % 13) + cutV (ln r') x2 y2 (k + 1) (x % 169 / 13) (x % 13)) ∧ nu (169 * bd (3 * r' + k) + 13 * cutV (ln r') x2 y2 k (x % 169 / 13) (x % 13) + cutV (ln r') x2 y2 (k + 1) (x % 169 / 13) (x % 13)) ≤ 1000000000000 := by
                  intro k a1 a2 a3
                  have b1 := hps _ hm9 ‹_› k a1 a2 a3
                  have b2 := hb9.1 k a1 a2 a3
                  have hca := cutV_rng (n := ln r') (k := k) hDt
                  have hcb := cutV_rng (n := ln r') (k := k + 1) hDt
                  have hsy := hg.2.2.2.1 (3 * r' + k) (by omega) (by omega)
                  have hsz := hg.2.2.2.2 r' k (by omega) (by omega) (by omega) (by omega)
                  exact ⟨b1, (hnu (169 * bd (3 * r' + k) + 13 * cutV (ln r') x2 y2 k (x % 169 / 13) (x % 13) + cutV (ln r') x2 y2 (k + 1) (x % 169 / 13) (x % 13)) (by omega) (by omega) b2).2⟩
                obtain ⟨m9, z91, z92, hN9⟩ := nxt_ex (n := ln r') (j := x % 13) (c1 := x2) (c2 := y2)
                have hI9 := hI2
                rw [‹mo = true›, rs_nx hN9 (by omega)] at hI9
                refine J_aload_n d_Mo_takeRoot_101 rfl 7 rfl ?_
                refine J_iload d_Mo_takeRoot_102 2 rfl ?_
                refine J_iload d_Mo_takeRoot_104 5 rfl ?_
                refine J_iload d_Mo_takeRoot_106 4 rfl ?_
                refine J_lload d_Mo_takeRoot_108 3 rfl ?_
                refine J_callV (st := []) [Value.int (iI r'), Value.int (iI ((x % 169) / 13)), Value.int (iI (x % 13)), Value.long (iL u2)] ms_Mo_183 rfl (c_Mo_comeAll hg (by omega) (by omega) (by omega) (by omega) (by omega) hp9) rfl rfl ⟨Nat.le_of_ble_eq_true rfl, Nat.le_of_ble_eq_true rfl⟩ ⟨Nat.le_of_ble_eq_true rfl, Nat.le_of_ble_eq_true rfl⟩ (Nat.le_of_ble_eq_true rfl) d_Mo_takeRoot_110 (fun v w' hp => ?_)
                obtain ⟨rfl, td23, tt23, tc23, rfl, hS23, hl23, hu23⟩ := hp
                show J l D b Y_Mo_takeRoot _ _ (ad, cM ad r lp rf nr lf ln bd fd tm it wk dv ct nu mt x2 y2 td23 tt23 tc23) 0 0 113 [(11, Value.long (iL z20)), (10, Value.int (iI (bz mo))), (9, Value.int (iI r')), (7, Value.long (iL u2)), (6, Value.int (iI (x % 13))), (5, Value.int (iI ((x % 169) / 13))), (4, Value.int (iI (x / 169))), (0, Value.ref (ad 0)), (1, Value.int (iI x)), (2, Value.long (iL t))] []
                refine J_iload d_Mo_takeRoot_113 2 rfl ?_
                refine J_iret rfl d_Mo_takeRoot_115 ⟨Nat.le_of_ble_eq_true rfl, Nat.le_of_ble_eq_true rfl⟩ ?_
                rw [findL_cons, if_pos (show wayT tm (dvT dv) ln (bsM bd) (x % 169 / 13) (x % 13) (r', x2, y2) = true from ‹_›), if_pos (by rw [← hb9.2.1]; omega), hfd] at hI9
                have e9 := Option.some.inj hI9
                have e1 : (r', x2, y2) = qq := congrArg Prod.fst e9
                have e2 : u2 = t' := congrArg Prod.snd e9
                subst e1
                subst e2
                exact ⟨_, _, _, _, _, rfl, rfl, ‹_›, ‹_›, ‹_›⟩
        · show (true = true → x % 169 / 13 ≤ ((x % 169) / 13) ∧ ((x % 169) / 13) ≤ ((x % 169) / 13) ∧ ((x % 169) / 13) ≤ x % 13) ∧ (findL (wayT tm (dvT dv) ln (bsM bd) (x % 169 / 13) (x % 13)) (pV (nuT nu) ln (bsM bd) (x % 169 / 13) (x % 13)) (rs nr lf ln (x / 169) (x % 169 / 13) (x % 13) true r' ((x % 169) / 13) ((x % 169) / 13)) u1 = findL (wayT tm (dvT dv) ln (bsM bd) (x % 169 / 13) (x % 13)) (pV (nuT nu) ln (bsM bd) (x % 169 / 13) (x % 13)) (wl nr lf ln (x / 169) (x % 169 / 13) (x % 13) 0) t) ∧ (0 ≤ u1 ∧ u1 ≤ 1000000000000) ∧ (∀ q ∈ rs nr lf ln (x / 169) (x % 169 / 13) (x % 13) true r' ((x % 169) / 13) ((x % 169) / 13), q ∈ (wl nr lf ln (x / 169) (x % 169 / 13) (x % 13) 0))
          refine ⟨fun _ => by omega, ?_, hu, ?_⟩
          · rw [← rs_in (by omega) ‹_›]
            exact hI
          · rw [← rs_in (by omega) ‹_›]
            exact hW
  · show (0 ≤ (0 : Int) ∧ (0 : Int) ≤ nr) ∧ (findL (wayT tm (dvT dv) ln (bsM bd) (x % 169 / 13) (x % 13)) (pV (nuT nu) ln (bsM bd) (x % 169 / 13) (x % 13)) (wl nr lf ln (x / 169) (x % 169 / 13) (x % 13) (0 : Int)) t = findL (wayT tm (dvT dv) ln (bsM bd) (x % 169 / 13) (x % 13)) (pV (nuT nu) ln (bsM bd) (x % 169 / 13) (x % 13)) (wl nr lf ln (x / 169) (x % 169 / 13) (x % 13) 0) t) ∧ (0 ≤ t ∧ t ≤ 1000000000000) ∧ (∀ q ∈ wl nr lf ln (x / 169) (x % 169 / 13) (x % 13) (0 : Int), q ∈ (wl nr lf ln (x / 169) (x % 169 / 13) (x % 13) 0))
    exact ⟨by omega, rfl, by omega, fun _ h => h⟩
end M10
