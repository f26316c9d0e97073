theorem rs_mem {nr : Int} {lf ln : Int → Int} {s i j r x y : Int} (hx : x ≤ j) : (r, x, y) ∈ rs nr lf ln s i j true r x y := by
  obtain ⟨m, d1, d2, h⟩ := nxt_ex (n := ln r) (j := j) (c1 := x) (c2 := y)
  rw [rs_nx h hx]
  exact List.mem_cons_self
theorem ms_valid {nr fd : Int} {lf ln bd tm : Int → Int} {dv mt : Int → Bool} (hg : gOK nr lf ln bd) (hf : 0 ≤ fd ∧ fd ≤ 12) (h : MSn nr lf ln bd tm fd dv (upI (fun _ => false) (169 * 0 + 13 * 0 + fd) true) mt) {k : Int} (hk : mt k = true) : vN fd k := by
  have := h (fun x => @decide (vN fd x) (Classical.propDecidable _)) (fun x hx => ?_) (vN_cl hg hf.2 (fun x => by simp)) k hk
  · simpa using this
  · unfold upI at hx
    split at hx
    · rename_i e
      subst e
      simp
      unfold vN
      omega
    · cases hx
section M9
variable {l : Launch} {D : jD} {b : Nat} {w : jW} {ad : Nat → Nat} {r : Nat → Option jE} {lp : Bool} {rf : Int} {nr : Int} {lf : Int → Int} {ln : Int → Int} {bd : Int → Int} {fd : Int} {tm : Int → Int} {it : Int → Bool} {wk : Bool} {dv : Int → Bool} {ct : Int → Bool} {nu : Int → Int} {mt : Int → Bool} {c1 : Int} {c2 : Int} {td : Int → Int} {tt : Int → Int} {tc : Int}
set_option maxHeartbeats 4000000 in
theorem c_Mo_meet {q : Int} {i : Int} {j : Int} (hg : gOK nr lf ln bd) (hf : 0 ≤ fd ∧ fd ≤ 12) (hq : 0 ≤ q ∧ q < nr) (hij : 0 ≤ i ∧ i ≤ j ∧ j ≤ fd) (hc : i ≤ c1 ∧ c1 ≤ c2 ∧ c2 ≤ j) (hx : mt (169 * lf q + 13 * i + j) = true) (hw : wayB tm (dvT dv) (ln q) (bsM bd q) c1 c2 i j = true) (hp : (c1, c2) ∈ sfx (ln q) j i i) : Ct l D b Y_Mo_meet { frames := 1, cells := 0, slots := 0, locals := 24 } [Value.ref (ad 0), Value.int (iI q), Value.int (iI i), Value.int (iI j)] (ad, cM ad r lp rf nr lf ln bd fd tm it wk dv ct nu mt c1 c2 td tt tc) (fun v w' => ∃ n mt', v = some (.int (iI n)) ∧ w' = (ad, cM ad r lp rf nr lf ln bd fd tm it wk dv ct nu mt' c1 c2 td tt tc) ∧ ME nr lf ln bd tm fd dv mt mt' n ∧ n ≤ 1 ∧ (n = 0 → kMet ln bd mt i j (q, c1, c2))) := by
  refine Ct_of (by decide) (Nat.le_of_ble_eq_true rfl) ?_
  have hg1 := hg.1
  have hlq := hg.2.2.1 q (by omega) (by omega)
  have hlf := hg.2.1 q (by omega) (by omega)
  show J l D b Y_Mo_meet _ _ (ad, cM ad r lp rf nr lf ln bd fd tm it wk dv ct nu mt c1 c2 td tt tc) 0 0 0 [(0, Value.ref (ad 0)), (1, Value.int (iI q)), (2, Value.int (iI i)), (3, Value.int (iI j))] []
  refine J_iconst d_Mo_meet_0 ?_
  refine J_istore d_Mo_meet_1 (by decide) rfl ?_
  refine J_iconst d_Mo_meet_3 ?_
  refine J_istore d_Mo_meet_4 (by decide) rfl ?_
  refine J.loop (σ := Int × Int × (Int → Bool)) (fun xx_ => match xx_ with | (k, n, mt1) => (0 ≤ k ∧ k ≤ ln q) ∧ (ME nr lf ln bd tm fd dv mt mt1 n) ∧ (n ≤ 1) ∧ (n = 0 → ∀ x, 0 ≤ x → x < k → bsM bd q x < 8 → mt (kidx ln (bsM bd) i j (q, c1, c2) x) = true)) (fun xx_ => match xx_ with | (k, n, mt1) => (ln q - k).toNat) (ws := fun xx_ => match xx_ with | (k, n, mt1) => (ad, cM ad r lp rf nr lf ln bd fd tm it wk dv ct nu mt1 c1 c2 td tt tc)) (ks := fun _ => 0) (ns := fun _ => 0) (lvs := fun xx_ => match xx_ with | (k, n, mt1) => [(5, Value.int (iI k)), (4, Value.int (iI n)), (0, Value.ref (ad 0)), (1, Value.int (iI q)), (2, Value.int (iI i)), (3, Value.int (iI j))]) (sts := fun _ => []) ?_ (0, 0, mt) ?_
  · rintro ⟨k, n, mt1⟩ hI ih1
    have hI : (0 ≤ k ∧ k ≤ ln q) ∧ (ME nr lf ln bd tm fd dv mt mt1 n) ∧ (n ≤ 1) ∧ (n = 0 → ∀ x, 0 ≤ x → x < k → bsM bd q x < 8 → mt (kidx ln (bsM bd) i j (q, c1, c2) x) = true) := hI
    obtain ⟨hk, hM, hn, hz⟩ := hI
    show J l D b Y_Mo_meet _ _ (ad, cM ad r lp rf nr lf ln bd fd tm it wk dv ct nu mt1 c1 c2 td tt tc) 0 0 6 [(5, Value.int (iI k)), (4, Value.int (iI n)), (0, Value.ref (ad 0)), (1, Value.int (iI q)), (2, Value.int (iI i)), (3, Value.int (iI j))] []
    refine J_iload d_Mo_meet_6 0 rfl ?_
    refine J_aload_n d_Mo_meet_8 rfl 2 rfl ?_
    refine J_get fs_Mo_13 rfl rfl d_Mo_meet_9 ?_
    refine J_iload_n d_Mo_meet_12 rfl 3 rfl ?_
    refine J_iald rfl (by omega) (by decide) d_Mo_meet_13 ?_
    refine J_icmp_ge (tgt := 102) d_Mo_meet_14 rfl (by omega) (by omega) (fun h14_2 => ?_) (fun h14_2 => ?_)
    · refine J_iload d_Mo_meet_102 1 rfl ?_
      refine J_iret rfl d_Mo_meet_104 ⟨Nat.le_of_ble_eq_true rfl, Nat.le_of_ble_eq_true rfl⟩ ?_
      exact ⟨_, _, rfl, rfl, hM, hn, fun h0 x a1 a2 => hz h0 x a1 (by have a2 : x < ln q := a2; omega)⟩
    · refine J_aload_n d_Mo_meet_17 rfl 2 rfl ?_
      refine J_get fs_Mo_16 rfl rfl d_Mo_meet_18 ?_
      refine J_iconst d_Mo_meet_21 ?_
      refine J_iload_n d_Mo_meet_22 rfl 3 rfl ?_
      refine J_imul d_Mo_meet_23 ?_
      refine J_iload d_Mo_meet_24 0 rfl ?_
      refine J_iadd d_Mo_meet_26 ?_
      refine J_iald rfl (by omega) (by decide) d_Mo_meet_27 ?_
      have hsy := hg.2.2.2.1 (3 * q + k) (by omega) (by omega)
      have hsz := hg.2.2.2.2 q k (by omega) (by omega) (by omega) (by omega)
      refine J_istore d_Mo_meet_28 (by decide) rfl ?_
      refine J_aload_n d_Mo_meet_30 rfl 3 rfl ?_
      refine J_iload_n d_Mo_meet_31 rfl 4 rfl ?_
      refine J_iload d_Mo_meet_32 1 rfl ?_
      refine J_iload_n d_Mo_meet_34 rfl 5 rfl ?_
      refine J_iload_n d_Mo_meet_35 rfl 6 rfl ?_
      refine J_callV (st := []) [Value.int (iI q), Value.int (iI k), Value.int (iI i), Value.int (iI j)] ms_Mo_123 rfl (c_Mo_cut hg (by omega) (by omega)) rfl rfl ⟨Nat.le_of_ble_eq_true rfl, Nat.le_of_ble_eq_true rfl⟩ ⟨Nat.le_of_ble_eq_true rfl, Nat.le_of_ble_eq_true rfl⟩ (Nat.le_of_ble_eq_true rfl) d_Mo_meet_36 (fun v w' hp => ?_)
      obtain ⟨rfl, rfl⟩ := hp
      show J l D b Y_Mo_meet _ _ (ad, cM ad r lp rf nr lf ln bd fd tm it wk dv ct nu mt1 c1 c2 td tt tc) 0 0 39 [(6, Value.int (iI (bd ((3 * q) + k)))), (5, Value.int (iI k)), (4, Value.int (iI n)), (0, Value.ref (ad 0)), (1, Value.int (iI q)), (2, Value.int (iI i)), (3, Value.int (iI j))] [Value.int (iI (cutV (ln q) c1 c2 k i j))]
      refine J_istore d_Mo_meet_39 (by decide) rfl ?_
      refine J_aload_n d_Mo_meet_41 rfl 4 rfl ?_
      refine J_iload_n d_Mo_meet_42 rfl 5 rfl ?_
      refine J_iload d_Mo_meet_43 2 rfl ?_
      refine J_iconst d_Mo_meet_45 ?_
      refine J_iadd d_Mo_meet_46 ?_
      refine J_iload_n d_Mo_meet_47 rfl 6 rfl ?_
      refine J_iload_n d_Mo_meet_48 rfl 7 rfl ?_
      refine J_callV (st := []) [Value.int (iI q), Value.int (iI (k + 1)), Value.int (iI i), Value.int (iI j)] ms_Mo_123 rfl (c_Mo_cut hg (by omega) (by omega)) rfl rfl ⟨Nat.le_of_ble_eq_true rfl, Nat.le_of_ble_eq_true rfl⟩ ⟨Nat.le_of_ble_eq_true rfl, Nat.le_of_ble_eq_true rfl⟩ (Nat.le_of_ble_eq_true rfl) d_Mo_meet_49 (fun v w' hp => ?_)
      obtain ⟨rfl, rfl⟩ := hp
      show J l D b Y_Mo_meet _ _ (ad, cM ad r lp rf nr lf ln bd fd tm it wk dv ct nu mt1 c1 c2 td tt tc) 0 0 52 [(7, Value.int (iI (cutV (ln q) c1 c2 k i j))), (6, Value.int (iI (bd ((3 * q) + k)))), (5, Value.int (iI k)), (4, Value.int (iI n)), (0, Value.ref (ad 0)), (1, Value.int (iI q)), (2, Value.int (iI i)), (3, Value.int (iI j))] [Value.int (iI (cutV (ln q) c1 c2 (k + 1) i j))]
      refine J_istore d_Mo_meet_52 (by decide) rfl ?_
      have hca := cutV_rng (n := ln q) (k := k) hc
      have hcb := cutV_rng (n := ln q) (k := k + 1) hc
      refine J_iload d_Mo_meet_54 2 rfl ?_
      refine J_bipush d_Mo_meet_56 (by decide) ?_
      refine J_icmp_ge (tgt := 96) d_Mo_meet_58 rfl (by omega) (by omega) (fun h58_5 => ?_) (fun h58_5 => ?_)
      · refine J_iinc (j := 3) d_Mo_meet_96 rfl (by decide) rfl ?_
        refine J_goto (tgt := 6) d_Mo_meet_99 rfl ?_
        refine J.sub [0, 4, 5, 6, 7, 8] rfl ?_
        exact ih1 (k + 1, n, mt1) (show (0 ≤ (k + 1) ∧ (k + 1) ≤ ln q) ∧ (ME nr lf ln bd tm fd dv mt mt1 n) ∧ (n ≤ 1) ∧ (n = 0 → ∀ x, 0 ≤ x → x < (k + 1) → bsM bd q x < 8 → mt (kidx ln (bsM bd) i j (q, c1, c2) x) = true) by
            refine ⟨by omega, hM, hn, fun h0 x a1 a2 a3 => ?_⟩
            by_cases hx9 : x = k
            · subst hx9
              have a3 : bd (3 * q + x) < 8 := a3
              first
                | omega
                | (rw [← hM.2.2.2.1 h0]; exact ‹mt1 _ = true›)
            · exact hz h0 x a1 (by omega) a3) (show ((ln q - (k + 1)).toNat) < ((ln q - k).toNat) by
            omega)
      · refine J_aload_n d_Mo_meet_61 rfl 5 rfl ?_
        refine J_get fs_Mo_36 rfl rfl d_Mo_meet_62 ?_
        refine J_iload d_Mo_meet_65 2 rfl ?_
        refine J_iload d_Mo_meet_67 1 rfl ?_
        refine J_iload d_Mo_meet_69 0 rfl ?_
        refine J_callS (st := [Value.ref (ad 9)]) [Value.int (iI (bd ((3 * q) + k))), Value.int (iI (cutV (ln q) c1 c2 k i j)), Value.int (iI (cutV (ln q) c1 c2 (k + 1) i j))] ms_Mo_113 (c_Mo_node) rfl rfl ⟨Nat.le_of_ble_eq_true rfl, Nat.le_of_ble_eq_true rfl⟩ ⟨Nat.le_of_ble_eq_true rfl, Nat.le_of_ble_eq_true rfl⟩ (Nat.le_of_ble_eq_true rfl) d_Mo_meet_71 (fun v w' hp => ?_)
        obtain ⟨rfl, rfl⟩ := hp
        show J l D b Y_Mo_meet _ _ (ad, cM ad r lp rf nr lf ln bd fd tm it wk dv ct nu mt1 c1 c2 td tt tc) 0 0 74 [(8, Value.int (iI (cutV (ln q) c1 c2 (k + 1) i j))), (7, Value.int (iI (cutV (ln q) c1 c2 k i j))), (6, Value.int (iI (bd ((3 * q) + k)))), (5, Value.int (iI k)), (4, Value.int (iI n)), (0, Value.ref (ad 0)), (1, Value.int (iI q)), (2, Value.int (iI i)), (3, Value.int (iI j))] [Value.int (iI (169 * (bd ((3 * q) + k)) + 13 * (cutV (ln q) c1 c2 k i j) + (cutV (ln q) c1 c2 (k + 1) i j))), Value.ref (ad 9)]
        refine J_zald rfl (by omega) (by decide) d_Mo_meet_74 ?_
        refine J_ifB_ne (tgt := 96) d_Mo_meet_75 rfl (fun h75_7 => ?_) (fun h75_7 => ?_)
        · refine J_iinc (j := 3) d_Mo_meet_96 rfl (by decide) rfl ?_
          refine J_goto (tgt := 6) d_Mo_meet_99 rfl ?_
          refine J.sub [0, 4, 5, 6, 7, 8] rfl ?_
          exact ih1 (k + 1, n, mt1) (show (0 ≤ (k + 1) ∧ (k + 1) ≤ ln q) ∧ (ME nr lf ln bd tm fd dv mt mt1 n) ∧ (n ≤ 1) ∧ (n = 0 → ∀ x, 0 ≤ x → x < (k + 1) → bsM bd q x < 8 → mt (kidx ln (bsM bd) i j (q, c1, c2) x) = true) by
              refine ⟨by omega, hM, hn, fun h0 x a1 a2 a3 => ?_⟩
              by_cases hx9 : x = k
              · subst hx9
                have a3 : bd (3 * q + x) < 8 := a3
                first
                  | omega
                  | (rw [← hM.2.2.2.1 h0]; exact ‹mt1 _ = true›)
              · exact hz h0 x a1 (by omega) a3) (show ((ln q - (k + 1)).toNat) < ((ln q - k).toNat) by
              omega)
        · refine J_aload_n d_Mo_meet_78 rfl 5 rfl ?_
          refine J_get fs_Mo_36 rfl rfl d_Mo_meet_79 ?_
          refine J_iload d_Mo_meet_82 2 rfl ?_
          refine J_iload d_Mo_meet_84 1 rfl ?_
          refine J_iload d_Mo_meet_86 0 rfl ?_
          refine J_callS (st := [Value.ref (ad 9)]) [Value.int (iI (bd ((3 * q) + k))), Value.int (iI (cutV (ln q) c1 c2 k i j)), Value.int (iI (cutV (ln q) c1 c2 (k + 1) i j))] ms_Mo_113 (c_Mo_node) rfl rfl ⟨Nat.le_of_ble_eq_true rfl, Nat.le_of_ble_eq_true rfl⟩ ⟨Nat.le_of_ble_eq_true rfl, Nat.le_of_ble_eq_true rfl⟩ (Nat.le_of_ble_eq_true rfl) d_Mo_meet_88 (fun v w' hp => ?_)
          obtain ⟨rfl, rfl⟩ := hp
          show J l D b Y_Mo_meet _ _ (ad, cM ad r lp rf nr lf ln bd fd tm it wk dv ct nu mt1 c1 c2 td tt tc) 0 0 91 [(8, Value.int (iI (cutV (ln q) c1 c2 (k + 1) i j))), (7, Value.int (iI (cutV (ln q) c1 c2 k i j))), (6, Value.int (iI (bd ((3 * q) + k)))), (5, Value.int (iI k)), (4, Value.int (iI n)), (0, Value.ref (ad 0)), (1, Value.int (iI q)), (2, Value.int (iI i)), (3, Value.int (iI j))] [Value.int (iI (169 * (bd ((3 * q) + k)) + 13 * (cutV (ln q) c1 c2 k i j) + (cutV (ln q) c1 c2 (k + 1) i j))), Value.ref (ad 9)]
          refine J_iconst d_Mo_meet_91 ?_
          refine J.top (show Value.int (iI 1) = Value.int (iI (bz true)) from rfl) ?_
          refine J_zast rfl (by omega) (by decide) uM_mt d_Mo_meet_92 ?_
          refine J_iconst d_Mo_meet_93 ?_
          refine J_istore d_Mo_meet_94 (by decide) rfl ?_
          refine J_iinc (j := 4) d_Mo_meet_96 rfl (by decide) rfl ?_
          refine J_goto (tgt := 6) d_Mo_meet_99 rfl ?_
          refine J.sub [0, 1, 5, 6, 7, 8] rfl ?_
          exact ih1 (k + 1, 1, upI mt1 (169 * (bd ((3 * q) + k)) + 13 * (cutV (ln q) c1 c2 k i j) + (cutV (ln q) c1 c2 (k + 1) i j)) true) (show (0 ≤ (k + 1) ∧ (k + 1) ≤ ln q) ∧ (ME nr lf ln bd tm fd dv mt (upI mt1 (169 * (bd ((3 * q) + k)) + 13 * (cutV (ln q) c1 c2 k i j) + (cutV (ln q) c1 c2 (k + 1) i j)) true) (1 : Int)) ∧ ((1 : Int) ≤ 1) ∧ ((1 : Int) = 0 → ∀ x, 0 ≤ x → x < (k + 1) → bsM bd q x < 8 → mt (kidx ln (bsM bd) i j (q, c1, c2) x) = true) by
              refine ⟨by omega, hM.put (by omega) ‹_› (fun U a b => ?_), by omega, fun h => by omega⟩
              have hv := vN_nd (fd := fd) (s := lf q) (i := i) (j := j) (by omega) (by omega)
              have := b _ hv.1 (a _ hx) (kidx ln (bsM bd) i j (q, c1, c2) k)
              rw [hv.2.1, hv.2.2.1, hv.2.2.2] at this
              exact this (kd_in (by omega) hp hw (by omega) (show bd (3 * q + k) < 8 by omega))) (show ((ln q - (k + 1)).toNat) < ((ln q - k).toNat) by
              omega)
  · show (0 ≤ (0 : Int) ∧ (0 : Int) ≤ ln q) ∧ (ME nr lf ln bd tm fd dv mt mt (0 : Int)) ∧ ((0 : Int) ≤ 1) ∧ ((0 : Int) = 0 → ∀ x, 0 ≤ x → x < (0 : Int) → bsM bd q x < 8 → mt (kidx ln (bsM bd) i j (q, c1, c2) x) = true)
    exact ⟨by omega, ME.rf, by omega, fun _ x _ _ => by omega⟩
set_option maxHeartbeats 4000000 in
theorem c_Mo_meetAll {s : Int} {i : Int} {j : Int} (hg : gOK nr lf ln bd) (htm : ∀ x, 0 ≤ x → x < 12 → -2147483648 ≤ tm x ∧ tm x ≤ 2147483647) (hf : 0 ≤ fd ∧ fd ≤ 12) (hs : 0 ≤ s ∧ s ≤ 4) (hij : 0 ≤ i ∧ i ≤ j ∧ j ≤ fd) (hx : mt (169 * s + 13 * i + j) = true) : Ct l D b Y_Mo_meetAll { frames := 3, cells := 0, slots := 0, locals := 72 } [Value.ref (ad 0), Value.int (iI s), Value.int (iI i), Value.int (iI j)] (ad, cM ad r lp rf nr lf ln bd fd tm it wk dv ct nu mt c1 c2 td tt tc) (fun v w' => ∃ e mt' d1 d2, v = some (.int (iI (bz e))) ∧ w' = (ad, cM ad r lp rf nr lf ln bd fd tm it wk dv ct nu mt' d1 d2 td tt tc) ∧ ∃ n, ME nr lf ln bd tm fd dv mt mt' n ∧ (e = true ↔ 0 < n) ∧ (n = 0 → ∀ y, Kd nr lf ln bd tm dv s i j y → mt y = true)) := by
  refine Ct_of (by decide) (Nat.le_of_ble_eq_true rfl) ?_
  have hg1 := hg.1
  show J l D b Y_Mo_meetAll _ _ (ad, cM ad r lp rf nr lf ln bd fd tm it wk dv ct nu mt c1 c2 td tt tc) 0 0 0 [(0, Value.ref (ad 0)), (1, Value.int (iI s)), (2, Value.int (iI i)), (3, Value.int (iI j))] []
  refine J_iconst d_Mo_meetAll_0 ?_
  refine J_istore d_Mo_meetAll_1 (by decide) rfl ?_
  refine J_iconst d_Mo_meetAll_3 ?_
  refine J_istore d_Mo_meetAll_4 (by decide) rfl ?_
  refine J.loop (σ := Int × Int × Int × Int × (Int → Bool)) (fun xx_ => match xx_ with | (r', n, x1, y1, mt1) => (0 ≤ r' ∧ r' ≤ nr) ∧ (MI nr lf ln bd tm fd dv mt mt1 s i j n (wl nr lf ln s i j r'))) (fun xx_ => match xx_ with | (r', n, x1, y1, mt1) => (nr - r').toNat) (ws := fun xx_ => match xx_ with | (r', n, x1, y1, mt1) => (ad, cM ad r lp rf nr lf ln bd fd tm it wk dv ct nu mt1 x1 y1 td tt tc)) (ks := fun _ => 0) (ns := fun _ => 0) (lvs := fun xx_ => match xx_ with | (r', n, x1, y1, mt1) => [(5, Value.int (iI r')), (4, Value.int (iI n)), (0, Value.ref (ad 0)), (1, Value.int (iI s)), (2, Value.int (iI i)), (3, Value.int (iI j))]) (sts := fun _ => []) ?_ (0, 0, c1, c2, mt) ?_
  · rintro ⟨r', n, x1, y1, mt1⟩ hI ih1
    have hI : (0 ≤ r' ∧ r' ≤ nr) ∧ (MI nr lf ln bd tm fd dv mt mt1 s i j n (wl nr lf ln s i j r')) := hI
    obtain ⟨hr, hI⟩ := hI
    show J l D b Y_Mo_meetAll _ _ (ad, cM ad r lp rf nr lf ln bd fd tm it wk dv ct nu mt1 x1 y1 td tt tc) 0 0 6 [(5, Value.int (iI r')), (4, Value.int (iI n)), (0, Value.ref (ad 0)), (1, Value.int (iI s)), (2, Value.int (iI i)), (3, Value.int (iI j))] []
    refine J_iload d_Mo_meetAll_6 0 rfl ?_
    refine J_aload_n d_Mo_meetAll_8 rfl 2 rfl ?_
    refine J_get fs_Mo_73 rfl rfl d_Mo_meetAll_9 ?_
    refine J_icmp_ge (tgt := 89) d_Mo_meetAll_12 rfl (by omega) (by omega) (fun h12_2 => ?_) (fun h12_2 => ?_)
    · have hwl := wl_len (nr := nr) (lf := lf) (ln := ln) (s := s) (i := i) (j := j) (fun r a b => hg.2.2.1 r a (by omega)) (by omega) (nr - 0).toNat 0 rfl (by omega)
      have hI4 := hI.2.2.2
      have hI3 := hI.1.2.2.1
      refine J_iload d_Mo_meetAll_89 1 rfl ?_
      refine J_if_le (tgt := 98) d_Mo_meetAll_91 rfl (by omega) (fun h91_3 => ?_) (fun h91_3 => ?_)
      · refine J_iconst d_Mo_meetAll_98 ?_
        refine J.top (show Value.int (iI 0) = Value.int (iI (bz false)) from rfl) ?_
        refine J_zret rfl d_Mo_meetAll_99 ⟨Nat.le_of_ble_eq_true rfl, Nat.le_of_ble_eq_true rfl⟩ ?_
        rw [wl_end (r := r') (by omega)] at hI
        obtain ⟨e1, e2⟩ := mi_end hI
        exact ⟨_, _, _, _, rfl, rfl, n, e1, ⟨(fun h => by cases h), fun h => by omega⟩, e2⟩
      · refine J_iconst d_Mo_meetAll_94 ?_
        refine J_goto (tgt := 99) d_Mo_meetAll_95 rfl ?_
        refine J.top (show Value.int (iI 1) = Value.int (iI (bz true)) from rfl) ?_
        refine J_zret rfl d_Mo_meetAll_99 ⟨Nat.le_of_ble_eq_true rfl, Nat.le_of_ble_eq_true rfl⟩ ?_
        rw [wl_end (r := r') (by omega)] at hI
        obtain ⟨e1, e2⟩ := mi_end hI
        exact ⟨_, _, _, _, rfl, rfl, n, e1, ⟨fun _ => by omega, fun _ => rfl⟩, e2⟩
    · refine J_aload_n d_Mo_meetAll_15 rfl 2 rfl ?_
      refine J_get fs_Mo_7 rfl rfl d_Mo_meetAll_16 ?_
      refine J_iload d_Mo_meetAll_19 0 rfl ?_
      refine J_iald rfl (by omega) (by decide) d_Mo_meetAll_21 ?_
      have hlr := hg.2.1 r' (by omega) (by omega)
      refine J_iload_n d_Mo_meetAll_22 rfl 3 rfl ?_
      refine J_icmp_ne (tgt := 30) d_Mo_meetAll_23 rfl (by omega) (by omega) (fun h23_4 => ?_) (fun h23_4 => ?_)
      · refine J_iconst d_Mo_meetAll_30 ?_
        refine J_istore d_Mo_meetAll_31 (by decide) rfl ?_
        refine J_aload_n d_Mo_meetAll_33 rfl 3 rfl ?_
        refine J_iload_n d_Mo_meetAll_34 rfl 5 rfl ?_
        refine J_callV (st := []) [Value.int (iI i)] ms_Mo_130 rfl (c_Mo_firstCuts) rfl rfl ⟨Nat.le_of_ble_eq_true rfl, Nat.le_of_ble_eq_true rfl⟩ ⟨Nat.le_of_ble_eq_true rfl, Nat.le_of_ble_eq_true rfl⟩ (Nat.le_of_ble_eq_true rfl) d_Mo_meetAll_35 (fun v w' hp => ?_)
        obtain ⟨rfl, rfl⟩ := hp
        show J l D b Y_Mo_meetAll _ _ (ad, cM ad r lp rf nr lf ln bd fd tm it wk dv ct nu mt1 i i td tt tc) 0 0 38 [(6, Value.int (iI 0)), (5, Value.int (iI r')), (4, Value.int (iI n)), (0, Value.ref (ad 0)), (1, Value.int (iI s)), (2, Value.int (iI i)), (3, Value.int (iI j))] []
        refine J.loop (σ := Bool × Int × Int × Int × (Int → Bool)) (fun xx_ => match xx_ with | (mo, n2, x2, y2, mt2) => (mo = true → i ≤ x2 ∧ x2 ≤ y2 ∧ y2 ≤ j) ∧ (MI nr lf ln bd tm fd dv mt mt2 s i j n2 (rs nr lf ln s i j mo r' x2 y2))) (fun xx_ => match xx_ with | (mo, n2, x2, y2, mt2) => if mo = true then (sfx (ln r') j x2 y2).length else 0) (ws := fun xx_ => match xx_ with | (mo, n2, x2, y2, mt2) => (ad, cM ad r lp rf nr lf ln bd fd tm it wk dv ct nu mt2 x2 y2 td tt tc)) (ks := fun _ => 0) (ns := fun _ => 0) (lvs := fun xx_ => match xx_ with | (mo, n2, x2, y2, mt2) => [(6, Value.int (iI (bz mo))), (5, Value.int (iI r')), (4, Value.int (iI n2)), (0, Value.ref (ad 0)), (1, Value.int (iI s)), (2, Value.int (iI i)), (3, Value.int (iI j))]) (sts := fun _ => []) ?_ (false, n, i, i, mt1) ?_
        · rintro ⟨mo, n2, x2, y2, mt2⟩ hI ih6
          have hI : (mo = true → i ≤ x2 ∧ x2 ≤ y2 ∧ y2 ≤ j) ∧ (MI nr lf ln bd tm fd dv mt mt2 s i j n2 (rs nr lf ln s i j mo r' x2 y2)) := hI
          obtain ⟨hD, hI2⟩ := hI
          show J l D b Y_Mo_meetAll _ _ (ad, cM ad r lp rf nr lf ln bd fd tm it wk dv ct nu mt2 x2 y2 td tt tc) 0 0 38 [(6, Value.int (iI (bz mo))), (5, Value.int (iI r')), (4, Value.int (iI n2)), (0, Value.ref (ad 0)), (1, Value.int (iI s)), (2, Value.int (iI i)), (3, Value.int (iI j))] []
          refine J_iload d_Mo_meetAll_38 0 rfl ?_
          refine J_ifB_eq (tgt := 83) d_Mo_meetAll_40 rfl (fun h40_7 => ?_) (fun h40_7 => ?_)
          · refine J_iinc (j := 1) d_Mo_meetAll_83 rfl (by decide) rfl ?_
            refine J_goto (tgt := 6) d_Mo_meetAll_86 rfl ?_
            refine J.sub [0, 2, 3, 4, 5, 6] rfl ?_
            exact ih1 (r' + 1, n2, x2, y2, mt2) (show (0 ≤ (r' + 1) ∧ (r' + 1) ≤ nr) ∧ (MI nr lf ln bd tm fd dv mt mt2 s i j n2 (wl nr lf ln s i j (r' + 1))) by
                refine ⟨by omega, ?_⟩
                rw [‹mo = false›, rs_f] at hI2
                exact hI2) (show ((nr - (r' + 1)).toNat) < ((nr - r').toNat) by
                omega)
          · have hDt := hD ‹_›
            have hlq := hg.2.2.1 r' (by omega) (by omega)
            refine J_iload d_Mo_meetAll_43 2 rfl ?_
            refine J_aload_n d_Mo_meetAll_45 rfl 3 rfl ?_
            refine J_iload d_Mo_meetAll_46 1 rfl ?_
            refine J_iload_n d_Mo_meetAll_48 rfl 5 rfl ?_
            refine J_iload_n d_Mo_meetAll_49 rfl 6 rfl ?_
            refine J_callV (st := [Value.int (iI n2)]) [Value.int (iI r'), Value.int (iI i), Value.int (iI j)] ms_Mo_133 rfl (c_Mo_isWay hg htm (by omega) (by omega) (by omega)) rfl rfl ⟨Nat.le_of_ble_eq_true rfl, Nat.le_of_ble_eq_true rfl⟩ ⟨Nat.le_of_ble_eq_true rfl, Nat.le_of_ble_eq_true rfl⟩ (Nat.le_of_ble_eq_true rfl) d_Mo_meetAll_50 (fun v w' hp => ?_)
            obtain ⟨rfl, rfl⟩ := hp
            show J l D b Y_Mo_meetAll _ _ (ad, cM ad r lp rf nr lf ln bd fd tm it wk dv ct nu mt2 x2 y2 td tt tc) 0 0 53 [(6, Value.int (iI (bz mo))), (5, Value.int (iI r')), (4, Value.int (iI n2)), (0, Value.ref (ad 0)), (1, Value.int (iI s)), (2, Value.int (iI i)), (3, Value.int (iI j))] [Value.int (iI (bz (wayB tm (dvT dv) (ln r') (bsM bd r') x2 y2 i j))), Value.int (iI n2)]
            refine J_ifB_eq (tgt := 67) d_Mo_meetAll_53 rfl (fun h53_9 => ?_) (fun h53_9 => ?_)
            · refine J_iconst d_Mo_meetAll_67 ?_
              refine J_iadd d_Mo_meetAll_68 ?_
              refine J_istore d_Mo_meetAll_69 (by decide) rfl ?_
              refine J_aload_n d_Mo_meetAll_71 rfl 3 rfl ?_
              refine J_iload d_Mo_meetAll_72 2 rfl ?_
              refine J_iload_n d_Mo_meetAll_74 rfl 6 rfl ?_
              refine J_callV (st := []) [Value.int (iI r'), Value.int (iI j)] ms_Mo_136 rfl (c_Mo_nextCuts hg (by omega) (by omega) (by omega)) rfl rfl ⟨Nat.le_of_ble_eq_true rfl, Nat.le_of_ble_eq_true rfl⟩ ⟨Nat.le_of_ble_eq_true rfl, Nat.le_of_ble_eq_true rfl⟩ (Nat.le_of_ble_eq_true rfl) d_Mo_meetAll_75 (fun v w' hp => ?_)
              obtain ⟨m10, x10, y10, rfl, rfl, hN10⟩ := hp
              show J l D b Y_Mo_meetAll _ _ (ad, cM ad r lp rf nr lf ln bd fd tm it wk dv ct nu mt2 x10 y10 td tt tc) 0 0 78 [(4, Value.int (iI (n2 + 0))), (6, Value.int (iI (bz mo))), (5, Value.int (iI r')), (0, Value.ref (ad 0)), (1, Value.int (iI s)), (2, Value.int (iI i)), (3, Value.int (iI j))] [Value.int (iI (bz m10))]
              refine J_istore d_Mo_meetAll_78 (by decide) rfl ?_
              refine J_goto (tgt := 38) d_Mo_meetAll_80 rfl ?_
              refine J.sub [0, 2, 1, 3, 4, 5, 6] rfl ?_
              exact ih6 (m10, n2 + 0, x10, y10, mt2) (show (m10 = true → i ≤ x10 ∧ x10 ≤ y10 ∧ y10 ≤ j) ∧ (MI nr lf ln bd tm fd dv mt mt2 s i j (n2 + 0) (rs nr lf ln s i j m10 r' x10 y10)) by
                  have hN := ‹Nxt (ln r') j x2 y2 _ _ _›
                  rw [‹mo = true›, rs_nx hN (by omega)] at hI2
                  refine ⟨fun hm => nxt_rng hN hDt (by omega), ?_⟩
                  rw [Int.add_zero]
                  exact mi_no hI2 ‹_›) (show (if m10 = true then (sfx (ln r') j x10 y10).length else 0) < (if mo = true then (sfx (ln r') j x2 y2).length else 0) by
                  rw [‹mo = true›, if_pos rfl, sfx_nx ‹Nxt (ln r') j x2 y2 _ _ _› (by omega), List.length_cons]
                  split
                  · exact Nat.lt_succ_self _
                  · exact Nat.succ_pos _)
            · have hm9 := hI2.2.2.1 (r', x2, y2) (by rw [‹mo = true›]; exact rs_mem (by omega))
              have hw9 := wl_mem _ 0 rfl _ hm9
              have hx9 : mt2 (169 * lf r' + 13 * i + j) = true := by
                rw [hw9.2.2.1]
                exact hI2.1.1 _ hx
              refine J_aload_n d_Mo_meetAll_56 rfl 3 rfl ?_
              refine J_iload d_Mo_meetAll_57 1 rfl ?_
              refine J_iload_n d_Mo_meetAll_59 rfl 5 rfl ?_
              refine J_iload_n d_Mo_meetAll_60 rfl 6 rfl ?_
              refine J_callV (st := [Value.int (iI n2)]) [Value.int (iI r'), Value.int (iI i), Value.int (iI j)] ms_Mo_170 rfl (c_Mo_meet hg (by omega) (by omega) (by omega) (by omega) hx9 ‹_› hw9.2.2.2) rfl rfl ⟨Nat.le_of_ble_eq_true rfl, Nat.le_of_ble_eq_true rfl⟩ ⟨Nat.le_of_ble_eq_true rfl, Nat.le_of_ble_eq_true rfl⟩ (Nat.le_of_ble_eq_true rfl) d_Mo_meetAll_61 (fun v w' hp => ?_)
              obtain ⟨n11, mt11, rfl, rfl, hM11, hn11, hz11⟩ := hp
              show J l D b Y_Mo_meetAll _ _ (ad, cM ad r lp rf nr lf ln bd fd tm it wk dv ct nu mt11 x2 y2 td tt tc) 0 0 64 [(6, Value.int (iI (bz mo))), (5, Value.int (iI r')), (4, Value.int (iI n2)), (0, Value.ref (ad 0)), (1, Value.int (iI s)), (2, Value.int (iI i)), (3, Value.int (iI j))] [Value.int (iI n11), Value.int (iI n2)]
              refine J_goto (tgt := 68) d_Mo_meetAll_64 rfl ?_
              refine J_iadd d_Mo_meetAll_68 ?_
              refine J_istore d_Mo_meetAll_69 (by decide) rfl ?_
              refine J_aload_n d_Mo_meetAll_71 rfl 3 rfl ?_
              refine J_iload d_Mo_meetAll_72 2 rfl ?_
              refine J_iload_n d_Mo_meetAll_74 rfl 6 rfl ?_
              refine J_callV (st := []) [Value.int (iI r'), Value.int (iI j)] ms_Mo_136 rfl (c_Mo_nextCuts hg (by omega) (by omega) (by omega)) rfl rfl ⟨Nat.le_of_ble_eq_true rfl, Nat.le_of_ble_eq_true rfl⟩ ⟨Nat.le_of_ble_eq_true rfl, Nat.le_of_ble_eq_true rfl⟩ (Nat.le_of_ble_eq_true rfl) d_Mo_meetAll_75 (fun v w' hp => ?_)
              obtain ⟨m12, x12, y12, rfl, rfl, hN12⟩ := hp
              show J l D b Y_Mo_meetAll _ _ (ad, cM ad r lp rf nr lf ln bd fd tm it wk dv ct nu mt11 x12 y12 td tt tc) 0 0 78 [(4, Value.int (iI (n2 + n11))), (6, Value.int (iI (bz mo))), (5, Value.int (iI r')), (0, Value.ref (ad 0)), (1, Value.int (iI s)), (2, Value.int (iI i)), (3, Value.int (iI j))] [Value.int (iI (bz m12))]
              refine J_istore d_Mo_meetAll_78 (by decide) rfl ?_
              refine J_goto (tgt := 38) d_Mo_meetAll_80 rfl ?_
              refine J.sub [0, 2, 1, 3, 4, 5, 6] rfl ?_
              exact ih6 (m12, n2 + n11, x12, y12, mt11) (show (m12 = true → i ≤ x12 ∧ x12 ≤ y12 ∧ y12 ≤ j) ∧ (MI nr lf ln bd tm fd dv mt mt11 s i j (n2 + n11) (rs nr lf ln s i j m12 r' x12 y12)) by
                  have hN := ‹Nxt (ln r') j x2 y2 _ _ _›
                  rw [‹mo = true›, rs_nx hN (by omega)] at hI2
                  refine ⟨fun hm => nxt_rng hN hDt (by omega), ?_⟩
                  exact mi_yes hI2 ‹ME nr lf ln bd tm fd dv mt2 _ _› (by omega) ‹_›) (show (if m12 = true then (sfx (ln r') j x12 y12).length else 0) < (if mo = true then (sfx (ln r') j x2 y2).length else 0) by
                  rw [‹mo = true›, if_pos rfl, sfx_nx ‹Nxt (ln r') j x2 y2 _ _ _› (by omega), List.length_cons]
                  split
                  · exact Nat.lt_succ_self _
                  · exact Nat.succ_pos _)
        · show (false = true → i ≤ i ∧ i ≤ i ∧ i ≤ j) ∧ (MI nr lf ln bd tm fd dv mt mt1 s i j n (rs nr lf ln s i j false r' i i))
          refine ⟨(fun h => by cases h), ?_⟩
          rw [← rs_out (by omega) ‹_›]
          exact hI
      · refine J_iconst d_Mo_meetAll_26 ?_
        refine J_goto (tgt := 31) d_Mo_meetAll_27 rfl ?_
        refine J_istore d_Mo_meetAll_31 (by decide) rfl ?_
        refine J_aload_n d_Mo_meetAll_33 rfl 3 rfl ?_
        refine J_iload_n d_Mo_meetAll_34 rfl 5 rfl ?_
        refine J_callV (st := []) [Value.int (iI i)] ms_Mo_130 rfl (c_Mo_firstCuts) rfl rfl ⟨Nat.le_of_ble_eq_true rfl, Nat.le_of_ble_eq_true rfl⟩ ⟨Nat.le_of_ble_eq_true rfl, Nat.le_of_ble_eq_true rfl⟩ (Nat.le_of_ble_eq_true rfl) d_Mo_meetAll_35 (fun v w' hp => ?_)
        obtain ⟨rfl, rfl⟩ := hp
        show J l D b Y_Mo_meetAll _ _ (ad, cM ad r lp rf nr lf ln bd fd tm it wk dv ct nu mt1 i i td tt tc) 0 0 38 [(6, Value.int (iI 1)), (5, Value.int (iI r')), (4, Value.int (iI n)), (0, Value.ref (ad 0)), (1, Value.int (iI s)), (2, Value.int (iI i)), (3, Value.int (iI j))] []
        refine J.loop (σ := Bool × Int × Int × Int × (Int → Bool)) (fun xx_ => match xx_ with | (mo, n2, x2, y2, mt2) => (mo = true → i ≤ x2 ∧ x2 ≤ y2 ∧ y2 ≤ j) ∧ (MI nr lf ln bd tm fd dv mt mt2 s i j n2 (rs nr lf ln s i j mo r' x2 y2))) (fun xx_ => match xx_ with | (mo, n2, x2, y2, mt2) => if mo = true then (sfx (ln r') j x2 y2).length else 0) (ws := fun xx_ => match xx_ with | (mo, n2, x2, y2, mt2) => (ad, cM ad r lp rf nr lf ln bd fd tm it wk dv ct nu mt2 x2 y2 td tt tc)) (ks := fun _ => 0) (ns := fun _ => 0) (lvs := fun xx_ => match xx_ with | (mo, n2, x2, y2, mt2) => [(6, Value.int (iI (bz mo))), (5, Value.int (iI r')), (4, Value.int (iI n2)), (0, Value.ref (ad 0)), (1, Value.int (iI s)), (2, Value.int (iI i)), (3, Value.int (iI j))]) (sts := fun _ => []) ?_ (true, n, i, i, mt1) ?_
        · rintro ⟨mo, n2, x2, y2, mt2⟩ hI ih14
          have hI : (mo = true → i ≤ x2 ∧ x2 ≤ y2 ∧ y2 ≤ j) ∧ (MI nr lf ln bd tm fd dv mt mt2 s i j n2 (rs nr lf ln s i j mo r' x2 y2)) := hI
          obtain ⟨hD, hI2⟩ := hI
          show J l D b Y_Mo_meetAll _ _ (ad, cM ad r lp rf nr lf ln bd fd tm it wk dv ct nu mt2 x2 y2 td tt tc) 0 0 38 [(6, Value.int (iI (bz mo))), (5, Value.int (iI r')), (4, Value.int (iI n2)), (0, Value.ref (ad 0)), (1, Value.int (iI s)), (2, Value.int (iI i)), (3, Value.int (iI j))] []
          refine J_iload d_Mo_meetAll_38 0 rfl ?_
          refine J_ifB_eq (tgt := 83) d_Mo_meetAll_40 rfl (fun h40_15 => ?_) (fun h40_15 => ?_)
          · refine J_iinc (j := 1) d_Mo_meetAll_83 rfl (by decide) rfl ?_
            refine J_goto (tgt := 6) d_Mo_meetAll_86 rfl ?_
            refine J.sub [0, 2, 3, 4, 5, 6] rfl ?_
            exact ih1 (r' + 1, n2, x2, y2, mt2) (show (0 ≤ (r' + 1) ∧ (r' + 1) ≤ nr) ∧ (MI nr lf ln bd tm fd dv mt mt2 s i j n2 (wl nr lf ln s i j (r' + 1))) by
                refine ⟨by omega, ?_⟩
                rw [‹mo = false›, rs_f] at hI2
                exact hI2) (show ((nr - (r' + 1)).toNat) < ((nr - r').toNat) by
                omega)
          · have hDt := hD ‹_›
            have hlq := hg.2.2.1 r' (by omega) (by omega)
            refine J_iload d_Mo_meetAll_43 2 rfl ?_
            refine J_aload_n d_Mo_meetAll_45 rfl 3 rfl ?_
            refine J_iload d_Mo_meetAll_46 1 rfl ?_
            refine J_iload_n d_Mo_meetAll_48 rfl 5 rfl ?_
            refine J_iload_n d_Mo_meetAll_49 rfl 6 rfl ?_
            refine J_callV (st := [Value.int (iI n2)]) [Value.int (iI r'), Value.int (iI i), Value.int (iI j)] ms_Mo_133 rfl (c_Mo_isWay hg htm (by omega) (by omega) (by omega)) rfl rfl ⟨Nat.le_of_ble_eq_true rfl, Nat.le_of_ble_eq_true rfl⟩ ⟨Nat.le_of_ble_eq_true rfl, Nat.le_of_ble_eq_true rfl⟩ (Nat.le_of_ble_eq_true rfl) d_Mo_meetAll_50 (fun v w' hp => ?_)
            obtain ⟨rfl, rfl⟩ := hp
            show J l D b Y_Mo_meetAll _ _ (ad, cM ad r lp rf nr lf ln bd fd tm it wk dv ct nu mt2 x2 y2 td tt tc) 0 0 53 [(6, Value.int (iI (bz mo))), (5, Value.int (iI r')), (4, Value.int (iI n2)), (0, Value.ref (ad 0)), (1, Value.int (iI s)), (2, Value.int (iI i)), (3, Value.int (iI j))] [Value.int (iI (bz (wayB tm (dvT dv) (ln r') (bsM bd r') x2 y2 i j))), Value.int (iI n2)]
            refine J_ifB_eq (tgt := 67) d_Mo_meetAll_53 rfl (fun h53_17 => ?_) (fun h53_17 => ?_)
            · refine J_iconst d_Mo_meetAll_67 ?_
              refine J_iadd d_Mo_meetAll_68 ?_
              refine J_istore d_Mo_meetAll_69 (by decide) rfl ?_
              refine J_aload_n d_Mo_meetAll_71 rfl 3 rfl ?_
              refine J_iload d_Mo_meetAll_72 2 rfl ?_
              refine J_iload_n d_Mo_meetAll_74 rfl 6 rfl ?_
              refine J_callV (st := []) [Value.int (iI r'), Value.int (iI j)] ms_Mo_136 rfl (c_Mo_nextCuts hg (by omega) (by omega) (by omega)) rfl rfl ⟨Nat.le_of_ble_eq_true rfl, Nat.le_of_ble_eq_true rfl⟩ ⟨Nat.le_of_ble_eq_true rfl, Nat.le_of_ble_eq_true rfl⟩ (Nat.le_of_ble_eq_true rfl) d_Mo_meetAll_75 (fun v w' hp => ?_)
              obtain ⟨m18, x18, y18, rfl, rfl, hN18⟩ := hp
              show J l D b Y_Mo_meetAll _ _ (ad, cM ad r lp rf nr lf ln bd fd tm it wk dv ct nu mt2 x18 y18 td tt tc) 0 0 78 [(4, Value.int (iI (n2 + 0))), (6, Value.int (iI (bz mo))), (5, Value.int (iI r')), (0, Value.ref (ad 0)), (1, Value.int (iI s)), (2, Value.int (iI i)), (3, Value.int (iI j))] [Value.int (iI (bz m18))]
              refine J_istore d_Mo_meetAll_78 (by decide) rfl ?_
              refine J_goto (tgt := 38) d_Mo_meetAll_80 rfl ?_
              refine J.sub [0, 2, 1, 3, 4, 5, 6] rfl ?_
              exact ih14 (m18, n2 + 0, x18, y18, mt2) (show (m18 = true → i ≤ x18 ∧ x18 ≤ y18 ∧ y18 ≤ j) ∧ (MI nr lf ln bd tm fd dv mt mt2 s i j (n2 + 0) (rs nr lf ln s i j m18 r' x18 y18)) by
                  have hN := ‹Nxt (ln r') j x2 y2 _ _ _›
                  rw [‹mo = true›, rs_nx hN (by omega)] at hI2
                  refine ⟨fun hm => nxt_rng hN hDt (by omega), ?_⟩
                  rw [Int.add_zero]
                  exact mi_no hI2 ‹_›) (show (if m18 = true then (sfx (ln r') j x18 y18).length else 0) < (if mo = true then (sfx (ln r') j x2 y2).length else 0) by
                  rw [‹mo = true›, if_pos rfl, sfx_nx ‹Nxt (ln r') j x2 y2 _ _ _› (by omega), List.length_cons]
                  split
                  · exact Nat.lt_succ_self _
                  · exact Nat.succ_pos _)
            · have hm9 := hI2.2.2.1 (r', x2, y2) (by rw [‹mo = true›]; exact rs_mem (by omega))
              have hw9 := wl_mem _ 0 rfl _ hm9
              have hx9 : mt2 (169 * lf r' + 13 * i + j) = true := by
                rw [hw9.2.2.1]
                exact hI2.1.1 _ hx
              refine J_aload_n d_Mo_meetAll_56 rfl 3 rfl ?_
              refine J_iload d_Mo_meetAll_57 1 rfl ?_
              refine J_iload_n d_Mo_meetAll_59 rfl 5 rfl ?_
              refine J_iload_n d_Mo_meetAll_60 rfl 6 rfl ?_
              refine J_callV (st := [Value.int (iI n2)]) [Value.int (iI r'), Value.int (iI i), Value.int (iI j)] ms_Mo_170 rfl (c_Mo_meet hg (by omega) (by omega) (by omega) (by omega) hx9 ‹_› hw9.2.2.2) rfl rfl ⟨Nat.le_of_ble_eq_true rfl, Nat.le_of_ble_eq_true rfl⟩ ⟨Nat.le_of_ble_eq_true rfl, Nat.le_of_ble_eq_true rfl⟩ (Nat.le_of_ble_eq_true rfl) d_Mo_meetAll_61 (fun v w' hp => ?_)
              obtain ⟨n19, mt19, rfl, rfl, hM19, hn19, hz19⟩ := hp
              show J l D b Y_Mo_meetAll _ _ (ad, cM ad r lp rf nr lf ln bd fd tm it wk dv ct nu mt19 x2 y2 td tt tc) 0 0 64 [(6, Value.int (iI (bz mo))), (5, Value.int (iI r')), (4, Value.int (iI n2)), (0, Value.ref (ad 0)), (1, Value.int (iI s)), (2, Value.int (iI i)), (3, Value.int (iI j))] [Value.int (iI n19), Value.int (iI n2)]
              refine J_goto (tgt := 68) d_Mo_meetAll_64 rfl ?_
              refine J_iadd d_Mo_meetAll_68 ?_
              refine J_istore d_Mo_meetAll_69 (by decide) rfl ?_
              refine J_aload_n d_Mo_meetAll_71 rfl 3 rfl ?_
              refine J_iload d_Mo_meetAll_72 2 rfl ?_
              refine J_iload_n d_Mo_meetAll_74 rfl 6 rfl ?_
              refine J_callV (st := []) [Value.int (iI r'), Value.int (iI j)] ms_Mo_136 rfl (c_Mo_nextCuts hg (by omega) (by omega) (by omega)) rfl rfl ⟨Nat.le_of_ble_eq_true rfl, Nat.le_of_ble_eq_true rfl⟩ ⟨Nat.le_of_ble_eq_true rfl, Nat.le_of_ble_eq_true rfl⟩ (Nat.le_of_ble_eq_true rfl) d_Mo_meetAll_75 (fun v w' hp => ?_)
              obtain ⟨m20, x20, y20, rfl, rfl, hN20⟩ := hp
              show J l D b Y_Mo_meetAll _ _ (ad, cM ad r lp rf nr lf ln bd fd tm it wk dv ct nu mt19 x20 y20 td tt tc) 0 0 78 [(4, Value.int (iI (n2 + n19))), (6, Value.int (iI (bz mo))), (5, Value.int (iI r')), (0, Value.ref (ad 0)), (1, Value.int (iI s)), (2, Value.int (iI i)), (3, Value.int (iI j))] [Value.int (iI (bz m20))]
              refine J_istore d_Mo_meetAll_78 (by decide) rfl ?_
              refine J_goto (tgt := 38) d_Mo_meetAll_80 rfl ?_
              refine J.sub [0, 2, 1, 3, 4, 5, 6] rfl ?_
              exact ih14 (m20, n2 + n19, x20, y20, mt19) (show (m20 = true → i ≤ x20 ∧ x20 ≤ y20 ∧ y20 ≤ j) ∧ (MI nr lf ln bd tm fd dv mt mt19 s i j (n2 + n19) (rs nr lf ln s i j m20 r' x20 y20)) by
                  have hN := ‹Nxt (ln r') j x2 y2 _ _ _›
                  rw [‹mo = true›, rs_nx hN (by omega)] at hI2
                  refine ⟨fun hm => nxt_rng hN hDt (by omega), ?_⟩
                  exact mi_yes hI2 ‹ME nr lf ln bd tm fd dv mt2 _ _› (by omega) ‹_›) (show (if m20 = true then (sfx (ln r') j x20 y20).length else 0) < (if mo = true then (sfx (ln r') j x2 y2).length else 0) by
                  rw [‹mo = true›, if_pos rfl, sfx_nx ‹Nxt (ln r') j x2 y2 _ _ _› (by omega), List.length_cons]
                  split
                  · exact Nat.lt_succ_self _
                  · exact Nat.succ_pos _)
        · show (true = true → i ≤ i ∧ i ≤ i ∧ i ≤ j) ∧ (MI nr lf ln bd tm fd dv mt mt1 s i j n (rs nr lf ln s i j true r' i i))
          refine ⟨fun _ => by omega, ?_⟩
          rw [← rs_in (by omega) ‹_›]
          exact hI
  · show (0 ≤ (0 : Int) ∧ (0 : Int) ≤ nr) ∧ (MI nr lf ln bd tm fd dv mt mt s i j (0 : Int) (wl nr lf ln s i j (0 : Int)))
    exact ⟨by omega, mi_0⟩
set_option maxHeartbeats 4000000 in
theorem c_Mo_nodes  (hg : gOK nr lf ln bd) (htm : ∀ x, 0 ≤ x → x < 12 → -2147483648 ≤ tm x ∧ tm x ≤ 2147483647) (hf : 0 ≤ fd ∧ fd ≤ 12) (hwk : wk = true → Wkd nr lf ln bd tm fd dv ct nu) : Ct l D b Y_Mo_nodes { frames := 6, cells := 0, slots := 0, locals := 149 } [Value.ref (ad 0)] (ad, cM ad r lp rf nr lf ln bd fd tm it wk dv ct nu mt c1 c2 td tt tc) (fun v w' => ∃ z dv' ct' nu' d1 d2 mt', v = some (.int (iI z)) ∧ w' = (ad, cM ad r lp 0 nr lf ln bd fd tm it true dv' ct' nu' mt' d1 d2 td tt tc) ∧ Wkd nr lf ln bd tm fd dv' ct' nu' ∧ ((dv' (169 * 0 + 13 * 0 + fd) = false ∧ z = 0) ∨ (dv' (169 * 0 + 13 * 0 + fd) = true ∧ MetL nr lf ln bd tm fd dv' (upI (fun _ => false) (169 * 0 + 13 * 0 + fd) true) mt' ∧ z = cnt mt' 845))) := by
  refine Ct_of (by decide) (Nat.le_of_ble_eq_true rfl) ?_
  have hg1 := hg.1
  show J l D b Y_Mo_nodes _ _ (ad, cM ad r lp rf nr lf ln bd fd tm it wk dv ct nu mt c1 c2 td tt tc) 0 0 0 [(0, Value.ref (ad 0))] []
  refine J_aload_n d_Mo_nodes_0 rfl 0 rfl ?_
  refine J_iconst d_Mo_nodes_1 ?_
  refine J_put fs_Mo_53 rfl (Nat.le_of_ble_eq_true rfl) (fun _ h => by cases h; exact Or.inl rfl) rfl rfl uM_obj d_Mo_nodes_2 ?_
  refine J_aload_n d_Mo_nodes_5 rfl 0 rfl ?_
  refine J_callV (st := []) [] ms_Mo_164 rfl (c_Mo_work hg htm (by omega) hwk) rfl rfl ⟨Nat.le_of_ble_eq_true rfl, Nat.le_of_ble_eq_true rfl⟩ ⟨Nat.le_of_ble_eq_true rfl, Nat.le_of_ble_eq_true rfl⟩ (Nat.le_of_ble_eq_true rfl) d_Mo_nodes_6 (fun v w' hp => ?_)
  obtain ⟨rfl, dvV, ctV, nuV, xV, yV, rfl, hWV⟩ := hp
  show J l D b Y_Mo_nodes _ _ (ad, cM ad r lp 0 nr lf ln bd fd tm it true dvV ctV nuV mt xV yV td tt tc) 0 0 9 [(0, Value.ref (ad 0))] []
  refine J_aload_n d_Mo_nodes_9 rfl 0 rfl ?_
  refine J_get fs_Mo_26 rfl rfl d_Mo_nodes_10 ?_
  refine J_iconst d_Mo_nodes_13 ?_
  refine J_iconst d_Mo_nodes_14 ?_
  refine J_aload_n d_Mo_nodes_15 rfl 0 rfl ?_
  refine J_get fs_Mo_97 rfl rfl d_Mo_nodes_16 ?_
  refine J_callS (st := [Value.ref (ad 6)]) [Value.int (iI 0), Value.int (iI 0), Value.int (iI fd)] ms_Mo_113 (c_Mo_node) rfl rfl ⟨Nat.le_of_ble_eq_true rfl, Nat.le_of_ble_eq_true rfl⟩ ⟨Nat.le_of_ble_eq_true rfl, Nat.le_of_ble_eq_true rfl⟩ (Nat.le_of_ble_eq_true rfl) d_Mo_nodes_19 (fun v w' hp => ?_)
  obtain ⟨rfl, rfl⟩ := hp
  show J l D b Y_Mo_nodes _ _ (ad, cM ad r lp 0 nr lf ln bd fd tm it true dvV ctV nuV mt xV yV td tt tc) 0 0 22 [(0, Value.ref (ad 0))] [Value.int (iI (169 * 0 + 13 * 0 + fd)), Value.ref (ad 6)]
  refine J_zald rfl (by omega) (by decide) d_Mo_nodes_22 ?_
  refine J_ifB_ne (tgt := 28) d_Mo_nodes_23 rfl (fun h23_3 => ?_) (fun h23_3 => ?_)
  · refine J_iconst d_Mo_nodes_28 ?_
    refine J_istore_n d_Mo_nodes_29 rfl (by decide) rfl ?_
    refine J.loop (σ := Int × (Int → Bool)) (fun xx_ => match xx_ with | (k, mt0) => (0 ≤ k ∧ k ≤ 845) ∧ (mt0 = clr0 mt k)) (fun xx_ => match xx_ with | (k, mt0) => (845 - k).toNat) (ws := fun xx_ => match xx_ with | (k, mt0) => (ad, cM ad r lp 0 nr lf ln bd fd tm it true dvV ctV nuV mt0 xV yV td tt tc)) (ks := fun _ => 0) (ns := fun _ => 0) (lvs := fun xx_ => match xx_ with | (k, mt0) => [(1, Value.int (iI k)), (0, Value.ref (ad 0))]) (sts := fun _ => []) ?_ (0, mt) ?_
    · rintro ⟨k, mt0⟩ hI ih4
      have hI : (0 ≤ k ∧ k ≤ 845) ∧ (mt0 = clr0 mt k) := hI
      obtain ⟨hk, hc0⟩ := hI
      show J l D b Y_Mo_nodes _ _ (ad, cM ad r lp 0 nr lf ln bd fd tm it true dvV ctV nuV mt0 xV yV td tt tc) 0 0 30 [(1, Value.int (iI k)), (0, Value.ref (ad 0))] []
      refine J_iload_n d_Mo_nodes_30 rfl 0 rfl ?_
      refine J_sipush d_Mo_nodes_31 (by decide) ?_
      refine J_icmp_ge (tgt := 50) d_Mo_nodes_34 rfl (by omega) (by omega) (fun h34_5 => ?_) (fun h34_5 => ?_)
      · have hk845 : k = 845 := by omega
        refine J.cell (i := 9) (g := fun j => Value.int (iI (bz ((fun _ => false) j)))) rfl (fun j a1 a2 => by rw [hc0, hk845]; unfold clr0; rw [if_pos (by omega)]) uM_mt ?_
        refine J_aload_n d_Mo_nodes_50 rfl 1 rfl ?_
        refine J_get fs_Mo_36 rfl rfl d_Mo_nodes_51 ?_
        refine J_iconst d_Mo_nodes_54 ?_
        refine J_iconst d_Mo_nodes_55 ?_
        refine J_aload_n d_Mo_nodes_56 rfl 1 rfl ?_
        refine J_get fs_Mo_97 rfl rfl d_Mo_nodes_57 ?_
        refine J_callS (st := [Value.ref (ad 9)]) [Value.int (iI 0), Value.int (iI 0), Value.int (iI fd)] ms_Mo_113 (c_Mo_node) rfl rfl ⟨Nat.le_of_ble_eq_true rfl, Nat.le_of_ble_eq_true rfl⟩ ⟨Nat.le_of_ble_eq_true rfl, Nat.le_of_ble_eq_true rfl⟩ (Nat.le_of_ble_eq_true rfl) d_Mo_nodes_60 (fun v w' hp => ?_)
        obtain ⟨rfl, rfl⟩ := hp
        show J l D b Y_Mo_nodes _ _ (ad, cM ad r lp 0 nr lf ln bd fd tm it true dvV ctV nuV (fun _ => false) xV yV td tt tc) 0 0 63 [(1, Value.int (iI k)), (0, Value.ref (ad 0))] [Value.int (iI (169 * 0 + 13 * 0 + fd)), Value.ref (ad 9)]
        refine J_iconst d_Mo_nodes_63 ?_
        refine J.top (show Value.int (iI 1) = Value.int (iI (bz true)) from rfl) ?_
        refine J_zast rfl (by omega) (by decide) uM_mt d_Mo_nodes_64 ?_
        refine J_iconst d_Mo_nodes_65 ?_
        refine J_istore_n d_Mo_nodes_66 rfl (by decide) rfl ?_
        refine J.loop (σ := Bool × (Int → Bool) × Int × Int) (fun xx_ => match xx_ with | (mo, mt1, x1, y1) => (∀ x, (upI (fun _ => false) (169 * 0 + 13 * 0 + fd) true) x = true → mt1 x = true) ∧ (MSn nr lf ln bd tm fd dvV (upI (fun _ => false) (169 * 0 + 13 * 0 + fd) true) mt1) ∧ (mo = false → MCl nr lf ln bd tm fd dvV mt1)) (fun xx_ => match xx_ with | (mo, mt1, x1, y1) => (845 - cnt mt1 845).toNat + (if mo = true then 1 else 0)) (ws := fun xx_ => match xx_ with | (mo, mt1, x1, y1) => (ad, cM ad r lp 0 nr lf ln bd fd tm it true dvV ctV nuV mt1 x1 y1 td tt tc)) (ks := fun _ => 0) (ns := fun _ => 0) (lvs := fun xx_ => match xx_ with | (mo, mt1, x1, y1) => [(1, Value.int (iI (bz mo))), (0, Value.ref (ad 0))]) (sts := fun _ => []) ?_ (true, upI (fun _ => false) (169 * 0 + 13 * 0 + fd) true, xV, yV) ?_
        · rintro ⟨mo, mt1, x1, y1⟩ hI ih7
          have hI : (∀ x, (upI (fun _ => false) (169 * 0 + 13 * 0 + fd) true) x = true → mt1 x = true) ∧ (MSn nr lf ln bd tm fd dvV (upI (fun _ => false) (169 * 0 + 13 * 0 + fd) true) mt1) ∧ (mo = false → MCl nr lf ln bd tm fd dvV mt1) := hI
          obtain ⟨hX, hS, hC⟩ := hI
          show J l D b Y_Mo_nodes _ _ (ad, cM ad r lp 0 nr lf ln bd fd tm it true dvV ctV nuV mt1 x1 y1 td tt tc) 0 0 67 [(1, Value.int (iI (bz mo))), (0, Value.ref (ad 0))] []
          refine J_iload_n d_Mo_nodes_67 rfl 0 rfl ?_
          refine J_ifB_eq (tgt := 144) d_Mo_nodes_68 rfl (fun h68_8 => ?_) (fun h68_8 => ?_)
          · refine J_iconst d_Mo_nodes_144 ?_
            refine J_istore_n d_Mo_nodes_145 rfl (by decide) rfl ?_
            refine J_iconst d_Mo_nodes_146 ?_
            refine J_istore_n d_Mo_nodes_147 rfl (by decide) rfl ?_
            refine J.loop (σ := Int × Int) (fun xx_ => match xx_ with | (k, n) => (0 ≤ k ∧ k ≤ 845) ∧ (n = cnt mt1 k)) (fun xx_ => match xx_ with | (k, n) => (845 - k).toNat) (ws := fun xx_ => match xx_ with | (k, n) => (ad, cM ad r lp 0 nr lf ln bd fd tm it true dvV ctV nuV mt1 x1 y1 td tt tc)) (ks := fun _ => 0) (ns := fun _ => 0) (lvs := fun xx_ => match xx_ with | (k, n) => [(3, Value.int (iI k)), (2, Value.int (iI n)), (1, Value.int (iI (bz mo))), (0, Value.ref (ad 0))]) (sts := fun _ => []) ?_ (0, 0) ?_
            · rintro ⟨k, n⟩ hI ih9
              have hI : (0 ≤ k ∧ k ≤ 845) ∧ (n = cnt mt1 k) := hI
              obtain ⟨hk, hn⟩ := hI
              show J l D b Y_Mo_nodes _ _ (ad, cM ad r lp 0 nr lf ln bd fd tm it true dvV ctV nuV mt1 x1 y1 td tt tc) 0 0 148 [(3, Value.int (iI k)), (2, Value.int (iI n)), (1, Value.int (iI (bz mo))), (0, Value.ref (ad 0))] []
              refine J_iload_n d_Mo_nodes_148 rfl 0 rfl ?_
              refine J_sipush d_Mo_nodes_149 (by decide) ?_
              refine J_icmp_ge (tgt := 178) d_Mo_nodes_152 rfl (by omega) (by omega) (fun h152_10 => ?_) (fun h152_10 => ?_)
              · refine J_iload_n d_Mo_nodes_178 rfl 1 rfl ?_
                refine J_iret rfl d_Mo_nodes_179 ⟨Nat.le_of_ble_eq_true rfl, Nat.le_of_ble_eq_true rfl⟩ ?_
                exact ⟨_, _, _, _, _, _, _, rfl, rfl, ‹_›, Or.inr ⟨‹_›, ⟨hX, hC ‹_›, hS⟩, by rw [hn, show k = 845 by omega]⟩⟩
              · refine J_iload_n d_Mo_nodes_155 rfl 1 rfl ?_
                refine J_aload_n d_Mo_nodes_156 rfl 3 rfl ?_
                refine J_get fs_Mo_36 rfl rfl d_Mo_nodes_157 ?_
                refine J_iload_n d_Mo_nodes_160 rfl 0 rfl ?_
                refine J_zald rfl (by omega) (by decide) d_Mo_nodes_161 ?_
                refine J_ifB_eq (tgt := 169) d_Mo_nodes_162 rfl (fun h162_11 => ?_) (fun h162_11 => ?_)
                · refine J_iconst d_Mo_nodes_169 ?_
                  refine J_iadd d_Mo_nodes_170 ?_
                  refine J_istore_n d_Mo_nodes_171 rfl (by decide) rfl ?_
                  refine J_iinc (j := 1) d_Mo_nodes_172 rfl (by decide) rfl ?_
                  refine J_goto (tgt := 148) d_Mo_nodes_175 rfl ?_
                  exact ih9 (k + 1, n + 0) (show (0 ≤ (k + 1) ∧ (k + 1) ≤ 845) ∧ ((n + 0) = cnt mt1 (k + 1)) by
                      refine ⟨by omega, ?_⟩
                      rw [cnt_s _ (by omega), hn]
                      first
                        | (rw [if_pos ‹mt1 k = true›]; done)
                        | (rw [if_neg (show ¬ mt1 k = true by rw [‹mt1 k = false›]; decide), Int.add_zero]; done)) (show ((845 - (k + 1)).toNat) < ((845 - k).toNat) by
                      omega)
                · refine J_iconst d_Mo_nodes_165 ?_
                  refine J_goto (tgt := 170) d_Mo_nodes_166 rfl ?_
                  refine J_iadd d_Mo_nodes_170 ?_
                  refine J_istore_n d_Mo_nodes_171 rfl (by decide) rfl ?_
                  refine J_iinc (j := 1) d_Mo_nodes_172 rfl (by decide) rfl ?_
                  refine J_goto (tgt := 148) d_Mo_nodes_175 rfl ?_
                  exact ih9 (k + 1, n + 1) (show (0 ≤ (k + 1) ∧ (k + 1) ≤ 845) ∧ ((n + 1) = cnt mt1 (k + 1)) by
                      refine ⟨by omega, ?_⟩
                      rw [cnt_s _ (by omega), hn]
                      first
                        | (rw [if_pos ‹mt1 k = true›]; done)
                        | (rw [if_neg (show ¬ mt1 k = true by rw [‹mt1 k = false›]; decide), Int.add_zero]; done)) (show ((845 - (k + 1)).toNat) < ((845 - k).toNat) by
                      omega)
            · show (0 ≤ (0 : Int) ∧ (0 : Int) ≤ 845) ∧ ((0 : Int) = cnt mt1 (0 : Int))
              exact ⟨by omega, rfl⟩
          · refine J_iconst d_Mo_nodes_71 ?_
            refine J_istore_n d_Mo_nodes_72 rfl (by decide) rfl ?_
            refine J_iconst d_Mo_nodes_73 ?_
            refine J_istore_n d_Mo_nodes_74 rfl (by decide) rfl ?_
            refine J.loop (σ := Int × Bool × (Int → Bool) × Int × Int) (fun xx_ => match xx_ with | (k, mo2, mt2, x2, y2) => (0 ≤ k ∧ k ≤ 845) ∧ (PN nr lf ln bd tm fd dvV (upI (fun _ => false) (169 * 0 + 13 * 0 + fd) true) mt1 mt2 mo2 k)) (fun xx_ => match xx_ with | (k, mo2, mt2, x2, y2) => (845 - k).toNat) (ws := fun xx_ => match xx_ with | (k, mo2, mt2, x2, y2) => (ad, cM ad r lp 0 nr lf ln bd fd tm it true dvV ctV nuV mt2 x2 y2 td tt tc)) (ks := fun _ => 0) (ns := fun _ => 0) (lvs := fun xx_ => match xx_ with | (k, mo2, mt2, x2, y2) => [(2, Value.int (iI k)), (1, Value.int (iI (bz mo2))), (0, Value.ref (ad 0))]) (sts := fun _ => []) ?_ (0, false, mt1, x1, y1) ?_
            · rintro ⟨k, mo2, mt2, x2, y2⟩ hI ih12
              have hI : (0 ≤ k ∧ k ≤ 845) ∧ (PN nr lf ln bd tm fd dvV (upI (fun _ => false) (169 * 0 + 13 * 0 + fd) true) mt1 mt2 mo2 k) := hI
              obtain ⟨hk, hP⟩ := hI
              show J l D b Y_Mo_nodes _ _ (ad, cM ad r lp 0 nr lf ln bd fd tm it true dvV ctV nuV mt2 x2 y2 td tt tc) 0 0 75 [(2, Value.int (iI k)), (1, Value.int (iI (bz mo2))), (0, Value.ref (ad 0))] []
              refine J_iload_n d_Mo_nodes_75 rfl 0 rfl ?_
              refine J_sipush d_Mo_nodes_76 (by decide) ?_
              refine J_icmp_ge (tgt := 141) d_Mo_nodes_79 rfl (by omega) (by omega) (fun h79_13 => ?_) (fun h79_13 => ?_)
              · refine J_goto (tgt := 67) d_Mo_nodes_141 rfl ?_
                refine J.sub [1, 2] rfl ?_
                exact ih7 (mo2, mt2, x2, y2) (show (∀ x, (upI (fun _ => false) (169 * 0 + 13 * 0 + fd) true) x = true → mt2 x = true) ∧ (MSn nr lf ln bd tm fd dvV (upI (fun _ => false) (169 * 0 + 13 * 0 + fd) true) mt2) ∧ (mo2 = false → MCl nr lf ln bd tm fd dvV mt2) by
                    exact ⟨fun x h => hP.1 x (hX x h), hP.2.1, fun h => pn_cl hP (by omega) h⟩) (show ((845 - cnt mt2 845).toNat + (if mo2 = true then 1 else 0)) < ((845 - cnt mt1 845).toNat + (if mo = true then 1 else 0)) by
                    rw [show mo = true by assumption]
                    exact pn_mu hP)
              · refine J_aload_n d_Mo_nodes_82 rfl 2 rfl ?_
                refine J_get fs_Mo_36 rfl rfl d_Mo_nodes_83 ?_
                refine J_iload_n d_Mo_nodes_86 rfl 0 rfl ?_
                refine J_zald rfl (by omega) (by decide) d_Mo_nodes_87 ?_
                refine J_ifB_eq (tgt := 119) d_Mo_nodes_88 rfl (fun h88_14 => ?_) (fun h88_14 => ?_)
                · refine J_iconst d_Mo_nodes_119 ?_
                  refine J_istore_n d_Mo_nodes_120 rfl (by decide) rfl ?_
                  refine J_iload_n d_Mo_nodes_121 rfl 2 rfl ?_
                  refine J_ifB_ne (tgt := 129) d_Mo_nodes_122 rfl (fun h122_15 => ?_) (fun h122_15 => ?_)
                  · refine J_iconst d_Mo_nodes_129 ?_
                    refine J_goto (tgt := 134) d_Mo_nodes_130 rfl ?_
                    refine J_istore_n d_Mo_nodes_134 rfl (by decide) rfl ?_
                    refine J_iinc (j := 2) d_Mo_nodes_135 rfl (by decide) rfl ?_
                    refine J_goto (tgt := 75) d_Mo_nodes_138 rfl ?_
                    refine J.sub [0, 1, 3] rfl ?_
                    exact ih12 (k + 1, true, mt2, x2, y2) (show (0 ≤ (k + 1) ∧ (k + 1) ≤ 845) ∧ (PN nr lf ln bd tm fd dvV (upI (fun _ => false) (169 * 0 + 13 * 0 + fd) true) mt1 mt2 true (k + 1)) by
                        have h9 := pn_skip hP ‹_›
                        first
                          | (rw [‹mo2 = true›] at h9; exact ⟨by omega, h9⟩)
                          | (rw [‹mo2 = false›] at h9; exact ⟨by omega, h9⟩)) (show ((845 - (k + 1)).toNat) < ((845 - k).toNat) by
                        omega)
                  · refine J_iload_n d_Mo_nodes_125 rfl 0 rfl ?_
                    refine J_if_eq (tgt := 133) d_Mo_nodes_126 rfl (by omega) (fun h126_16 => ?_) (fun h126_16 => ?_)
                    · refine J_iconst d_Mo_nodes_133 ?_
                      refine J_istore_n d_Mo_nodes_134 rfl (by decide) rfl ?_
                      refine J_iinc (j := 2) d_Mo_nodes_135 rfl (by decide) rfl ?_
                      refine J_goto (tgt := 75) d_Mo_nodes_138 rfl ?_
                      refine J.sub [0, 1, 3] rfl ?_
                      exact ih12 (k + 1, false, mt2, x2, y2) (show (0 ≤ (k + 1) ∧ (k + 1) ≤ 845) ∧ (PN nr lf ln bd tm fd dvV (upI (fun _ => false) (169 * 0 + 13 * 0 + fd) true) mt1 mt2 false (k + 1)) by
                          have h9 := pn_skip hP ‹_›
                          first
                            | (rw [‹mo2 = true›] at h9; exact ⟨by omega, h9⟩)
                            | (rw [‹mo2 = false›] at h9; exact ⟨by omega, h9⟩)) (show ((845 - (k + 1)).toNat) < ((845 - k).toNat) by
                          omega)
                    · exact absurd h126_16 (by decide)
                · have hv9 := ms_valid hg hf hP.2.1 ‹_›
                  unfold vN at hv9
                  have hxe : 169 * (k / 169) + 13 * (k % 169 / 13) + k % 13 = k := by omega
                  refine J_aload_n d_Mo_nodes_91 rfl 2 rfl ?_
                  refine J_iload_n d_Mo_nodes_92 rfl 0 rfl ?_
                  refine J_sipush d_Mo_nodes_93 (by decide) ?_
                  refine J_idiv d_Mo_nodes_96 (by omega) (by omega) ?_
                  refine J_iload_n d_Mo_nodes_97 rfl 0 rfl ?_
                  refine J_sipush d_Mo_nodes_98 (by decide) ?_
                  refine J_irem d_Mo_nodes_101 (by omega) (by omega) ?_
                  refine J_bipush d_Mo_nodes_102 (by decide) ?_
                  refine J_idiv d_Mo_nodes_104 (by omega) (by omega) ?_
                  refine J_iload_n d_Mo_nodes_105 rfl 0 rfl ?_
                  refine J_bipush d_Mo_nodes_106 (by decide) ?_
                  refine J_irem d_Mo_nodes_108 (by omega) (by omega) ?_
                  refine J_callV (st := []) [Value.int (iI (k / 169)), Value.int (iI ((k % 169) / 13)), Value.int (iI (k % 13))] ms_Mo_173 rfl (c_Mo_meetAll hg htm (by omega) (by omega) (by omega) (by rw [hxe]; assumption)) rfl rfl ⟨Nat.le_of_ble_eq_true rfl, Nat.le_of_ble_eq_true rfl⟩ ⟨Nat.le_of_ble_eq_true rfl, Nat.le_of_ble_eq_true rfl⟩ (Nat.le_of_ble_eq_true rfl) d_Mo_nodes_109 (fun v w' hp => ?_)
                  obtain ⟨e17, mt17, x17, y17, rfl, rfl, n17, hM17, he17, hz17⟩ := hp
                  show J l D b Y_Mo_nodes _ _ (ad, cM ad r lp 0 nr lf ln bd fd tm it true dvV ctV nuV mt17 x17 y17 td tt tc) 0 0 112 [(2, Value.int (iI k)), (1, Value.int (iI (bz mo2))), (0, Value.ref (ad 0))] [Value.int (iI (bz e17))]
                  refine J_ifB_eq (tgt := 119) d_Mo_nodes_112 rfl (fun h112_18 => ?_) (fun h112_18 => ?_)
                  · refine J_iconst d_Mo_nodes_119 ?_
                    refine J_istore_n d_Mo_nodes_120 rfl (by decide) rfl ?_
                    refine J_iload_n d_Mo_nodes_121 rfl 2 rfl ?_
                    refine J_ifB_ne (tgt := 129) d_Mo_nodes_122 rfl (fun h122_19 => ?_) (fun h122_19 => ?_)
                    · refine J_iconst d_Mo_nodes_129 ?_
                      refine J_goto (tgt := 134) d_Mo_nodes_130 rfl ?_
                      refine J_istore_n d_Mo_nodes_134 rfl (by decide) rfl ?_
                      refine J_iinc (j := 2) d_Mo_nodes_135 rfl (by decide) rfl ?_
                      refine J_goto (tgt := 75) d_Mo_nodes_138 rfl ?_
                      refine J.sub [0, 1, 3] rfl ?_
                      exact ih12 (k + 1, true, mt17, x17, y17) (show (0 ≤ (k + 1) ∧ (k + 1) ≤ 845) ∧ (PN nr lf ln bd tm fd dvV (upI (fun _ => false) (169 * 0 + 13 * 0 + fd) true) mt1 mt17 true (k + 1)) by
                          have h9 := pn_step hP hM17 he17 hz17
                          first
                            | (rw [‹mo2 = true›] at h9; exact ⟨by omega, h9⟩)
                            | (rw [‹mo2 = false›, ‹e17 = true›] at h9; exact ⟨by omega, h9⟩)
                            | (rw [‹mo2 = false›, ‹e17 = false›] at h9; exact ⟨by omega, h9⟩)) (show ((845 - (k + 1)).toNat) < ((845 - k).toNat) by
                          omega)
                    · refine J_iload_n d_Mo_nodes_125 rfl 0 rfl ?_
                      refine J_if_eq (tgt := 133) d_Mo_nodes_126 rfl (by omega) (fun h126_20 => ?_) (fun h126_20 => ?_)
                      · refine J_iconst d_Mo_nodes_133 ?_
                        refine J_istore_n d_Mo_nodes_134 rfl (by decide) rfl ?_
                        refine J_iinc (j := 2) d_Mo_nodes_135 rfl (by decide) rfl ?_
                        refine J_goto (tgt := 75) d_Mo_nodes_138 rfl ?_
                        refine J.sub [0, 1, 3] rfl ?_
                        exact ih12 (k + 1, false, mt17, x17, y17) (show (0 ≤ (k + 1) ∧ (k + 1) ≤ 845) ∧ (PN nr lf ln bd tm fd dvV (upI (fun _ => false) (169 * 0 + 13 * 0 + fd) true) mt1 mt17 false (k + 1)) by
                            have h9 := pn_step hP hM17 he17 hz17
                            first
                              | (rw [‹mo2 = true›] at h9; exact ⟨by omega, h9⟩)
                              | (rw [‹mo2 = false›, ‹e17 = true›] at h9; exact ⟨by omega, h9⟩)
                              | (rw [‹mo2 = false›, ‹e17 = false›] at h9; exact ⟨by omega, h9⟩)) (show ((845 - (k + 1)).toNat) < ((845 - k).toNat) by
                            omega)
                      · exact absurd h126_20 (by decide)
                  · refine J_iconst d_Mo_nodes_115 ?_
                    refine J_goto (tgt := 120) d_Mo_nodes_116 rfl ?_
                    refine J_istore_n d_Mo_nodes_120 rfl (by decide) rfl ?_
                    refine J_iload_n d_Mo_nodes_121 rfl 2 rfl ?_
                    refine J_ifB_ne (tgt := 129) d_Mo_nodes_122 rfl (fun h122_21 => ?_) (fun h122_21 => ?_)
                    · refine J_iconst d_Mo_nodes_129 ?_
                      refine J_goto (tgt := 134) d_Mo_nodes_130 rfl ?_
                      refine J_istore_n d_Mo_nodes_134 rfl (by decide) rfl ?_
                      refine J_iinc (j := 2) d_Mo_nodes_135 rfl (by decide) rfl ?_
                      refine J_goto (tgt := 75) d_Mo_nodes_138 rfl ?_
                      refine J.sub [0, 1, 3] rfl ?_
                      exact ih12 (k + 1, true, mt17, x17, y17) (show (0 ≤ (k + 1) ∧ (k + 1) ≤ 845) ∧ (PN nr lf ln bd tm fd dvV (upI (fun _ => false) (169 * 0 + 13 * 0 + fd) true) mt1 mt17 true (k + 1)) by
                          have h9 := pn_step hP hM17 he17 hz17
                          first
                            | (rw [‹mo2 = true›] at h9; exact ⟨by omega, h9⟩)
                            | (rw [‹mo2 = false›, ‹e17 = true›] at h9; exact ⟨by omega, h9⟩)
                            | (rw [‹mo2 = false›, ‹e17 = false›] at h9; exact ⟨by omega, h9⟩)) (show ((845 - (k + 1)).toNat) < ((845 - k).toNat) by
                          omega)
                    · refine J_iload_n d_Mo_nodes_125 rfl 0 rfl ?_
                      refine J_if_eq (tgt := 133) d_Mo_nodes_126 rfl (by omega) (fun h126_22 => ?_) (fun h126_22 => ?_)
                      · exact absurd h126_22 (by decide)
                      · refine J_iconst d_Mo_nodes_129 ?_
                        refine J_goto (tgt := 134) d_Mo_nodes_130 rfl ?_
                        refine J_istore_n d_Mo_nodes_134 rfl (by decide) rfl ?_
                        refine J_iinc (j := 2) d_Mo_nodes_135 rfl (by decide) rfl ?_
                        refine J_goto (tgt := 75) d_Mo_nodes_138 rfl ?_
                        refine J.sub [0, 1, 3] rfl ?_
                        exact ih12 (k + 1, true, mt17, x17, y17) (show (0 ≤ (k + 1) ∧ (k + 1) ≤ 845) ∧ (PN nr lf ln bd tm fd dvV (upI (fun _ => false) (169 * 0 + 13 * 0 + fd) true) mt1 mt17 true (k + 1)) by
                            have h9 := pn_step hP hM17 he17 hz17
                            first
                              | (rw [‹mo2 = true›] at h9; exact ⟨by omega, h9⟩)
                              | (rw [‹mo2 = false›, ‹e17 = true›] at h9; exact ⟨by omega, h9⟩)
                              | (rw [‹mo2 = false›, ‹e17 = false›] at h9; exact ⟨by omega, h9⟩)) (show ((845 - (k + 1)).toNat) < ((845 - k).toNat) by
                            omega)
            · show (0 ≤ (0 : Int) ∧ (0 : Int) ≤ 845) ∧ (PN nr lf ln bd tm fd dvV (upI (fun _ => false) (169 * 0 + 13 * 0 + fd) true) mt1 mt1 false (0 : Int))
              exact ⟨by omega, pn_0 hS⟩
        · show (∀ x, (upI (fun _ => false) (169 * 0 + 13 * 0 + fd) true) x = true → (upI (fun _ => false) (169 * 0 + 13 * 0 + fd) true) x = true) ∧ (MSn nr lf ln bd tm fd dvV (upI (fun _ => false) (169 * 0 + 13 * 0 + fd) true) (upI (fun _ => false) (169 * 0 + 13 * 0 + fd) true)) ∧ (true = false → MCl nr lf ln bd tm fd dvV (upI (fun _ => false) (169 * 0 + 13 * 0 + fd) true))
          exact ⟨fun _ h => h, fun _ h _ => h, (fun h => by cases h)⟩
      · refine J_aload_n d_Mo_nodes_37 rfl 1 rfl ?_
        refine J_get fs_Mo_36 rfl rfl d_Mo_nodes_38 ?_
        refine J_iload_n d_Mo_nodes_41 rfl 0 rfl ?_
        refine J_iconst d_Mo_nodes_42 ?_
        refine J.top (show Value.int (iI 0) = Value.int (iI (bz false)) from rfl) ?_
        refine J_zast rfl (by omega) (by decide) uM_mt d_Mo_nodes_43 ?_
        refine J_iinc (j := 0) d_Mo_nodes_44 rfl (by decide) rfl ?_
        refine J_goto (tgt := 30) d_Mo_nodes_47 rfl ?_
        exact ih4 (k + 1, upI mt0 k false) (show (0 ≤ (k + 1) ∧ (k + 1) ≤ 845) ∧ ((upI mt0 k false) = clr0 mt (k + 1)) by
            exact ⟨by omega, by rw [hc0, clr0_s (by omega)]⟩) (show ((845 - (k + 1)).toNat) < ((845 - k).toNat) by
            omega)
    · show (0 ≤ (0 : Int) ∧ (0 : Int) ≤ 845) ∧ (mt = clr0 mt (0 : Int))
      exact ⟨by omega, (clr0_0 _).symm⟩
  · refine J_iconst d_Mo_nodes_26 ?_
    refine J_iret rfl d_Mo_nodes_27 ⟨Nat.le_of_ble_eq_true rfl, Nat.le_of_ble_eq_true rfl⟩ ?_
    exact ⟨_, _, _, _, _, _, _, rfl, rfl, ‹_›, Or.inl ⟨‹_›, rfl⟩⟩
end M9
