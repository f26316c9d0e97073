def strB (fd s i j : Int) : Bool := decide (0 ≤ s ∧ s ≤ 4 ∧ 0 ≤ i ∧ i ≤ j ∧ j ≤ fd)
/-- how many ways -/
def cntW (f : Int × Int × Int → Bool) : List (Int × Int × Int) → Int
  | [] => 0
  | q :: l => (if f q = true then 1 else 0) + cntW f l
theorem cntW_app (f : Int × Int × Int → Bool) : ∀ l m : List (Int × Int × Int), cntW f (l ++ m) = cntW f l + cntW f m
  | [], m => by rw [List.nil_append]; show cntW f m = 0 + cntW f m; omega
  | q :: l, m => by
    show (if f q = true then (1 : Int) else 0) + cntW f (l ++ m) = (if f q = true then 1 else 0) + cntW f l + cntW f m
    rw [cntW_app f l m]
    omega
theorem cntW_map (f : Int × Int × Int → Bool) (r : Int) : ∀ l : List (Int × Int), cntW f (l.map (fun p => (r, p))) = nWays (fun p => f (r, p)) l
  | [] => rfl
  | p :: l => by
    show (if f (r, p) = true then (1 : Int) else 0) + cntW f (l.map (fun p => (r, p))) = (if f (r, p) = true then 1 else 0) + nWays (fun p => f (r, p)) l
    rw [cntW_map f r l]
theorem nxt_ex {n j c1 c2 : Int} : ∃ m d1 d2, Nxt n j c1 c2 m d1 d2 := by
  by_cases h : n = 3 ∧ c2 < j
  · exact ⟨_, _, _, Or.inl ⟨h, rfl, rfl, rfl⟩⟩
  · by_cases h2 : n < 2 ∨ c1 = j
    · exact ⟨_, _, _, Or.inr (Or.inl ⟨h, h2, rfl, rfl, rfl⟩)⟩
    · exact ⟨_, _, _, Or.inr (Or.inr ⟨h, h2, rfl, rfl, rfl⟩)⟩
section M7
variable {l : Launch} {D : jD} {b : Nat} {w : jW} {ad : Nat → Nat} {r : Nat → Option jE} {lp : Bool} {rf : Int} {nr : Int} {lf : Int → Int} {ln : Int → Int} {bd : Int → Int} {fd : Int} {tm : Int → Int} {it : Int → Bool} {wk : Bool} {dv : Int → Bool} {ct : Int → Bool} {nu : Int → Int} {mt : Int → Bool} {c1 : Int} {c2 : Int} {td : Int → Int} {tt : Int → Int} {tc : Int}
set_option maxHeartbeats 4000000 in
theorem c_Mo_sum {s : Int} {i : Int} {j : Int} (hg : gOK nr lf ln bd) (htm : ∀ x, 0 ≤ x → x < 12 → -2147483648 ≤ tm x ∧ tm x ≤ 2147483647) (hs : 0 ≤ s ∧ s ≤ 4) (hij : 0 ≤ i ∧ i ≤ j ∧ j ≤ 12) (hnu : ∀ x, 0 ≤ x → x < 845 → ct x = true → 0 ≤ nu x ∧ nu x ≤ 1000000000000) : Ct l D b Y_Mo_sum { frames := 3, cells := 0, slots := 0, locals := 72 } [Value.ref (ad 0), Value.int (iI s), Value.int (iI i), Value.int (iI j)] (ad, cM ad r lp rf nr lf ln bd fd tm it wk dv ct nu mt c1 c2 td tt tc) (fun v w' => ∃ z d1 d2, v = some (.long (iL z)) ∧ w' = (ad, cM ad r lp rf nr lf ln bd fd tm it wk dv ct nu mt d1 d2 td tt tc) ∧ ((okN nr lf ln bd tm dv ct s i j ∧ z = sumN nr lf ln bd tm dv nu s i j ∧ 0 ≤ z ∧ z ≤ 1000000000000) ∨ (¬ okN nr lf ln bd tm dv ct s i j ∧ z = -1))) := by
  refine Ct_of (by decide) (Nat.le_of_ble_eq_true rfl) ?_
  have hg1 := hg.1
  show J l D b Y_Mo_sum _ _ (ad, cM ad r lp rf nr lf ln bd fd tm it wk dv ct nu mt c1 c2 td tt tc) 0 0 0 [(0, Value.ref (ad 0)), (1, Value.int (iI s)), (2, Value.int (iI i)), (3, Value.int (iI j))] []
  refine J_lconst (z := 0) d_Mo_sum_0 rfl ?_
  refine J_lstore d_Mo_sum_1 (by decide) rfl ?_
  refine J_iconst d_Mo_sum_3 ?_
  refine J_istore d_Mo_sum_4 (by decide) rfl ?_
  refine J.loop (σ := Int × Int × Int × Int) (fun xx_ => match xx_ with | (r', al, x1, y1) => (0 ≤ r' ∧ r' ≤ nr) ∧ (SI (wayT tm (dvT dv) ln (bsM bd) i j) (pV (nuT nu) ln (bsM bd) i j) (wOk (dvT ct) ln (bsM bd) i j) (wl nr lf ln s i j 0) al (wl nr lf ln s i j r'))) (fun xx_ => match xx_ with | (r', al, x1, y1) => (nr - r').toNat) (ws := fun xx_ => match xx_ with | (r', al, x1, y1) => (ad, cM ad r lp rf nr lf ln bd fd tm it wk dv ct nu mt x1 y1 td tt tc)) (ks := fun _ => 0) (ns := fun _ => 0) (lvs := fun xx_ => match xx_ with | (r', al, x1, y1) => [(6, Value.int (iI r')), (4, Value.long (iL al)), (0, Value.ref (ad 0)), (1, Value.int (iI s)), (2, Value.int (iI i)), (3, Value.int (iI j))]) (sts := fun _ => []) ?_ (0, 0, c1, c2) ?_
  · rintro ⟨r', al, x1, y1⟩ hI ih1
    have hI : (0 ≤ r' ∧ r' ≤ nr) ∧ (SI (wayT tm (dvT dv) ln (bsM bd) i j) (pV (nuT nu) ln (bsM bd) i j) (wOk (dvT ct) ln (bsM bd) i j) (wl nr lf ln s i j 0) al (wl nr lf ln s i j r')) := hI
    obtain ⟨hr, hI⟩ := hI
    show J l D b Y_Mo_sum _ _ (ad, cM ad r lp rf nr lf ln bd fd tm it wk dv ct nu mt x1 y1 td tt tc) 0 0 6 [(6, Value.int (iI r')), (4, Value.long (iL al)), (0, Value.ref (ad 0)), (1, Value.int (iI s)), (2, Value.int (iI i)), (3, Value.int (iI j))] []
    refine J_iload d_Mo_sum_6 0 rfl ?_
    refine J_aload_n d_Mo_sum_8 rfl 2 rfl ?_
    refine J_get fs_Mo_73 rfl rfl d_Mo_sum_9 ?_
    refine J_icmp_ge (tgt := 118) d_Mo_sum_12 rfl (by omega) (by omega) (fun h12_2 => ?_) (fun h12_2 => ?_)
    · refine J_lload d_Mo_sum_118 1 rfl ?_
      refine J_lret rfl d_Mo_sum_120 ⟨Nat.le_of_ble_eq_true rfl, Nat.le_of_ble_eq_true rfl⟩ ?_
      rw [wl_end (r := r') (by omega)] at hI
      obtain ⟨e1, e2⟩ := si_end hI
      exact ⟨_, _, _, rfl, rfl, Or.inl ⟨e1, e2, hI.2.1⟩⟩
    · refine J_aload_n d_Mo_sum_15 rfl 2 rfl ?_
      refine J_get fs_Mo_7 rfl rfl d_Mo_sum_16 ?_
      refine J_iload d_Mo_sum_19 0 rfl ?_
      refine J_iald rfl (by omega) (by decide) d_Mo_sum_21 ?_
      have hlr := hg.2.1 r' (by omega) (by omega)
      refine J_iload_n d_Mo_sum_22 rfl 3 rfl ?_
      refine J_icmp_ne (tgt := 30) d_Mo_sum_23 rfl (by omega) (by omega) (fun h23_3 => ?_) (fun h23_3 => ?_)
      · refine J_iconst d_Mo_sum_30 ?_
        refine J_istore d_Mo_sum_31 (by decide) rfl ?_
        refine J_aload_n d_Mo_sum_33 rfl 3 rfl ?_
        refine J_iload_n d_Mo_sum_34 rfl 5 rfl ?_
        refine J_callV (st := []) [Value.int (iI i)] ms_Mo_130 rfl (c_Mo_firstCuts) rfl rfl ⟨Nat.le_of_ble_eq_true rfl, Nat.le_of_ble_eq_true rfl⟩ ⟨Nat.le_of_ble_eq_true rfl, Nat.le_of_ble_eq_true rfl⟩ (Nat.le_of_ble_eq_true rfl) d_Mo_sum_35 (fun v w' hp => ?_)
        obtain ⟨rfl, rfl⟩ := hp
        show J l D b Y_Mo_sum _ _ (ad, cM ad r lp rf nr lf ln bd fd tm it wk dv ct nu mt i i td tt tc) 0 0 38 [(7, Value.int (iI 0)), (6, Value.int (iI r')), (4, Value.long (iL al)), (0, Value.ref (ad 0)), (1, Value.int (iI s)), (2, Value.int (iI i)), (3, Value.int (iI j))] []
        refine J.loop (σ := Bool × Int × Int × Int) (fun xx_ => match xx_ with | (mo, al2, x2, y2) => (mo = true → i ≤ x2 ∧ x2 ≤ y2 ∧ y2 ≤ j) ∧ (SI (wayT tm (dvT dv) ln (bsM bd) i j) (pV (nuT nu) ln (bsM bd) i j) (wOk (dvT ct) ln (bsM bd) i j) (wl nr lf ln s i j 0) al2 (rs nr lf ln s i j mo r' x2 y2))) (fun xx_ => match xx_ with | (mo, al2, x2, y2) => if mo = true then (sfx (ln r') j x2 y2).length else 0) (ws := fun xx_ => match xx_ with | (mo, al2, x2, y2) => (ad, cM ad r lp rf nr lf ln bd fd tm it wk dv ct nu mt x2 y2 td tt tc)) (ks := fun _ => 0) (ns := fun _ => 0) (lvs := fun xx_ => match xx_ with | (mo, al2, x2, y2) => [(7, Value.int (iI (bz mo))), (6, Value.int (iI r')), (4, Value.long (iL al2)), (0, Value.ref (ad 0)), (1, Value.int (iI s)), (2, Value.int (iI i)), (3, Value.int (iI j))]) (sts := fun _ => []) ?_ (false, al, i, i) ?_
        · rintro ⟨mo, al2, x2, y2⟩ hI ih5
          have hI : (mo = true → i ≤ x2 ∧ x2 ≤ y2 ∧ y2 ≤ j) ∧ (SI (wayT tm (dvT dv) ln (bsM bd) i j) (pV (nuT nu) ln (bsM bd) i j) (wOk (dvT ct) ln (bsM bd) i j) (wl nr lf ln s i j 0) al2 (rs nr lf ln s i j mo r' x2 y2)) := hI
          obtain ⟨hD, hI2⟩ := hI
          show J l D b Y_Mo_sum _ _ (ad, cM ad r lp rf nr lf ln bd fd tm it wk dv ct nu mt x2 y2 td tt tc) 0 0 38 [(7, Value.int (iI (bz mo))), (6, Value.int (iI r')), (4, Value.long (iL al2)), (0, Value.ref (ad 0)), (1, Value.int (iI s)), (2, Value.int (iI i)), (3, Value.int (iI j))] []
          refine J_iload d_Mo_sum_38 0 rfl ?_
          refine J_ifB_eq (tgt := 112) d_Mo_sum_40 rfl (fun h40_6 => ?_) (fun h40_6 => ?_)
          · refine J_iinc (j := 1) d_Mo_sum_112 rfl (by decide) rfl ?_
            refine J_goto (tgt := 6) d_Mo_sum_115 rfl ?_
            refine J.sub [0, 2, 3, 4, 5, 6] rfl ?_
            exact ih1 (r' + 1, al2, x2, y2) (show (0 ≤ (r' + 1) ∧ (r' + 1) ≤ nr) ∧ (SI (wayT tm (dvT dv) ln (bsM bd) i j) (pV (nuT nu) ln (bsM bd) i j) (wOk (dvT ct) ln (bsM bd) i j) (wl nr lf ln s i j 0) al2 (wl nr lf ln s i j (r' + 1))) by
                refine ⟨by omega, ?_⟩
                rw [‹mo = false›, rs_f] at hI2
                exact hI2) (show ((nr - (r' + 1)).toNat) < ((nr - r').toNat) by
                omega)
          · have hDt := hD ‹_›
            have hlq := hg.2.2.1 r' (by omega) (by omega)
            refine J_aload_n d_Mo_sum_43 rfl 3 rfl ?_
            refine J_iload d_Mo_sum_44 1 rfl ?_
            refine J_iload_n d_Mo_sum_46 rfl 5 rfl ?_
            refine J_iload_n d_Mo_sum_47 rfl 6 rfl ?_
            refine J_callV (st := []) [Value.int (iI r'), Value.int (iI i), Value.int (iI j)] ms_Mo_133 rfl (c_Mo_isWay hg htm (by omega) (by omega) (by omega)) rfl rfl ⟨Nat.le_of_ble_eq_true rfl, Nat.le_of_ble_eq_true rfl⟩ ⟨Nat.le_of_ble_eq_true rfl, Nat.le_of_ble_eq_true rfl⟩ (Nat.le_of_ble_eq_true rfl) d_Mo_sum_48 (fun v w' hp => ?_)
            obtain ⟨rfl, rfl⟩ := hp
            show J l D b Y_Mo_sum _ _ (ad, cM ad r lp rf nr lf ln bd fd tm it wk dv ct nu mt x2 y2 td tt tc) 0 0 51 [(7, Value.int (iI (bz mo))), (6, Value.int (iI r')), (4, Value.long (iL al2)), (0, Value.ref (ad 0)), (1, Value.int (iI s)), (2, Value.int (iI i)), (3, Value.int (iI j))] [Value.int (iI (bz (wayB tm (dvT dv) (ln r') (bsM bd r') x2 y2 i j)))]
            refine J_ifB_eq (tgt := 100) d_Mo_sum_51 rfl (fun h51_8 => ?_) (fun h51_8 => ?_)
            · refine J_aload_n d_Mo_sum_100 rfl 3 rfl ?_
              refine J_iload d_Mo_sum_101 1 rfl ?_
              refine J_iload_n d_Mo_sum_103 rfl 6 rfl ?_
              refine J_callV (st := []) [Value.int (iI r'), Value.int (iI j)] ms_Mo_136 rfl (c_Mo_nextCuts hg (by omega) (by omega) (by omega)) rfl rfl ⟨Nat.le_of_ble_eq_true rfl, Nat.le_of_ble_eq_true rfl⟩ ⟨Nat.le_of_ble_eq_true rfl, Nat.le_of_ble_eq_true rfl⟩ (Nat.le_of_ble_eq_true rfl) d_Mo_sum_104 (fun v w' hp => ?_)
              obtain ⟨m9, x9, y9, rfl, rfl, hN9⟩ := hp
              show J l D b Y_Mo_sum _ _ (ad, cM ad r lp rf nr lf ln bd fd tm it wk dv ct nu mt x9 y9 td tt tc) 0 0 107 [(7, Value.int (iI (bz mo))), (6, Value.int (iI r')), (4, Value.long (iL al2)), (0, Value.ref (ad 0)), (1, Value.int (iI s)), (2, Value.int (iI i)), (3, Value.int (iI j))] [Value.int (iI (bz m9))]
              refine J_istore d_Mo_sum_107 (by decide) rfl ?_
              refine J_goto (tgt := 38) d_Mo_sum_109 rfl ?_
              exact ih5 (m9, al2, x9, y9) (show (m9 = true → i ≤ x9 ∧ x9 ≤ y9 ∧ y9 ≤ j) ∧ (SI (wayT tm (dvT dv) ln (bsM bd) i j) (pV (nuT nu) ln (bsM bd) i j) (wOk (dvT ct) ln (bsM bd) i j) (wl nr lf ln s i j 0) al2 (rs nr lf ln s i j m9 r' x9 y9)) by
                  have hN := ‹Nxt (ln r') j x2 y2 _ _ _›
                  rw [‹mo = true›, rs_nx hN (by omega)] at hI2
                  refine ⟨fun hm => nxt_rng hN hDt (by omega), ?_⟩
                  exact si_no hI2 ‹_›) (show (if m9 = true then (sfx (ln r') j x9 y9).length else 0) < (if mo = true then (sfx (ln r') j x2 y2).length else 0) by
                  rw [‹mo = true›, if_pos rfl, sfx_nx ‹Nxt (ln r') j x2 y2 _ _ _› (by omega), List.length_cons]
                  split
                  · exact Nat.lt_succ_self _
                  · exact Nat.succ_pos _)
            · refine J_aload_n d_Mo_sum_54 rfl 3 rfl ?_
              refine J_iload d_Mo_sum_55 1 rfl ?_
              refine J_iload_n d_Mo_sum_57 rfl 5 rfl ?_
              refine J_iload_n d_Mo_sum_58 rfl 6 rfl ?_
              refine J_callV (st := []) [Value.int (iI r'), Value.int (iI i), Value.int (iI j)] ms_Mo_151 rfl (c_Mo_byWay hg (by omega) (by omega) (by omega) hnu) rfl rfl ⟨Nat.le_of_ble_eq_true rfl, Nat.le_of_ble_eq_true rfl⟩ ⟨Nat.le_of_ble_eq_true rfl, Nat.le_of_ble_eq_true rfl⟩ (Nat.le_of_ble_eq_true rfl) d_Mo_sum_59 (fun v w' hp => ?_)
              obtain ⟨z10, rfl, rfl, hB10⟩ := hp
              show J l D b Y_Mo_sum _ _ (ad, cM ad r lp rf nr lf ln bd fd tm it wk dv ct nu mt x2 y2 td tt tc) 0 0 62 [(7, Value.int (iI (bz mo))), (6, Value.int (iI r')), (4, Value.long (iL al2)), (0, Value.ref (ad 0)), (1, Value.int (iI s)), (2, Value.int (iI i)), (3, Value.int (iI j))] [Value.long (iL z10)]
              refine J_lstore d_Mo_sum_62 (by decide) rfl ?_
              have hzr : -1 ≤ z10 ∧ z10 ≤ 1000000000000 := by
                rcases ‹_ ∨ (_ ∧ z10 = -1)› with h | h <;> omega
              refine J_lload d_Mo_sum_64 0 rfl ?_
              refine J_lconst (z := 0) d_Mo_sum_66 rfl ?_
              refine J_lcmp_ge (tgt := 75) d_Mo_sum_67 d_Mo_sum_68 rfl (by omega) (by omega) (fun h67_11 => ?_) (fun h67_11 => ?_)
              · have hI2v := hI2.2.1
                refine J_lload d_Mo_sum_75 3 rfl ?_
                refine J_lload d_Mo_sum_77 0 rfl ?_
                refine J_ladd d_Mo_sum_79 ?_
                refine J_ldc2 (z := 1000000000000) d_Mo_sum_80 cst_Mo_143 rfl ?_
                refine J_lcmp_le (tgt := 93) d_Mo_sum_83 d_Mo_sum_84 rfl (by omega) (by omega) (fun h83_12 => ?_) (fun h83_12 => ?_)
                · refine J_lload d_Mo_sum_93 3 rfl ?_
                  refine J_lload d_Mo_sum_95 0 rfl ?_
                  refine J_ladd d_Mo_sum_97 ?_
                  refine J_lstore d_Mo_sum_98 (by decide) rfl ?_
                  refine J_aload_n d_Mo_sum_100 rfl 4 rfl ?_
                  refine J_iload d_Mo_sum_101 3 rfl ?_
                  refine J_iload_n d_Mo_sum_103 rfl 7 rfl ?_
                  refine J_callV (st := []) [Value.int (iI r'), Value.int (iI j)] ms_Mo_136 rfl (c_Mo_nextCuts hg (by omega) (by omega) (by omega)) rfl rfl ⟨Nat.le_of_ble_eq_true rfl, Nat.le_of_ble_eq_true rfl⟩ ⟨Nat.le_of_ble_eq_true rfl, Nat.le_of_ble_eq_true rfl⟩ (Nat.le_of_ble_eq_true rfl) d_Mo_sum_104 (fun v w' hp => ?_)
                  obtain ⟨m13, x13, y13, rfl, rfl, hN13⟩ := hp
                  show J l D b Y_Mo_sum _ _ (ad, cM ad r lp rf nr lf ln bd fd tm it wk dv ct nu mt x13 y13 td tt tc) 0 0 107 [(4, Value.long (iL (al2 + z10))), (8, Value.long (iL z10)), (7, Value.int (iI (bz mo))), (6, Value.int (iI r')), (0, Value.ref (ad 0)), (1, Value.int (iI s)), (2, Value.int (iI i)), (3, Value.int (iI j))] [Value.int (iI (bz m13))]
                  refine J_istore d_Mo_sum_107 (by decide) rfl ?_
                  refine J_goto (tgt := 38) d_Mo_sum_109 rfl ?_
                  refine J.sub [0, 3, 1, 4, 5, 6, 7] rfl ?_
                  exact ih5 (m13, al2 + z10, x13, y13) (show (m13 = true → i ≤ x13 ∧ x13 ≤ y13 ∧ y13 ≤ j) ∧ (SI (wayT tm (dvT dv) ln (bsM bd) i j) (pV (nuT nu) ln (bsM bd) i j) (wOk (dvT ct) ln (bsM bd) i j) (wl nr lf ln s i j 0) (al2 + z10) (rs nr lf ln s i j m13 r' x13 y13)) by
                      have hN := ‹Nxt (ln r') j x2 y2 _ _ _›
                      rw [‹mo = true›, rs_nx hN (by omega)] at hI2
                      refine ⟨fun hm => nxt_rng hN hDt (by omega), ?_⟩
                      have hb : wOk (dvT ct) ln (bsM bd) i j (r', x2, y2) ∧ z10 = pV (nuT nu) ln (bsM bd) i j (r', x2, y2) ∧ 0 ≤ z10 ∧ z10 ≤ 1000000000000 := by
                        rcases ‹_ ∨ (_ ∧ z10 = -1)› with h | h
                        · exact h
                        · omega
                      have h9 := si_way hI2 ‹_› hb.1 hb.2.1 hb.2.2.1
                      have e9 : cs al2 z10 = al2 + z10 := by unfold cs; rw [if_neg (by omega)]
                      rw [e9] at h9
                      exact h9) (show (if m13 = true then (sfx (ln r') j x13 y13).length else 0) < (if mo = true then (sfx (ln r') j x2 y2).length else 0) by
                      rw [‹mo = true›, if_pos rfl, sfx_nx ‹Nxt (ln r') j x2 y2 _ _ _› (by omega), List.length_cons]
                      split
                      · exact Nat.lt_succ_self _
                      · exact Nat.succ_pos _)
                · refine J_ldc2 (z := 1000000000000) d_Mo_sum_87 cst_Mo_143 rfl ?_
                  refine J_goto (tgt := 98) d_Mo_sum_90 rfl ?_
                  refine J_lstore d_Mo_sum_98 (by decide) rfl ?_
                  refine J_aload_n d_Mo_sum_100 rfl 4 rfl ?_
                  refine J_iload d_Mo_sum_101 3 rfl ?_
                  refine J_iload_n d_Mo_sum_103 rfl 7 rfl ?_
                  refine J_callV (st := []) [Value.int (iI r'), Value.int (iI j)] ms_Mo_136 rfl (c_Mo_nextCuts hg (by omega) (by omega) (by omega)) rfl rfl ⟨Nat.le_of_ble_eq_true rfl, Nat.le_of_ble_eq_true rfl⟩ ⟨Nat.le_of_ble_eq_true rfl, Nat.le_of_ble_eq_true rfl⟩ (Nat.le_of_ble_eq_true rfl) d_Mo_sum_104 (fun v w' hp => ?_)
                  obtain ⟨m14, x14, y14, rfl, rfl, hN14⟩ := hp
                  show J l D b Y_Mo_sum _ _ (ad, cM ad r lp rf nr lf ln bd fd tm it wk dv ct nu mt x14 y14 td tt tc) 0 0 107 [(4, Value.long (iL 1000000000000)), (8, Value.long (iL z10)), (7, Value.int (iI (bz mo))), (6, Value.int (iI r')), (0, Value.ref (ad 0)), (1, Value.int (iI s)), (2, Value.int (iI i)), (3, Value.int (iI j))] [Value.int (iI (bz m14))]
                  refine J_istore d_Mo_sum_107 (by decide) rfl ?_
                  refine J_goto (tgt := 38) d_Mo_sum_109 rfl ?_
                  refine J.sub [0, 3, 1, 4, 5, 6, 7] rfl ?_
                  exact ih5 (m14, 1000000000000, x14, y14) (show (m14 = true → i ≤ x14 ∧ x14 ≤ y14 ∧ y14 ≤ j) ∧ (SI (wayT tm (dvT dv) ln (bsM bd) i j) (pV (nuT nu) ln (bsM bd) i j) (wOk (dvT ct) ln (bsM bd) i j) (wl nr lf ln s i j 0) (1000000000000 : Int) (rs nr lf ln s i j m14 r' x14 y14)) by
                      have hN := ‹Nxt (ln r') j x2 y2 _ _ _›
                      rw [‹mo = true›, rs_nx hN (by omega)] at hI2
                      refine ⟨fun hm => nxt_rng hN hDt (by omega), ?_⟩
                      have hb : wOk (dvT ct) ln (bsM bd) i j (r', x2, y2) ∧ z10 = pV (nuT nu) ln (bsM bd) i j (r', x2, y2) ∧ 0 ≤ z10 ∧ z10 ≤ 1000000000000 := by
                        rcases ‹_ ∨ (_ ∧ z10 = -1)› with h | h
                        · exact h
                        · omega
                      have h9 := si_way hI2 ‹_› hb.1 hb.2.1 hb.2.2.1
                      have e9 : cs al2 z10 = 1000000000000 := by unfold cs; rw [if_pos (by omega)]
                      rw [e9] at h9
                      exact h9) (show (if m14 = true then (sfx (ln r') j x14 y14).length else 0) < (if mo = true then (sfx (ln r') j x2 y2).length else 0) by
                      rw [‹mo = true›, if_pos rfl, sfx_nx ‹Nxt (ln r') j x2 y2 _ _ _› (by omega), List.length_cons]
                      split
                      · exact Nat.lt_succ_self _
                      · exact Nat.succ_pos _)
              · refine J_ldc2 (z := -1) d_Mo_sum_71 cst_Mo_145 rfl ?_
                refine J_lret rfl d_Mo_sum_74 ⟨Nat.le_of_ble_eq_true rfl, Nat.le_of_ble_eq_true rfl⟩ ?_
                refine ⟨_, _, _, rfl, rfl, Or.inr ⟨?_, rfl⟩⟩
                rw [‹mo = true›] at hI2
                obtain ⟨m9, x9, y9, hN9⟩ := nxt_ex (n := ln r') (j := j) (c1 := x2) (c2 := y2)
                rw [rs_nx hN9 (by omega)] at hI2
                have hno : ¬ wOk (dvT ct) ln (bsM bd) i j (r', x2, y2) := by
                  rcases ‹_ ∨ (_ ∧ z10 = -1)› with h | h
                  · omega
                  · exact h.1
                exact si_bad hI2 ‹_› hno
        · show (false = true → i ≤ i ∧ i ≤ i ∧ i ≤ j) ∧ (SI (wayT tm (dvT dv) ln (bsM bd) i j) (pV (nuT nu) ln (bsM bd) i j) (wOk (dvT ct) ln (bsM bd) i j) (wl nr lf ln s i j 0) al (rs nr lf ln s i j false r' i i))
          refine ⟨(fun h => by cases h), ?_⟩
          rw [← rs_out (by omega) ‹_›]
          exact hI
      · refine J_iconst d_Mo_sum_26 ?_
        refine J_goto (tgt := 31) d_Mo_sum_27 rfl ?_
        refine J_istore d_Mo_sum_31 (by decide) rfl ?_
        refine J_aload_n d_Mo_sum_33 rfl 3 rfl ?_
        refine J_iload_n d_Mo_sum_34 rfl 5 rfl ?_
        refine J_callV (st := []) [Value.int (iI i)] ms_Mo_130 rfl (c_Mo_firstCuts) rfl rfl ⟨Nat.le_of_ble_eq_true rfl, Nat.le_of_ble_eq_true rfl⟩ ⟨Nat.le_of_ble_eq_true rfl, Nat.le_of_ble_eq_true rfl⟩ (Nat.le_of_ble_eq_true rfl) d_Mo_sum_35 (fun v w' hp => ?_)
        obtain ⟨rfl, rfl⟩ := hp
        show J l D b Y_Mo_sum _ _ (ad, cM ad r lp rf nr lf ln bd fd tm it wk dv ct nu mt i i td tt tc) 0 0 38 [(7, Value.int (iI 1)), (6, Value.int (iI r')), (4, Value.long (iL al)), (0, Value.ref (ad 0)), (1, Value.int (iI s)), (2, Value.int (iI i)), (3, Value.int (iI j))] []
        refine J.loop (σ := Bool × Int × Int × Int) (fun xx_ => match xx_ with | (mo, al2, x2, y2) => (mo = true → i ≤ x2 ∧ x2 ≤ y2 ∧ y2 ≤ j) ∧ (SI (wayT tm (dvT dv) ln (bsM bd) i j) (pV (nuT nu) ln (bsM bd) i j) (wOk (dvT ct) ln (bsM bd) i j) (wl nr lf ln s i j 0) al2 (rs nr lf ln s i j mo r' x2 y2))) (fun xx_ => match xx_ with | (mo, al2, x2, y2) => if mo = true then (sfx (ln r') j x2 y2).length else 0) (ws := fun xx_ => match xx_ with | (mo, al2, x2, y2) => (ad, cM ad r lp rf nr lf ln bd fd tm it wk dv ct nu mt x2 y2 td tt tc)) (ks := fun _ => 0) (ns := fun _ => 0) (lvs := fun xx_ => match xx_ with | (mo, al2, x2, y2) => [(7, Value.int (iI (bz mo))), (6, Value.int (iI r')), (4, Value.long (iL al2)), (0, Value.ref (ad 0)), (1, Value.int (iI s)), (2, Value.int (iI i)), (3, Value.int (iI j))]) (sts := fun _ => []) ?_ (true, al, i, i) ?_
        · rintro ⟨mo, al2, x2, y2⟩ hI ih16
          have hI : (mo = true → i ≤ x2 ∧ x2 ≤ y2 ∧ y2 ≤ j) ∧ (SI (wayT tm (dvT dv) ln (bsM bd) i j) (pV (nuT nu) ln (bsM bd) i j) (wOk (dvT ct) ln (bsM bd) i j) (wl nr lf ln s i j 0) al2 (rs nr lf ln s i j mo r' x2 y2)) := hI
          obtain ⟨hD, hI2⟩ := hI
          show J l D b Y_Mo_sum _ _ (ad, cM ad r lp rf nr lf ln bd fd tm it wk dv ct nu mt x2 y2 td tt tc) 0 0 38 [(7, Value.int (iI (bz mo))), (6, Value.int (iI r')), (4, Value.long (iL al2)), (0, Value.ref (ad 0)), (1, Value.int (iI s)), (2, Value.int (iI i)), (3, Value.int (iI j))] []
          refine J_iload d_Mo_sum_38 0 rfl ?_
          refine J_ifB_eq (tgt := 112) d_Mo_sum_40 rfl (fun h40_17 => ?_) (fun h40_17 => ?_)
          · refine J_iinc (j := 1) d_Mo_sum_112 rfl (by decide) rfl ?_
            refine J_goto (tgt := 6) d_Mo_sum_115 rfl ?_
            refine J.sub [0, 2, 3, 4, 5, 6] rfl ?_
            exact ih1 (r' + 1, al2, x2, y2) (show (0 ≤ (r' + 1) ∧ (r' + 1) ≤ nr) ∧ (SI (wayT tm (dvT dv) ln (bsM bd) i j) (pV (nuT nu) ln (bsM bd) i j) (wOk (dvT ct) ln (bsM bd) i j) (wl nr lf ln s i j 0) al2 (wl nr lf ln s i j (r' + 1))) by
                refine ⟨by omega, ?_⟩
                rw [‹mo = false›, rs_f] at hI2
                exact hI2) (show ((nr - (r' + 1)).toNat) < ((nr - r').toNat) by
                omega)
          · have hDt := hD ‹_›
            have hlq := hg.2.2.1 r' (by omega) (by omega)
            refine J_aload_n d_Mo_sum_43 rfl 3 rfl ?_
            refine J_iload d_Mo_sum_44 1 rfl ?_
            refine J_iload_n d_Mo_sum_46 rfl 5 rfl ?_
            refine J_iload_n d_Mo_sum_47 rfl 6 rfl ?_
            refine J_callV (st := []) [Value.int (iI r'), Value.int (iI i), Value.int (iI j)] ms_Mo_133 rfl (c_Mo_isWay hg htm (by omega) (by omega) (by omega)) rfl rfl ⟨Nat.le_of_ble_eq_true rfl, Nat.le_of_ble_eq_true rfl⟩ ⟨Nat.le_of_ble_eq_true rfl, Nat.le_of_ble_eq_true rfl⟩ (Nat.le_of_ble_eq_true rfl) d_Mo_sum_48 (fun v w' hp => ?_)
            obtain ⟨rfl, rfl⟩ := hp
            show J l D b Y_Mo_sum _ _ (ad, cM ad r lp rf nr lf ln bd fd tm it wk dv ct nu mt x2 y2 td tt tc) 0 0 51 [(7, Value.int (iI (bz mo))), (6, Value.int (iI r')), (4, Value.long (iL al2)), (0, Value.ref (ad 0)), (1, Value.int (iI s)), (2, Value.int (iI i)), (3, Value.int (iI j))] [Value.int (iI (bz (wayB tm (dvT dv) (ln r') (bsM bd r') x2 y2 i j)))]
            refine J_ifB_eq (tgt := 100) d_Mo_sum_51 rfl (fun h51_19 => ?_) (fun h51_19 => ?_)
            · refine J_aload_n d_Mo_sum_100 rfl 3 rfl ?_
              refine J_iload d_Mo_sum_101 1 rfl ?_
              refine J_iload_n d_Mo_sum_103 rfl 6 rfl ?_
              refine J_callV (st := []) [Value.int (iI r'), Value.int (iI j)] ms_Mo_136 rfl (c_Mo_nextCuts hg (by omega) (by omega) (by omega)) rfl rfl ⟨Nat.le_of_ble_eq_true rfl, Nat.le_of_ble_eq_true rfl⟩ ⟨Nat.le_of_ble_eq_true rfl, Nat.le_of_ble_eq_true rfl⟩ (Nat.le_of_ble_eq_true rfl) d_Mo_sum_104 (fun v w' hp => ?_)
              obtain ⟨m20, x20, y20, rfl, rfl, hN20⟩ := hp
              show J l D b Y_Mo_sum _ _ (ad, cM ad r lp rf nr lf ln bd fd tm it wk dv ct nu mt x20 y20 td tt tc) 0 0 107 [(7, Value.int (iI (bz mo))), (6, Value.int (iI r')), (4, Value.long (iL al2)), (0, Value.ref (ad 0)), (1, Value.int (iI s)), (2, Value.int (iI i)), (3, Value.int (iI j))] [Value.int (iI (bz m20))]
              refine J_istore d_Mo_sum_107 (by decide) rfl ?_
              refine J_goto (tgt := 38) d_Mo_sum_109 rfl ?_
              exact ih16 (m20, al2, x20, y20) (show (m20 = true → i ≤ x20 ∧ x20 ≤ y20 ∧ y20 ≤ j) ∧ (SI (wayT tm (dvT dv) ln (bsM bd) i j) (pV (nuT nu) ln (bsM bd) i j) (wOk (dvT ct) ln (bsM bd) i j) (wl nr lf ln s i j 0) al2 (rs nr lf ln s i j m20 r' x20 y20)) by
                  have hN := ‹Nxt (ln r') j x2 y2 _ _ _›
                  rw [‹mo = true›, rs_nx hN (by omega)] at hI2
                  refine ⟨fun hm => nxt_rng hN hDt (by omega), ?_⟩
                  exact si_no hI2 ‹_›) (show (if m20 = true then (sfx (ln r') j x20 y20).length else 0) < (if mo = true then (sfx (ln r') j x2 y2).length else 0) by
                  rw [‹mo = true›, if_pos rfl, sfx_nx ‹Nxt (ln r') j x2 y2 _ _ _› (by omega), List.length_cons]
                  split
                  · exact Nat.lt_succ_self _
                  · exact Nat.succ_pos _)
            · refine J_aload_n d_Mo_sum_54 rfl 3 rfl ?_
              refine J_iload d_Mo_sum_55 1 rfl ?_
              refine J_iload_n d_Mo_sum_57 rfl 5 rfl ?_
              refine J_iload_n d_Mo_sum_58 rfl 6 rfl ?_
              refine J_callV (st := []) [Value.int (iI r'), Value.int (iI i), Value.int (iI j)] ms_Mo_151 rfl (c_Mo_byWay hg (by omega) (by omega) (by omega) hnu) rfl rfl ⟨Nat.le_of_ble_eq_true rfl, Nat.le_of_ble_eq_true rfl⟩ ⟨Nat.le_of_ble_eq_true rfl, Nat.le_of_ble_eq_true rfl⟩ (Nat.le_of_ble_eq_true rfl) d_Mo_sum_59 (fun v w' hp => ?_)
              obtain ⟨z21, rfl, rfl, hB21⟩ := hp
              show J l D b Y_Mo_sum _ _ (ad, cM ad r lp rf nr lf ln bd fd tm it wk dv ct nu mt x2 y2 td tt tc) 0 0 62 [(7, Value.int (iI (bz mo))), (6, Value.int (iI r')), (4, Value.long (iL al2)), (0, Value.ref (ad 0)), (1, Value.int (iI s)), (2, Value.int (iI i)), (3, Value.int (iI j))] [Value.long (iL z21)]
              refine J_lstore d_Mo_sum_62 (by decide) rfl ?_
              have hzr : -1 ≤ z21 ∧ z21 ≤ 1000000000000 := by
                rcases ‹_ ∨ (_ ∧ z21 = -1)› with h | h <;> omega
              refine J_lload d_Mo_sum_64 0 rfl ?_
              refine J_lconst (z := 0) d_Mo_sum_66 rfl ?_
              refine J_lcmp_ge (tgt := 75) d_Mo_sum_67 d_Mo_sum_68 rfl (by omega) (by omega) (fun h67_22 => ?_) (fun h67_22 => ?_)
              · have hI2v := hI2.2.1
                refine J_lload d_Mo_sum_75 3 rfl ?_
                refine J_lload d_Mo_sum_77 0 rfl ?_
                refine J_ladd d_Mo_sum_79 ?_
                refine J_ldc2 (z := 1000000000000) d_Mo_sum_80 cst_Mo_143 rfl ?_
                refine J_lcmp_le (tgt := 93) d_Mo_sum_83 d_Mo_sum_84 rfl (by omega) (by omega) (fun h83_23 => ?_) (fun h83_23 => ?_)
                · refine J_lload d_Mo_sum_93 3 rfl ?_
                  refine J_lload d_Mo_sum_95 0 rfl ?_
                  refine J_ladd d_Mo_sum_97 ?_
                  refine J_lstore d_Mo_sum_98 (by decide) rfl ?_
                  refine J_aload_n d_Mo_sum_100 rfl 4 rfl ?_
                  refine J_iload d_Mo_sum_101 3 rfl ?_
                  refine J_iload_n d_Mo_sum_103 rfl 7 rfl ?_
                  refine J_callV (st := []) [Value.int (iI r'), Value.int (iI j)] ms_Mo_136 rfl (c_Mo_nextCuts hg (by omega) (by omega) (by omega)) rfl rfl ⟨Nat.le_of_ble_eq_true rfl, Nat.le_of_ble_eq_true rfl⟩ ⟨Nat.le_of_ble_eq_true rfl, Nat.le_of_ble_eq_true rfl⟩ (Nat.le_of_ble_eq_true rfl) d_Mo_sum_104 (fun v w' hp => ?_)
                  obtain ⟨m24, x24, y24, rfl, rfl, hN24⟩ := hp
                  show J l D b Y_Mo_sum _ _ (ad, cM ad r lp rf nr lf ln bd fd tm it wk dv ct nu mt x24 y24 td tt tc) 0 0 107 [(4, Value.long (iL (al2 + z21))), (8, Value.long (iL z21)), (7, Value.int (iI (bz mo))), (6, Value.int (iI r')), (0, Value.ref (ad 0)), (1, Value.int (iI s)), (2, Value.int (iI i)), (3, Value.int (iI j))] [Value.int (iI (bz m24))]
                  refine J_istore d_Mo_sum_107 (by decide) rfl ?_
                  refine J_goto (tgt := 38) d_Mo_sum_109 rfl ?_
                  refine J.sub [0, 3, 1, 4, 5, 6, 7] rfl ?_
                  exact ih16 (m24, al2 + z21, x24, y24) (show (m24 = true → i ≤ x24 ∧ x24 ≤ y24 ∧ y24 ≤ j) ∧ (SI (wayT tm (dvT dv) ln (bsM bd) i j) (pV (nuT nu) ln (bsM bd) i j) (wOk (dvT ct) ln (bsM bd) i j) (wl nr lf ln s i j 0) (al2 + z21) (rs nr lf ln s i j m24 r' x24 y24)) by
                      have hN := ‹Nxt (ln r') j x2 y2 _ _ _›
                      rw [‹mo = true›, rs_nx hN (by omega)] at hI2
                      refine ⟨fun hm => nxt_rng hN hDt (by omega), ?_⟩
                      have hb : wOk (dvT ct) ln (bsM bd) i j (r', x2, y2) ∧ z21 = pV (nuT nu) ln (bsM bd) i j (r', x2, y2) ∧ 0 ≤ z21 ∧ z21 ≤ 1000000000000 := by
                        rcases ‹_ ∨ (_ ∧ z21 = -1)› with h | h
                        · exact h
                        · omega
                      have h9 := si_way hI2 ‹_› hb.1 hb.2.1 hb.2.2.1
                      have e9 : cs al2 z21 = al2 + z21 := by unfold cs; rw [if_neg (by omega)]
                      rw [e9] at h9
                      exact h9) (show (if m24 = true then (sfx (ln r') j x24 y24).length else 0) < (if mo = true then (sfx (ln r') j x2 y2).length else 0) by
                      rw [‹mo = true›, if_pos rfl, sfx_nx ‹Nxt (ln r') j x2 y2 _ _ _› (by omega), List.length_cons]
                      split
                      · exact Nat.lt_succ_self _
                      · exact Nat.succ_pos _)
                · refine J_ldc2 (z := 1000000000000) d_Mo_sum_87 cst_Mo_143 rfl ?_
                  refine J_goto (tgt := 98) d_Mo_sum_90 rfl ?_
                  refine J_lstore d_Mo_sum_98 (by decide) rfl ?_
                  refine J_aload_n d_Mo_sum_100 rfl 4 rfl ?_
                  refine J_iload d_Mo_sum_101 3 rfl ?_
                  refine J_iload_n d_Mo_sum_103 rfl 7 rfl ?_
                  refine J_callV (st := []) [Value.int (iI r'), Value.int (iI j)] ms_Mo_136 rfl (c_Mo_nextCuts hg (by omega) (by omega) (by omega)) rfl rfl ⟨Nat.le_of_ble_eq_true rfl, Nat.le_of_ble_eq_true rfl⟩ ⟨Nat.le_of_ble_eq_true rfl, Nat.le_of_ble_eq_true rfl⟩ (Nat.le_of_ble_eq_true rfl) d_Mo_sum_104 (fun v w' hp => ?_)
                  obtain ⟨m25, x25, y25, rfl, rfl, hN25⟩ := hp
                  show J l D b Y_Mo_sum _ _ (ad, cM ad r lp rf nr lf ln bd fd tm it wk dv ct nu mt x25 y25 td tt tc) 0 0 107 [(4, Value.long (iL 1000000000000)), (8, Value.long (iL z21)), (7, Value.int (iI (bz mo))), (6, Value.int (iI r')), (0, Value.ref (ad 0)), (1, Value.int (iI s)), (2, Value.int (iI i)), (3, Value.int (iI j))] [Value.int (iI (bz m25))]
                  refine J_istore d_Mo_sum_107 (by decide) rfl ?_
                  refine J_goto (tgt := 38) d_Mo_sum_109 rfl ?_
                  refine J.sub [0, 3, 1, 4, 5, 6, 7] rfl ?_
                  exact ih16 (m25, 1000000000000, x25, y25) (show (m25 = true → i ≤ x25 ∧ x25 ≤ y25 ∧ y25 ≤ j) ∧ (SI (wayT tm (dvT dv) ln (bsM bd) i j) (pV (nuT nu) ln (bsM bd) i j) (wOk (dvT ct) ln (bsM bd) i j) (wl nr lf ln s i j 0) (1000000000000 : Int) (rs nr lf ln s i j m25 r' x25 y25)) by
                      have hN := ‹Nxt (ln r') j x2 y2 _ _ _›
                      rw [‹mo = true›, rs_nx hN (by omega)] at hI2
                      refine ⟨fun hm => nxt_rng hN hDt (by omega), ?_⟩
                      have hb : wOk (dvT ct) ln (bsM bd) i j (r', x2, y2) ∧ z21 = pV (nuT nu) ln (bsM bd) i j (r', x2, y2) ∧ 0 ≤ z21 ∧ z21 ≤ 1000000000000 := by
                        rcases ‹_ ∨ (_ ∧ z21 = -1)› with h | h
                        · exact h
                        · omega
                      have h9 := si_way hI2 ‹_› hb.1 hb.2.1 hb.2.2.1
                      have e9 : cs al2 z21 = 1000000000000 := by unfold cs; rw [if_pos (by omega)]
                      rw [e9] at h9
                      exact h9) (show (if m25 = true then (sfx (ln r') j x25 y25).length else 0) < (if mo = true then (sfx (ln r') j x2 y2).length else 0) by
                      rw [‹mo = true›, if_pos rfl, sfx_nx ‹Nxt (ln r') j x2 y2 _ _ _› (by omega), List.length_cons]
                      split
                      · exact Nat.lt_succ_self _
                      · exact Nat.succ_pos _)
              · refine J_ldc2 (z := -1) d_Mo_sum_71 cst_Mo_145 rfl ?_
                refine J_lret rfl d_Mo_sum_74 ⟨Nat.le_of_ble_eq_true rfl, Nat.le_of_ble_eq_true rfl⟩ ?_
                refine ⟨_, _, _, rfl, rfl, Or.inr ⟨?_, rfl⟩⟩
                rw [‹mo = true›] at hI2
                obtain ⟨m9, x9, y9, hN9⟩ := nxt_ex (n := ln r') (j := j) (c1 := x2) (c2 := y2)
                rw [rs_nx hN9 (by omega)] at hI2
                have hno : ¬ wOk (dvT ct) ln (bsM bd) i j (r', x2, y2) := by
                  rcases ‹_ ∨ (_ ∧ z21 = -1)› with h | h
                  · omega
                  · exact h.1
                exact si_bad hI2 ‹_› hno
        · show (true = true → i ≤ i ∧ i ≤ i ∧ i ≤ j) ∧ (SI (wayT tm (dvT dv) ln (bsM bd) i j) (pV (nuT nu) ln (bsM bd) i j) (wOk (dvT ct) ln (bsM bd) i j) (wl nr lf ln s i j 0) al (rs nr lf ln s i j true r' i i))
          refine ⟨fun _ => by omega, ?_⟩
          rw [← rs_in (by omega) ‹_›]
          exact hI
  · show (0 ≤ (0 : Int) ∧ (0 : Int) ≤ nr) ∧ (SI (wayT tm (dvT dv) ln (bsM bd) i j) (pV (nuT nu) ln (bsM bd) i j) (wOk (dvT ct) ln (bsM bd) i j) (wl nr lf ln s i j 0) (0 : Int) (wl nr lf ln s i j (0 : Int)))
    exact ⟨by omega, si_0⟩
end M7
