section M1
variable {l : Launch} {D : jD} {b : Nat} {w : jW} {ad : Nat → Nat} {r : Nat → Option jE} {lp : Bool} {rf : Int} {nr : Int} {lf : Int → Int} {ln : Int → Int} {bd : Int → Int} {fd : Int} {tm : Int → Int} {it : Int → Bool} {wk : Bool} {dv : Int → Bool} {ct : Int → Bool} {nu : Int → Int} {mt : Int → Bool} {c1 : Int} {c2 : Int} {td : Int → Int} {tt : Int → Int} {tc : Int}
set_option maxHeartbeats 4000000 in
theorem c_Mo_isNonterminal {s : Int} (hs : -2147483648 ≤ s ∧ s ≤ 2147483647) : Ct l D b Y_Mo_isNonterminal { frames := 0, cells := 0, slots := 0, locals := 0 } [Value.int (iI s)] w (fun v w' => v = some (.int (iI (bz (ntB s)))) ∧ w' = w) := by
  refine Ct_of (by decide) (Nat.le_of_ble_eq_true rfl) ?_
  show J l D b Y_Mo_isNonterminal _ _ w 0 0 0 [(0, Value.int (iI s))] []
  refine J_iload_n d_Mo_isNonterminal_0 rfl 0 rfl ?_
  refine J_if_lt (tgt := 13) d_Mo_isNonterminal_1 rfl (by omega) (fun h1_1 => ?_) (fun h1_1 => ?_)
  · refine J_iconst d_Mo_isNonterminal_13 ?_
    refine J.top (show Value.int (iI 0) = Value.int (iI (bz false)) from rfl) ?_
    refine J_zret rfl d_Mo_isNonterminal_14 ⟨Nat.le_of_ble_eq_true rfl, Nat.le_of_ble_eq_true rfl⟩ ?_
    exact ⟨by rw [ntB_f (by omega)], rfl⟩
  · refine J_iload_n d_Mo_isNonterminal_4 rfl 0 rfl ?_
    refine J_iconst d_Mo_isNonterminal_5 ?_
    refine J_icmp_gt (tgt := 13) d_Mo_isNonterminal_6 rfl (by omega) (by omega) (fun h6_2 => ?_) (fun h6_2 => ?_)
    · refine J_iconst d_Mo_isNonterminal_13 ?_
      refine J.top (show Value.int (iI 0) = Value.int (iI (bz false)) from rfl) ?_
      refine J_zret rfl d_Mo_isNonterminal_14 ⟨Nat.le_of_ble_eq_true rfl, Nat.le_of_ble_eq_true rfl⟩ ?_
      exact ⟨by rw [ntB_f (by omega)], rfl⟩
    · refine J_iconst d_Mo_isNonterminal_9 ?_
      refine J_goto (tgt := 14) d_Mo_isNonterminal_10 rfl ?_
      refine J.top (show Value.int (iI 1) = Value.int (iI (bz true)) from rfl) ?_
      refine J_zret rfl d_Mo_isNonterminal_14 ⟨Nat.le_of_ble_eq_true rfl, Nat.le_of_ble_eq_true rfl⟩ ?_
      exact ⟨by rw [ntB_t (by omega)], rfl⟩
set_option maxHeartbeats 4000000 in
theorem c_Mo_isTerminal {s : Int} (hs : -2147483648 ≤ s ∧ s ≤ 2147483647) : Ct l D b Y_Mo_isTerminal { frames := 0, cells := 0, slots := 0, locals := 0 } [Value.int (iI s)] w (fun v w' => v = some (.int (iI (bz (tmB s)))) ∧ w' = w) := by
  refine Ct_of (by decide) (Nat.le_of_ble_eq_true rfl) ?_
  show J l D b Y_Mo_isTerminal _ _ w 0 0 0 [(0, Value.int (iI s))] []
  refine J_iload_n d_Mo_isTerminal_0 rfl 0 rfl ?_
  refine J_bipush d_Mo_isTerminal_1 (by decide) ?_
  refine J_icmp_lt (tgt := 16) d_Mo_isTerminal_3 rfl (by omega) (by omega) (fun h3_1 => ?_) (fun h3_1 => ?_)
  · refine J_iconst d_Mo_isTerminal_16 ?_
    refine J.top (show Value.int (iI 0) = Value.int (iI (bz false)) from rfl) ?_
    refine J_zret rfl d_Mo_isTerminal_17 ⟨Nat.le_of_ble_eq_true rfl, Nat.le_of_ble_eq_true rfl⟩ ?_
    exact ⟨by rw [tmB_f (by omega)], rfl⟩
  · refine J_iload_n d_Mo_isTerminal_6 rfl 0 rfl ?_
    refine J_bipush d_Mo_isTerminal_7 (by decide) ?_
    refine J_icmp_gt (tgt := 16) d_Mo_isTerminal_9 rfl (by omega) (by omega) (fun h9_2 => ?_) (fun h9_2 => ?_)
    · refine J_iconst d_Mo_isTerminal_16 ?_
      refine J.top (show Value.int (iI 0) = Value.int (iI (bz false)) from rfl) ?_
      refine J_zret rfl d_Mo_isTerminal_17 ⟨Nat.le_of_ble_eq_true rfl, Nat.le_of_ble_eq_true rfl⟩ ?_
      exact ⟨by rw [tmB_f (by omega)], rfl⟩
    · refine J_iconst d_Mo_isTerminal_12 ?_
      refine J_goto (tgt := 17) d_Mo_isTerminal_13 rfl ?_
      refine J.top (show Value.int (iI 1) = Value.int (iI (bz true)) from rfl) ?_
      refine J_zret rfl d_Mo_isTerminal_17 ⟨Nat.le_of_ble_eq_true rfl, Nat.le_of_ble_eq_true rfl⟩ ?_
      exact ⟨by rw [tmB_t (by omega)], rfl⟩
set_option maxHeartbeats 4000000 in
theorem c_Mo_place {i : Int} {q : Int} {d : Int} {o : Int}  : Ct l D b Y_Mo_place { frames := 0, cells := 0, slots := 0, locals := 0 } [Value.int (iI i), Value.int (iI q), Value.int (iI d), Value.int (iI o)] w (fun v w' => v = some (.int (iI (572 * i + 52 * (q + 1) + 13 * d + o))) ∧ w' = w) := by
  refine Ct_of (by decide) (Nat.le_of_ble_eq_true rfl) ?_
  show J l D b Y_Mo_place _ _ w 0 0 0 [(0, Value.int (iI i)), (1, Value.int (iI q)), (2, Value.int (iI d)), (3, Value.int (iI o))] []
  refine J_sipush d_Mo_place_0 (by decide) ?_
  refine J_iload_n d_Mo_place_3 rfl 0 rfl ?_
  refine J_imul d_Mo_place_4 ?_
  refine J_bipush d_Mo_place_5 (by decide) ?_
  refine J_iload_n d_Mo_place_7 rfl 1 rfl ?_
  refine J_iconst d_Mo_place_8 ?_
  refine J_iadd d_Mo_place_9 ?_
  refine J_imul d_Mo_place_10 ?_
  refine J_iadd d_Mo_place_11 ?_
  refine J_bipush d_Mo_place_12 (by decide) ?_
  refine J_iload_n d_Mo_place_14 rfl 2 rfl ?_
  refine J_imul d_Mo_place_15 ?_
  refine J_iadd d_Mo_place_16 ?_
  refine J_iload_n d_Mo_place_17 rfl 3 rfl ?_
  refine J_iadd d_Mo_place_18 ?_
  refine J_iret rfl d_Mo_place_19 ⟨Nat.le_of_ble_eq_true rfl, Nat.le_of_ble_eq_true rfl⟩ ?_
  exact ⟨rfl, rfl⟩
set_option maxHeartbeats 4000000 in
theorem c_Mo_node {s : Int} {i : Int} {j : Int}  : Ct l D b Y_Mo_node { frames := 0, cells := 0, slots := 0, locals := 0 } [Value.int (iI s), Value.int (iI i), Value.int (iI j)] w (fun v w' => v = some (.int (iI (169 * s + 13 * i + j))) ∧ w' = w) := by
  refine Ct_of (by decide) (Nat.le_of_ble_eq_true rfl) ?_
  show J l D b Y_Mo_node _ _ w 0 0 0 [(0, Value.int (iI s)), (1, Value.int (iI i)), (2, Value.int (iI j))] []
  refine J_sipush d_Mo_node_0 (by decide) ?_
  refine J_iload_n d_Mo_node_3 rfl 0 rfl ?_
  refine J_imul d_Mo_node_4 ?_
  refine J_bipush d_Mo_node_5 (by decide) ?_
  refine J_iload_n d_Mo_node_7 rfl 1 rfl ?_
  refine J_imul d_Mo_node_8 ?_
  refine J_iadd d_Mo_node_9 ?_
  refine J_iload_n d_Mo_node_10 rfl 2 rfl ?_
  refine J_iadd d_Mo_node_11 ?_
  refine J_iret rfl d_Mo_node_12 ⟨Nat.le_of_ble_eq_true rfl, Nat.le_of_ble_eq_true rfl⟩ ?_
  exact ⟨rfl, rfl⟩
set_option maxHeartbeats 4000000 in
theorem c_Mo_thrown   : Ct l D b Y_Mo_thrown { frames := 0, cells := 0, slots := 0, locals := 0 } [Value.ref (ad 0)] (ad, cM ad r lp rf nr lf ln bd fd tm it wk dv ct nu mt c1 c2 td tt tc) (fun v w' => v = some (.int (iI rf)) ∧ w' = (ad, cM ad r lp rf nr lf ln bd fd tm it wk dv ct nu mt c1 c2 td tt tc)) := by
  refine Ct_of (by decide) (Nat.le_of_ble_eq_true rfl) ?_
  show J l D b Y_Mo_thrown _ _ (ad, cM ad r lp rf nr lf ln bd fd tm it wk dv ct nu mt c1 c2 td tt tc) 0 0 0 [(0, Value.ref (ad 0))] []
  refine J_aload_n d_Mo_thrown_0 rfl 0 rfl ?_
  refine J_get fs_Mo_53 rfl rfl d_Mo_thrown_1 ?_
  refine J_iret rfl d_Mo_thrown_4 ⟨Nat.le_of_ble_eq_true rfl, Nat.le_of_ble_eq_true rfl⟩ ?_
  exact ⟨rfl, rfl⟩
set_option maxHeartbeats 4000000 in
theorem c_Mo_refuse {c : Int}  : Ct l D b Y_Mo_refuse { frames := 0, cells := 0, slots := 0, locals := 0 } [Value.ref (ad 0), Value.int (iI c)] (ad, cM ad r lp rf nr lf ln bd fd tm it wk dv ct nu mt c1 c2 td tt tc) (fun v w' => v = some (.int (iI 0)) ∧ w' = (ad, cM ad r lp c nr lf ln bd fd tm it wk dv ct nu mt c1 c2 td tt tc)) := by
  refine Ct_of (by decide) (Nat.le_of_ble_eq_true rfl) ?_
  show J l D b Y_Mo_refuse _ _ (ad, cM ad r lp rf nr lf ln bd fd tm it wk dv ct nu mt c1 c2 td tt tc) 0 0 0 [(0, Value.ref (ad 0)), (1, Value.int (iI c))] []
  refine J_aload_n d_Mo_refuse_0 rfl 0 rfl ?_
  refine J_iload_n d_Mo_refuse_1 rfl 1 rfl ?_
  refine J_put fs_Mo_53 rfl (Nat.le_of_ble_eq_true rfl) (fun _ h => by cases h; exact Or.inl rfl) rfl rfl uM_obj d_Mo_refuse_2 ?_
  refine J_iconst d_Mo_refuse_5 ?_
  refine J_iret rfl d_Mo_refuse_6 ⟨Nat.le_of_ble_eq_true rfl, Nat.le_of_ble_eq_true rfl⟩ ?_
  exact ⟨rfl, rfl⟩
set_option maxHeartbeats 4000000 in
theorem c_Mo_lengthOf {q : Int} (hq : -1 ≤ q ∧ q < 10) : Ct l D b Y_Mo_lengthOf { frames := 0, cells := 0, slots := 0, locals := 0 } [Value.ref (ad 0), Value.int (iI q)] (ad, cM ad r lp rf nr lf ln bd fd tm it wk dv ct nu mt c1 c2 td tt tc) (fun v w' => v = some (.int (iI (lenOf ln q))) ∧ w' = (ad, cM ad r lp rf nr lf ln bd fd tm it wk dv ct nu mt c1 c2 td tt tc)) := by
  refine Ct_of (by decide) (Nat.le_of_ble_eq_true rfl) ?_
  show J l D b Y_Mo_lengthOf _ _ (ad, cM ad r lp rf nr lf ln bd fd tm it wk dv ct nu mt c1 c2 td tt tc) 0 0 0 [(0, Value.ref (ad 0)), (1, Value.int (iI q))] []
  refine J_iload_n d_Mo_lengthOf_0 rfl 1 rfl ?_
  refine J_if_ge (tgt := 8) d_Mo_lengthOf_1 rfl (by omega) (fun h1_1 => ?_) (fun h1_1 => ?_)
  · refine J_aload_n d_Mo_lengthOf_8 rfl 0 rfl ?_
    refine J_get fs_Mo_13 rfl rfl d_Mo_lengthOf_9 ?_
    refine J_iload_n d_Mo_lengthOf_12 rfl 1 rfl ?_
    refine J_iald rfl (by omega) (by decide) d_Mo_lengthOf_13 ?_
    refine J_iret rfl d_Mo_lengthOf_14 ⟨Nat.le_of_ble_eq_true rfl, Nat.le_of_ble_eq_true rfl⟩ ?_
    exact ⟨by unfold lenOf; rw [if_neg (by omega)], rfl⟩
  · refine J_iconst d_Mo_lengthOf_4 ?_
    refine J_goto (tgt := 14) d_Mo_lengthOf_5 rfl ?_
    refine J_iret rfl d_Mo_lengthOf_14 ⟨Nat.le_of_ble_eq_true rfl, Nat.le_of_ble_eq_true rfl⟩ ?_
    exact ⟨by unfold lenOf; rw [if_pos (by omega)], rfl⟩
set_option maxHeartbeats 4000000 in
theorem c_Mo_behind {q : Int} {d : Int} (hq : -1 ≤ q ∧ q < 10) (hd : 0 ≤ d ∧ d ≤ 3) (hl : 0 ≤ lenOf ln q ∧ lenOf ln q ≤ 3) : Ct l D b Y_Mo_behind { frames := 1, cells := 0, slots := 0, locals := 21 } [Value.ref (ad 0), Value.int (iI q), Value.int (iI d)] (ad, cM ad r lp rf nr lf ln bd fd tm it wk dv ct nu mt c1 c2 td tt tc) (fun v w' => v = some (.int (iI (bhM ln bd q d))) ∧ w' = (ad, cM ad r lp rf nr lf ln bd fd tm it wk dv ct nu mt c1 c2 td tt tc)) := by
  refine Ct_of (by decide) (Nat.le_of_ble_eq_true rfl) ?_
  show J l D b Y_Mo_behind _ _ (ad, cM ad r lp rf nr lf ln bd fd tm it wk dv ct nu mt c1 c2 td tt tc) 0 0 0 [(0, Value.ref (ad 0)), (1, Value.int (iI q)), (2, Value.int (iI d))] []
  refine J_iload_n d_Mo_behind_0 rfl 2 rfl ?_
  refine J_aload_n d_Mo_behind_1 rfl 0 rfl ?_
  refine J_iload_n d_Mo_behind_2 rfl 1 rfl ?_
  refine J_callV (st := [Value.int (iI d)]) [Value.int (iI q)] ms_Mo_57 rfl (c_Mo_lengthOf (by omega)) rfl rfl ⟨Nat.le_of_ble_eq_true rfl, Nat.le_of_ble_eq_true rfl⟩ ⟨Nat.le_of_ble_eq_true rfl, Nat.le_of_ble_eq_true rfl⟩ (Nat.le_of_ble_eq_true rfl) d_Mo_behind_3 (fun v w' hp => ?_)
  obtain ⟨rfl, rfl⟩ := hp
  show J l D b Y_Mo_behind _ _ (ad, cM ad r lp rf nr lf ln bd fd tm it wk dv ct nu mt c1 c2 td tt tc) 0 0 6 [(0, Value.ref (ad 0)), (1, Value.int (iI q)), (2, Value.int (iI d))] [Value.int (iI (lenOf ln q)), Value.int (iI d)]
  refine J_icmp_lt (tgt := 13) d_Mo_behind_6 rfl (by omega) (by omega) (fun h6_2 => ?_) (fun h6_2 => ?_)
  · refine J_iload_n d_Mo_behind_13 rfl 1 rfl ?_
    refine J_if_ge (tgt := 21) d_Mo_behind_14 rfl (by omega) (fun h14_3 => ?_) (fun h14_3 => ?_)
    · refine J_aload_n d_Mo_behind_21 rfl 0 rfl ?_
      refine J_get fs_Mo_16 rfl rfl d_Mo_behind_22 ?_
      refine J_iconst d_Mo_behind_25 ?_
      refine J_iload_n d_Mo_behind_26 rfl 1 rfl ?_
      refine J_imul d_Mo_behind_27 ?_
      refine J_iload_n d_Mo_behind_28 rfl 2 rfl ?_
      refine J_iadd d_Mo_behind_29 ?_
      refine J_iald rfl (by omega) (by decide) d_Mo_behind_30 ?_
      refine J_iret rfl d_Mo_behind_31 ⟨Nat.le_of_ble_eq_true rfl, Nat.le_of_ble_eq_true rfl⟩ ?_
      exact ⟨by unfold bhM; rw [if_neg (by omega), if_neg (by omega)], rfl⟩
    · refine J_iconst d_Mo_behind_17 ?_
      refine J_goto (tgt := 31) d_Mo_behind_18 rfl ?_
      refine J_iret rfl d_Mo_behind_31 ⟨Nat.le_of_ble_eq_true rfl, Nat.le_of_ble_eq_true rfl⟩ ?_
      exact ⟨by unfold bhM; rw [if_neg (by omega), if_pos (by omega)], rfl⟩
  · refine J_iconst d_Mo_behind_9 ?_
    refine J_goto (tgt := 31) d_Mo_behind_10 rfl ?_
    refine J_iret rfl d_Mo_behind_31 ⟨Nat.le_of_ble_eq_true rfl, Nat.le_of_ble_eq_true rfl⟩ ?_
    exact ⟨by unfold bhM; rw [if_pos (by omega)], rfl⟩
set_option maxHeartbeats 4000000 in
theorem c_Mo_holds {i : Int} {q : Int} {d : Int} {o : Int} (hp : 0 ≤ 572 * i + 52 * (q + 1) + 13 * d + o ∧ 572 * i + 52 * (q + 1) + 13 * d + o < 7436) : Ct l D b Y_Mo_holds { frames := 1, cells := 0, slots := 0, locals := 23 } [Value.ref (ad 0), Value.int (iI i), Value.int (iI q), Value.int (iI d), Value.int (iI o)] (ad, cM ad r lp rf nr lf ln bd fd tm it wk dv ct nu mt c1 c2 td tt tc) (fun v w' => v = some (.int (iI (bz (it (572 * i + 52 * (q + 1) + 13 * d + o))))) ∧ w' = (ad, cM ad r lp rf nr lf ln bd fd tm it wk dv ct nu mt c1 c2 td tt tc)) := by
  refine Ct_of (by decide) (Nat.le_of_ble_eq_true rfl) ?_
  show J l D b Y_Mo_holds _ _ (ad, cM ad r lp rf nr lf ln bd fd tm it wk dv ct nu mt c1 c2 td tt tc) 0 0 0 [(0, Value.ref (ad 0)), (1, Value.int (iI i)), (2, Value.int (iI q)), (3, Value.int (iI d)), (4, Value.int (iI o))] []
  refine J_aload_n d_Mo_holds_0 rfl 0 rfl ?_
  refine J_get fs_Mo_22 rfl rfl d_Mo_holds_1 ?_
  refine J_iload_n d_Mo_holds_4 rfl 1 rfl ?_
  refine J_iload_n d_Mo_holds_5 rfl 2 rfl ?_
  refine J_iload_n d_Mo_holds_6 rfl 3 rfl ?_
  refine J_iload d_Mo_holds_7 4 rfl ?_
  refine J_callS (st := [Value.ref (ad 5)]) [Value.int (iI i), Value.int (iI q), Value.int (iI d), Value.int (iI o)] ms_Mo_61 (c_Mo_place) rfl rfl ⟨Nat.le_of_ble_eq_true rfl, Nat.le_of_ble_eq_true rfl⟩ ⟨Nat.le_of_ble_eq_true rfl, Nat.le_of_ble_eq_true rfl⟩ (Nat.le_of_ble_eq_true rfl) d_Mo_holds_9 (fun v w' hp => ?_)
  obtain ⟨rfl, rfl⟩ := hp
  show J l D b Y_Mo_holds _ _ (ad, cM ad r lp rf nr lf ln bd fd tm it wk dv ct nu mt c1 c2 td tt tc) 0 0 12 [(0, Value.ref (ad 0)), (1, Value.int (iI i)), (2, Value.int (iI q)), (3, Value.int (iI d)), (4, Value.int (iI o))] [Value.int (iI (572 * i + 52 * (q + 1) + 13 * d + o)), Value.ref (ad 5)]
  refine J_zald rfl (by omega) (by decide) d_Mo_holds_12 ?_
  refine J_zret rfl d_Mo_holds_13 ⟨Nat.le_of_ble_eq_true rfl, Nat.le_of_ble_eq_true rfl⟩ ?_
  exact ⟨rfl, rfl⟩
set_option maxHeartbeats 4000000 in
theorem c_Mo_add {i : Int} {q : Int} {d : Int} {o : Int} (hp : 0 ≤ 572 * i + 52 * (q + 1) + 13 * d + o ∧ 572 * i + 52 * (q + 1) + 13 * d + o < 7436) : Ct l D b Y_Mo_add { frames := 1, cells := 0, slots := 0, locals := 23 } [Value.ref (ad 0), Value.int (iI i), Value.int (iI q), Value.int (iI d), Value.int (iI o)] (ad, cM ad r lp rf nr lf ln bd fd tm it wk dv ct nu mt c1 c2 td tt tc) (fun v w' => v = some (.int (iI (if it (572 * i + 52 * (q + 1) + 13 * d + o) = true then 0 else 1))) ∧ w' = (ad, cM ad r lp rf nr lf ln bd fd tm (upI it (572 * i + 52 * (q + 1) + 13 * d + o) true) wk dv ct nu mt c1 c2 td tt tc)) := by
  refine Ct_of (by decide) (Nat.le_of_ble_eq_true rfl) ?_
  show J l D b Y_Mo_add _ _ (ad, cM ad r lp rf nr lf ln bd fd tm it wk dv ct nu mt c1 c2 td tt tc) 0 0 0 [(0, Value.ref (ad 0)), (1, Value.int (iI i)), (2, Value.int (iI q)), (3, Value.int (iI d)), (4, Value.int (iI o))] []
  refine J_iload_n d_Mo_add_0 rfl 1 rfl ?_
  refine J_iload_n d_Mo_add_1 rfl 2 rfl ?_
  refine J_iload_n d_Mo_add_2 rfl 3 rfl ?_
  refine J_iload d_Mo_add_3 4 rfl ?_
  refine J_callS (st := []) [Value.int (iI i), Value.int (iI q), Value.int (iI d), Value.int (iI o)] ms_Mo_61 (c_Mo_place) rfl rfl ⟨Nat.le_of_ble_eq_true rfl, Nat.le_of_ble_eq_true rfl⟩ ⟨Nat.le_of_ble_eq_true rfl, Nat.le_of_ble_eq_true rfl⟩ (Nat.le_of_ble_eq_true rfl) d_Mo_add_5 (fun v w' hp => ?_)
  obtain ⟨rfl, rfl⟩ := hp
  show J l D b Y_Mo_add _ _ (ad, cM ad r lp rf nr lf ln bd fd tm it wk dv ct nu mt c1 c2 td tt tc) 0 0 8 [(0, Value.ref (ad 0)), (1, Value.int (iI i)), (2, Value.int (iI q)), (3, Value.int (iI d)), (4, Value.int (iI o))] [Value.int (iI (572 * i + 52 * (q + 1) + 13 * d + o))]
  refine J_istore d_Mo_add_8 (by decide) rfl ?_
  refine J_aload_n d_Mo_add_10 rfl 1 rfl ?_
  refine J_get fs_Mo_22 rfl rfl d_Mo_add_11 ?_
  refine J_iload d_Mo_add_14 0 rfl ?_
  refine J_zald rfl (by omega) (by decide) d_Mo_add_16 ?_
  refine J_ifB_eq (tgt := 22) d_Mo_add_17 rfl (fun h17_2 => ?_) (fun h17_2 => ?_)
  · refine J_aload_n d_Mo_add_22 rfl 1 rfl ?_
    refine J_get fs_Mo_22 rfl rfl d_Mo_add_23 ?_
    refine J_iload d_Mo_add_26 0 rfl ?_
    refine J_iconst d_Mo_add_28 ?_
    refine J.top (show Value.int (iI 1) = Value.int (iI (bz true)) from rfl) ?_
    refine J_zast rfl (by omega) (by decide) uM_it d_Mo_add_29 ?_
    refine J_iconst d_Mo_add_30 ?_
    refine J_iret rfl d_Mo_add_31 ⟨Nat.le_of_ble_eq_true rfl, Nat.le_of_ble_eq_true rfl⟩ ?_
    exact ⟨by rw [if_neg (by rw [‹it _ = false›]; decide)], rfl⟩
  · refine J_iconst d_Mo_add_20 ?_
    refine J_iret rfl d_Mo_add_21 ⟨Nat.le_of_ble_eq_true rfl, Nat.le_of_ble_eq_true rfl⟩ ?_
    exact ⟨by rw [if_pos ‹_›], by rw [upI_id ‹_›]⟩
set_option maxHeartbeats 4000000 in
theorem c_Mo_firstCuts {i : Int}  : Ct l D b Y_Mo_firstCuts { frames := 0, cells := 0, slots := 0, locals := 0 } [Value.ref (ad 0), Value.int (iI i)] (ad, cM ad r lp rf nr lf ln bd fd tm it wk dv ct nu mt c1 c2 td tt tc) (fun v w' => v = none ∧ w' = (ad, cM ad r lp rf nr lf ln bd fd tm it wk dv ct nu mt i i td tt tc)) := by
  refine Ct_of (by decide) (Nat.le_of_ble_eq_true rfl) ?_
  show J l D b Y_Mo_firstCuts _ _ (ad, cM ad r lp rf nr lf ln bd fd tm it wk dv ct nu mt c1 c2 td tt tc) 0 0 0 [(0, Value.ref (ad 0)), (1, Value.int (iI i))] []
  refine J_aload_n d_Mo_firstCuts_0 rfl 0 rfl ?_
  refine J_iload_n d_Mo_firstCuts_1 rfl 1 rfl ?_
  refine J_put fs_Mo_117 rfl (Nat.le_of_ble_eq_true rfl) (fun _ h => by cases h; exact Or.inl rfl) rfl rfl uM_obj d_Mo_firstCuts_2 ?_
  refine J_aload_n d_Mo_firstCuts_5 rfl 0 rfl ?_
  refine J_iload_n d_Mo_firstCuts_6 rfl 1 rfl ?_
  refine J_put fs_Mo_120 rfl (Nat.le_of_ble_eq_true rfl) (fun _ h => by cases h; exact Or.inl rfl) rfl rfl uM_obj d_Mo_firstCuts_7 ?_
  refine J_vret rfl d_Mo_firstCuts_10 ⟨Nat.le_of_ble_eq_true rfl, Nat.le_of_ble_eq_true rfl⟩ ?_
  exact ⟨rfl, rfl⟩
set_option maxHeartbeats 4000000 in
theorem c_Mo_fed   : Ct l D b Y_Mo_fed { frames := 0, cells := 0, slots := 0, locals := 0 } [Value.ref (ad 0)] (ad, cM ad r lp rf nr lf ln bd fd tm it wk dv ct nu mt c1 c2 td tt tc) (fun v w' => v = some (.int (iI fd)) ∧ w' = (ad, cM ad r lp 0 nr lf ln bd fd tm it wk dv ct nu mt c1 c2 td tt tc)) := by
  refine Ct_of (by decide) (Nat.le_of_ble_eq_true rfl) ?_
  show J l D b Y_Mo_fed _ _ (ad, cM ad r lp rf nr lf ln bd fd tm it wk dv ct nu mt c1 c2 td tt tc) 0 0 0 [(0, Value.ref (ad 0))] []
  refine J_aload_n d_Mo_fed_0 rfl 0 rfl ?_
  refine J_iconst d_Mo_fed_1 ?_
  refine J_put fs_Mo_53 rfl (Nat.le_of_ble_eq_true rfl) (fun _ h => by cases h; exact Or.inl rfl) rfl rfl uM_obj d_Mo_fed_2 ?_
  refine J_aload_n d_Mo_fed_5 rfl 0 rfl ?_
  refine J_get fs_Mo_97 rfl rfl d_Mo_fed_6 ?_
  refine J_iret rfl d_Mo_fed_9 ⟨Nat.le_of_ble_eq_true rfl, Nat.le_of_ble_eq_true rfl⟩ ?_
  exact ⟨rfl, rfl⟩
set_option maxHeartbeats 4000000 in
theorem c_Mo_isSet {i : Int} (hi : -2147483648 ≤ i ∧ i ≤ 2147483647) (hf : 0 ≤ fd ∧ fd ≤ 12) : Ct l D b Y_Mo_isSet { frames := 0, cells := 0, slots := 0, locals := 0 } [Value.ref (ad 0), Value.int (iI i)] (ad, cM ad r lp rf nr lf ln bd fd tm it wk dv ct nu mt c1 c2 td tt tc) (fun v w' => v = some (.int (iI (bz (decide (0 ≤ i ∧ i ≤ fd))))) ∧ w' = (ad, cM ad r lp rf nr lf ln bd fd tm it wk dv ct nu mt c1 c2 td tt tc)) := by
  refine Ct_of (by decide) (Nat.le_of_ble_eq_true rfl) ?_
  show J l D b Y_Mo_isSet _ _ (ad, cM ad r lp rf nr lf ln bd fd tm it wk dv ct nu mt c1 c2 td tt tc) 0 0 0 [(0, Value.ref (ad 0)), (1, Value.int (iI i))] []
  refine J_iload_n d_Mo_isSet_0 rfl 1 rfl ?_
  refine J_if_lt (tgt := 16) d_Mo_isSet_1 rfl (by omega) (fun h1_1 => ?_) (fun h1_1 => ?_)
  · refine J_iconst d_Mo_isSet_16 ?_
    refine J.top (show Value.int (iI 0) = Value.int (iI (bz false)) from rfl) ?_
    refine J_zret rfl d_Mo_isSet_17 ⟨Nat.le_of_ble_eq_true rfl, Nat.le_of_ble_eq_true rfl⟩ ?_
    exact ⟨by rw [decide_eq_false (by omega)], rfl⟩
  · refine J_iload_n d_Mo_isSet_4 rfl 1 rfl ?_
    refine J_aload_n d_Mo_isSet_5 rfl 0 rfl ?_
    refine J_get fs_Mo_97 rfl rfl d_Mo_isSet_6 ?_
    refine J_icmp_gt (tgt := 16) d_Mo_isSet_9 rfl (by omega) (by omega) (fun h9_2 => ?_) (fun h9_2 => ?_)
    · refine J_iconst d_Mo_isSet_16 ?_
      refine J.top (show Value.int (iI 0) = Value.int (iI (bz false)) from rfl) ?_
      refine J_zret rfl d_Mo_isSet_17 ⟨Nat.le_of_ble_eq_true rfl, Nat.le_of_ble_eq_true rfl⟩ ?_
      exact ⟨by rw [decide_eq_false (by omega)], rfl⟩
    · refine J_iconst d_Mo_isSet_12 ?_
      refine J_goto (tgt := 17) d_Mo_isSet_13 rfl ?_
      refine J.top (show Value.int (iI 1) = Value.int (iI (bz true)) from rfl) ?_
      refine J_zret rfl d_Mo_isSet_17 ⟨Nat.le_of_ble_eq_true rfl, Nat.le_of_ble_eq_true rfl⟩ ?_
      exact ⟨by rw [decide_eq_true (by omega)], rfl⟩
set_option maxHeartbeats 4000000 in
theorem c_Mo_accepts  (hf : 0 ≤ fd ∧ fd ≤ 12) : Ct l D b Y_Mo_accepts { frames := 2, cells := 0, slots := 0, locals := 47 } [Value.ref (ad 0)] (ad, cM ad r lp rf nr lf ln bd fd tm it wk dv ct nu mt c1 c2 td tt tc) (fun v w' => v = some (.int (iI (bz (it (572 * fd + 52 * (-1 + 1) + 13 * 1 + 0))))) ∧ w' = (ad, cM ad r lp 0 nr lf ln bd fd tm it wk dv ct nu mt c1 c2 td tt tc)) := by
  refine Ct_of (by decide) (Nat.le_of_ble_eq_true rfl) ?_
  show J l D b Y_Mo_accepts _ _ (ad, cM ad r lp rf nr lf ln bd fd tm it wk dv ct nu mt c1 c2 td tt tc) 0 0 0 [(0, Value.ref (ad 0))] []
  refine J_aload_n d_Mo_accepts_0 rfl 0 rfl ?_
  refine J_iconst d_Mo_accepts_1 ?_
  refine J_put fs_Mo_53 rfl (Nat.le_of_ble_eq_true rfl) (fun _ h => by cases h; exact Or.inl rfl) rfl rfl uM_obj d_Mo_accepts_2 ?_
  refine J_aload_n d_Mo_accepts_5 rfl 0 rfl ?_
  refine J_aload_n d_Mo_accepts_6 rfl 0 rfl ?_
  refine J_get fs_Mo_97 rfl rfl d_Mo_accepts_7 ?_
  refine J_iconst d_Mo_accepts_10 ?_
  refine J_iconst d_Mo_accepts_11 ?_
  refine J_iconst d_Mo_accepts_12 ?_
  refine J_callV (st := []) [Value.int (iI fd), Value.int (iI (-1)), Value.int (iI 1), Value.int (iI 0)] ms_Mo_106 rfl (c_Mo_holds (by omega)) rfl rfl ⟨Nat.le_of_ble_eq_true rfl, Nat.le_of_ble_eq_true rfl⟩ ⟨Nat.le_of_ble_eq_true rfl, Nat.le_of_ble_eq_true rfl⟩ (Nat.le_of_ble_eq_true rfl) d_Mo_accepts_13 (fun v w' hp => ?_)
  obtain ⟨rfl, rfl⟩ := hp
  show J l D b Y_Mo_accepts _ _ (ad, cM ad r lp 0 nr lf ln bd fd tm it wk dv ct nu mt c1 c2 td tt tc) 0 0 16 [(0, Value.ref (ad 0))] [Value.int (iI (bz (it (572 * fd + 52 * ((-1) + 1) + 13 * 1 + 0))))]
  refine J_zret rfl d_Mo_accepts_16 ⟨Nat.le_of_ble_eq_true rfl, Nat.le_of_ble_eq_true rfl⟩ ?_
  exact ⟨rfl, rfl⟩
end M1
