section N1
variable {l : Launch} {D : jD} {b : Nat} {w : jW} {ad : Nat → Nat} {r : Nat → Option jE} {lp : Bool} {fd : Int} {nr : Int} {nc : Int} {nd : Int} {mc : Int} {lf : Int → Int} {ln : Int → Int} {bd : Int → Int} {tm : Int → Int} {it : Int → Int → Int} {th : Int → Int → Bool} {my : Int → Int} {lps : Int → Int → Int} {em : Int → Int} {mk : Int → Int → Int} {tr : Int → Int → Int → Int} {wg : Bool} {wr : Value} {we : Int} {wc : Int → Int} {wb : Bool} {vg : Bool} {vr : Value} {ve : Int} {vc : Int → Int} {vb : Bool} {sy : Int → Int} {sf : Int → Int} {so : Int → Int} {st : Int → Int} {sn : Int} {ne : Int → Int} {mt : Int → Int → Bool}
set_option maxHeartbeats 4000000 in
theorem c_CF_isNonterminal {s : Int}  (hs : -2147483648 ≤ s ∧ s ≤ 2147483647) : Ct l D b Y_CF_isNonterminal { frames := 0, cells := 0, slots := 0, locals := 0 } [Value.int (iI s)] w (fun v w' => v = some (.int (iI (bz (ntB s)))) ∧ w' = w) := by
  refine Ct_of (by decide) (Nat.le_of_ble_eq_true rfl) ?_
  show J l D b Y_CF_isNonterminal _ _ w 0 0 0 [(0, Value.int (iI s))] []
  refine J_iload_n d_CF_isNonterminal_0 rfl 0 rfl ?_
  refine J_if_lt (tgt := 13) d_CF_isNonterminal_1 rfl (by omega) (fun h1_1 => ?_) (fun h1_1 => ?_)
  · refine J_iconst d_CF_isNonterminal_13 ?_
    refine J.top (show Value.int (iI 0) = Value.int (iI (bz false)) from rfl) ?_
    refine J_zret rfl d_CF_isNonterminal_14 ⟨Nat.le_of_ble_eq_true rfl, Nat.le_of_ble_eq_true rfl⟩ ?_
    exact ⟨by rw [ntB_f (by omega)], rfl⟩
  · refine J_iload_n d_CF_isNonterminal_4 rfl 0 rfl ?_
    refine J_iconst d_CF_isNonterminal_5 ?_
    refine J_icmp_ge (tgt := 13) d_CF_isNonterminal_6 rfl (by omega) (by omega) (fun h6_2 => ?_) (fun h6_2 => ?_)
    · refine J_iconst d_CF_isNonterminal_13 ?_
      refine J.top (show Value.int (iI 0) = Value.int (iI (bz false)) from rfl) ?_
      refine J_zret rfl d_CF_isNonterminal_14 ⟨Nat.le_of_ble_eq_true rfl, Nat.le_of_ble_eq_true rfl⟩ ?_
      exact ⟨by rw [ntB_f (by omega)], rfl⟩
    · refine J_iconst d_CF_isNonterminal_9 ?_
      refine J_goto (tgt := 14) d_CF_isNonterminal_10 rfl ?_
      refine J.top (show Value.int (iI 1) = Value.int (iI (bz true)) from rfl) ?_
      refine J_zret rfl d_CF_isNonterminal_14 ⟨Nat.le_of_ble_eq_true rfl, Nat.le_of_ble_eq_true rfl⟩ ?_
      exact ⟨by rw [ntB_t (by omega)], rfl⟩
set_option maxHeartbeats 4000000 in
theorem c_CF_isTerminal {s : Int}  (hs : -2147483648 ≤ s ∧ s ≤ 2147483647) : Ct l D b Y_CF_isTerminal { frames := 0, cells := 0, slots := 0, locals := 0 } [Value.int (iI s)] w (fun v w' => v = some (.int (iI (bz (tmB s)))) ∧ w' = w) := by
  refine Ct_of (by decide) (Nat.le_of_ble_eq_true rfl) ?_
  show J l D b Y_CF_isTerminal _ _ w 0 0 0 [(0, Value.int (iI s))] []
  refine J_iload_n d_CF_isTerminal_0 rfl 0 rfl ?_
  refine J_bipush d_CF_isTerminal_1 (by decide) ?_
  refine J_icmp_lt (tgt := 16) d_CF_isTerminal_3 rfl (by omega) (by omega) (fun h3_1 => ?_) (fun h3_1 => ?_)
  · refine J_iconst d_CF_isTerminal_16 ?_
    refine J.top (show Value.int (iI 0) = Value.int (iI (bz false)) from rfl) ?_
    refine J_zret rfl d_CF_isTerminal_17 ⟨Nat.le_of_ble_eq_true rfl, Nat.le_of_ble_eq_true rfl⟩ ?_
    exact ⟨by rw [tmB_f (by omega)], rfl⟩
  · refine J_iload_n d_CF_isTerminal_6 rfl 0 rfl ?_
    refine J_bipush d_CF_isTerminal_7 (by decide) ?_
    refine J_icmp_ge (tgt := 16) d_CF_isTerminal_9 rfl (by omega) (by omega) (fun h9_2 => ?_) (fun h9_2 => ?_)
    · refine J_iconst d_CF_isTerminal_16 ?_
      refine J.top (show Value.int (iI 0) = Value.int (iI (bz false)) from rfl) ?_
      refine J_zret rfl d_CF_isTerminal_17 ⟨Nat.le_of_ble_eq_true rfl, Nat.le_of_ble_eq_true rfl⟩ ?_
      exact ⟨by rw [tmB_f (by omega)], rfl⟩
    · refine J_iconst d_CF_isTerminal_12 ?_
      refine J_goto (tgt := 17) d_CF_isTerminal_13 rfl ?_
      refine J.top (show Value.int (iI 1) = Value.int (iI (bz true)) from rfl) ?_
      refine J_zret rfl d_CF_isTerminal_17 ⟨Nat.le_of_ble_eq_true rfl, Nat.le_of_ble_eq_true rfl⟩ ?_
      exact ⟨by rw [tmB_t (by omega)], rfl⟩
set_option maxHeartbeats 4000000 in
theorem c_CF_pack {q : Int} {d : Int} {o : Int}   : Ct l D b Y_CF_pack { frames := 0, cells := 0, slots := 0, locals := 0 } [Value.int (iI q), Value.int (iI d), Value.int (iI o)] w (fun v w' => v = some (.int (iI (52 * (q + 1) + 13 * d + o))) ∧ w' = w) := by
  refine Ct_of (by decide) (Nat.le_of_ble_eq_true rfl) ?_
  show J l D b Y_CF_pack _ _ w 0 0 0 [(0, Value.int (iI q)), (1, Value.int (iI d)), (2, Value.int (iI o))] []
  refine J_iload_n d_CF_pack_0 rfl 0 rfl ?_
  refine J_iconst d_CF_pack_1 ?_
  refine J_iadd d_CF_pack_2 ?_
  refine J_iconst d_CF_pack_3 ?_
  refine J_imul d_CF_pack_4 ?_
  refine J_iload_n d_CF_pack_5 rfl 1 rfl ?_
  refine J_iadd d_CF_pack_6 ?_
  refine J_bipush d_CF_pack_7 (by decide) ?_
  refine J_imul d_CF_pack_9 ?_
  refine J_iload_n d_CF_pack_10 rfl 2 rfl ?_
  refine J_iadd d_CF_pack_11 ?_
  refine J_iret rfl d_CF_pack_12 ⟨Nat.le_of_ble_eq_true rfl, Nat.le_of_ble_eq_true rfl⟩ ?_
  exact ⟨by congr 3; omega, rfl⟩
set_option maxHeartbeats 4000000 in
theorem c_CF_ruleOf {c : Int}  (hc : 0 ≤ c ∧ c < 572) : Ct l D b Y_CF_ruleOf { frames := 0, cells := 0, slots := 0, locals := 0 } [Value.int (iI c)] w (fun v w' => v = some (.int (iI (c / 52 - 1))) ∧ w' = w) := by
  refine Ct_of (by decide) (Nat.le_of_ble_eq_true rfl) ?_
  show J l D b Y_CF_ruleOf _ _ w 0 0 0 [(0, Value.int (iI c))] []
  refine J_iload_n d_CF_ruleOf_0 rfl 0 rfl ?_
  refine J_bipush d_CF_ruleOf_1 (by decide) ?_
  refine J_idiv d_CF_ruleOf_3 (by omega) (by omega) ?_
  refine J_iconst d_CF_ruleOf_4 ?_
  refine J_idiv d_CF_ruleOf_5 (by omega) (by omega) ?_
  refine J_iconst d_CF_ruleOf_6 ?_
  refine J_isub d_CF_ruleOf_7 ?_
  refine J_iret rfl d_CF_ruleOf_8 ⟨Nat.le_of_ble_eq_true rfl, Nat.le_of_ble_eq_true rfl⟩ ?_
  exact ⟨by congr 3; omega, rfl⟩
set_option maxHeartbeats 4000000 in
theorem c_CF_dotOf {c : Int}  (hc : 0 ≤ c ∧ c < 572) : Ct l D b Y_CF_dotOf { frames := 0, cells := 0, slots := 0, locals := 0 } [Value.int (iI c)] w (fun v w' => v = some (.int (iI (c % 52 / 13))) ∧ w' = w) := by
  refine Ct_of (by decide) (Nat.le_of_ble_eq_true rfl) ?_
  show J l D b Y_CF_dotOf _ _ w 0 0 0 [(0, Value.int (iI c))] []
  refine J_iload_n d_CF_dotOf_0 rfl 0 rfl ?_
  refine J_bipush d_CF_dotOf_1 (by decide) ?_
  refine J_idiv d_CF_dotOf_3 (by omega) (by omega) ?_
  refine J_iconst d_CF_dotOf_4 ?_
  refine J_irem d_CF_dotOf_5 (by omega) (by omega) ?_
  refine J_iret rfl d_CF_dotOf_6 ⟨Nat.le_of_ble_eq_true rfl, Nat.le_of_ble_eq_true rfl⟩ ?_
  exact ⟨by congr 3; omega, rfl⟩
set_option maxHeartbeats 4000000 in
theorem c_CF_originOf {c : Int}  (hc : 0 ≤ c ∧ c < 572) : Ct l D b Y_CF_originOf { frames := 0, cells := 0, slots := 0, locals := 0 } [Value.int (iI c)] w (fun v w' => v = some (.int (iI (c % 13))) ∧ w' = w) := by
  refine Ct_of (by decide) (Nat.le_of_ble_eq_true rfl) ?_
  show J l D b Y_CF_originOf _ _ w 0 0 0 [(0, Value.int (iI c))] []
  refine J_iload_n d_CF_originOf_0 rfl 0 rfl ?_
  refine J_bipush d_CF_originOf_1 (by decide) ?_
  refine J_irem d_CF_originOf_3 (by omega) (by omega) ?_
  refine J_iret rfl d_CF_originOf_4 ⟨Nat.le_of_ble_eq_true rfl, Nat.le_of_ble_eq_true rfl⟩ ?_
  exact ⟨rfl, rfl⟩
set_option maxHeartbeats 4000000 in
theorem c_Pr_checkIndex {x : Int} {y : Int}  (hx : 0 ≤ x ∧ x < y ∧ y ≤ 2147483647) : Ct l D b Y_Pr_checkIndex { frames := 0, cells := 0, slots := 0, locals := 0 } [Value.int (iI x), Value.int (iI y), Value.null] w (fun v w' => v = some (.int (iI x)) ∧ w' = w) := by
  refine Ct_of (by decide) (Nat.le_of_ble_eq_true rfl) ?_
  show J l D b Y_Pr_checkIndex _ _ w 0 0 0 [(0, Value.int (iI x)), (1, Value.int (iI y)), (2, Value.null)] []
  refine J_iload_n d_Pr_checkIndex_0 rfl 0 rfl ?_
  refine J_if_lt (tgt := 9) d_Pr_checkIndex_1 rfl (by omega) (fun h1_1 => ?_) (fun h1_1 => ?_)
  · exact absurd h1_1 (by omega)
  · refine J_iload_n d_Pr_checkIndex_4 rfl 0 rfl ?_
    refine J_iload_n d_Pr_checkIndex_5 rfl 1 rfl ?_
    refine J_icmp_lt (tgt := 16) d_Pr_checkIndex_6 rfl (by omega) (by omega) (fun h6_2 => ?_) (fun h6_2 => ?_)
    · refine J_iload_n d_Pr_checkIndex_16 rfl 0 rfl ?_
      refine J_iret rfl d_Pr_checkIndex_17 ⟨Nat.le_of_ble_eq_true rfl, Nat.le_of_ble_eq_true rfl⟩ ?_
      exact ⟨rfl, rfl⟩
    · exact absurd h6_2 (by omega)
set_option maxHeartbeats 4000000 in
theorem c_Os_checkIndex {x : Int} {y : Int}  (hx : 0 ≤ x ∧ x < y ∧ y ≤ 2147483647) : Ct l D b Y_Os_checkIndex { frames := 1, cells := 0, slots := 0, locals := 22 } [Value.int (iI x), Value.int (iI y)] w (fun v w' => v = some (.int (iI x)) ∧ w' = w) := by
  refine Ct_of (by decide) (Nat.le_of_ble_eq_true rfl) ?_
  show J l D b Y_Os_checkIndex _ _ w 0 0 0 [(0, Value.int (iI x)), (1, Value.int (iI y))] []
  refine J_iload_n d_Os_checkIndex_0 rfl 0 rfl ?_
  refine J_iload_n d_Os_checkIndex_1 rfl 1 rfl ?_
  refine J_null d_Os_checkIndex_2 ?_
  refine J_callS (st := []) [Value.int (iI x), Value.int (iI y), Value.null] ms_Os_105 (c_Pr_checkIndex (by omega)) rfl rfl ⟨Nat.le_of_ble_eq_true rfl, Nat.le_of_ble_eq_true rfl⟩ ⟨Nat.le_of_ble_eq_true rfl, Nat.le_of_ble_eq_true rfl⟩ (Nat.le_of_ble_eq_true rfl) d_Os_checkIndex_3 (fun v w' hp => ?_)
  obtain ⟨rfl, hw9⟩ := hp
  rw [hw9]
  show J l D b Y_Os_checkIndex _ _ w 0 0 6 [(0, Value.int (iI x)), (1, Value.int (iI y))] [Value.int (iI x)]
  refine J_iret rfl d_Os_checkIndex_6 ⟨Nat.le_of_ble_eq_true rfl, Nat.le_of_ble_eq_true rfl⟩ ?_
  exact ⟨rfl, rfl⟩
set_option maxHeartbeats 4000000 in
theorem c_Al_elementData {q : Int}  (hq : 0 ≤ q ∧ q < nr ∧ nr ≤ 10) : Ct l D b Y_Al_elementData { frames := 0, cells := 0, slots := 0, locals := 0 } [Value.ref (ad 103), Value.int (iI q)] (ad, cC ad r lp fd nr nr nr mc lf ln bd tm it th my lps em mk tr wg wr we wc wb vg vr ve vc vb sy sf so st sn ne mt) (fun v w' => v = some (.ref (ad (idR q))) ∧ w' = (ad, cC ad r lp fd nr nr nr mc lf ln bd tm it th my lps em mk tr wg wr we wc wb vg vr ve vc vb sy sf so st sn ne mt)) := by
  refine Ct_of (by decide) (Nat.le_of_ble_eq_true rfl) ?_
  show J l D b Y_Al_elementData _ _ (ad, cC ad r lp fd nr nr nr mc lf ln bd tm it th my lps em mk tr wg wr we wc wb vg vr ve vc vb sy sf so st sn ne mt) 0 0 0 [(0, Value.ref (ad 103)), (1, Value.int (iI q))] []
  refine J_aload_n d_Al_elementData_0 rfl 0 rfl ?_
  refine J_get fs_Al_9 rfl rfl d_Al_elementData_1 ?_
  refine J_iload_n d_Al_elementData_4 rfl 1 rfl ?_
  refine J_aald (v := Value.ref (ad (idR q))) rfl rfl (by omega) (by decide) (elD_in (by omega)) d_Al_elementData_5 ?_
  refine J_aret rfl d_Al_elementData_6 ⟨Nat.le_of_ble_eq_true rfl, Nat.le_of_ble_eq_true rfl⟩ ?_
  exact ⟨rfl, rfl⟩
set_option maxHeartbeats 4000000 in
theorem c_Al_get {q : Int}  (hq : 0 ≤ q ∧ q < nr ∧ nr ≤ 10) : Ct l D b Y_Al_get { frames := 2, cells := 0, slots := 0, locals := 43 } [Value.ref (ad 103), Value.int (iI q)] (ad, cC ad r lp fd nr nr nr mc lf ln bd tm it th my lps em mk tr wg wr we wc wb vg vr ve vc vb sy sf so st sn ne mt) (fun v w' => v = some (.ref (ad (idR q))) ∧ w' = (ad, cC ad r lp fd nr nr nr mc lf ln bd tm it th my lps em mk tr wg wr we wc wb vg vr ve vc vb sy sf so st sn ne mt)) := by
  refine Ct_of (by decide) (Nat.le_of_ble_eq_true rfl) ?_
  show J l D b Y_Al_get _ _ (ad, cC ad r lp fd nr nr nr mc lf ln bd tm it th my lps em mk tr wg wr we wc wb vg vr ve vc vb sy sf so st sn ne mt) 0 0 0 [(0, Value.ref (ad 103)), (1, Value.int (iI q))] []
  refine J_iload_n d_Al_get_0 rfl 1 rfl ?_
  refine J_aload_n d_Al_get_1 rfl 0 rfl ?_
  refine J_get fs_Al_48 rfl rfl d_Al_get_2 ?_
  refine J_callS (st := []) [Value.int (iI q), Value.int (iI nr)] ms_Al_118 (c_Os_checkIndex (by omega)) rfl rfl ⟨Nat.le_of_ble_eq_true rfl, Nat.le_of_ble_eq_true rfl⟩ ⟨Nat.le_of_ble_eq_true rfl, Nat.le_of_ble_eq_true rfl⟩ (Nat.le_of_ble_eq_true rfl) d_Al_get_5 (fun v w' hp => ?_)
  obtain ⟨rfl, rfl⟩ := hp
  show J l D b Y_Al_get _ _ (ad, cC ad r lp fd nr nr nr mc lf ln bd tm it th my lps em mk tr wg wr we wc wb vg vr ve vc vb sy sf so st sn ne mt) 0 0 8 [(0, Value.ref (ad 103)), (1, Value.int (iI q))] [Value.int (iI q)]
  refine J_pop d_Al_get_8 rfl ?_
  refine J_aload_n d_Al_get_9 rfl 0 rfl ?_
  refine J_iload_n d_Al_get_10 rfl 1 rfl ?_
  refine J_callV (st := []) [Value.int (iI q)] ms_Al_123 rfl (c_Al_elementData (by omega)) rfl rfl ⟨Nat.le_of_ble_eq_true rfl, Nat.le_of_ble_eq_true rfl⟩ ⟨Nat.le_of_ble_eq_true rfl, Nat.le_of_ble_eq_true rfl⟩ (Nat.le_of_ble_eq_true rfl) d_Al_get_11 (fun v w' hp => ?_)
  obtain ⟨rfl, rfl⟩ := hp
  show J l D b Y_Al_get _ _ (ad, cC ad r lp fd nr nr nr mc lf ln bd tm it th my lps em mk tr wg wr we wc wb vg vr ve vc vb sy sf so st sn ne mt) 0 0 14 [(0, Value.ref (ad 103)), (1, Value.int (iI q))] [Value.ref (ad (idR q))]
  refine J_aret rfl d_Al_get_14 ⟨Nat.le_of_ble_eq_true rfl, Nat.le_of_ble_eq_true rfl⟩ ?_
  exact ⟨rfl, rfl⟩
set_option maxHeartbeats 4000000 in
theorem c_Al_size    : Ct l D b Y_Al_size { frames := 0, cells := 0, slots := 0, locals := 0 } [Value.ref (ad 103)] (ad, cC ad r lp fd nr nr nr mc lf ln bd tm it th my lps em mk tr wg wr we wc wb vg vr ve vc vb sy sf so st sn ne mt) (fun v w' => v = some (.int (iI nr)) ∧ w' = (ad, cC ad r lp fd nr nr nr mc lf ln bd tm it th my lps em mk tr wg wr we wc wb vg vr ve vc vb sy sf so st sn ne mt)) := by
  refine Ct_of (by decide) (Nat.le_of_ble_eq_true rfl) ?_
  show J l D b Y_Al_size _ _ (ad, cC ad r lp fd nr nr nr mc lf ln bd tm it th my lps em mk tr wg wr we wc wb vg vr ve vc vb sy sf so st sn ne mt) 0 0 0 [(0, Value.ref (ad 103))] []
  refine J_aload_n d_Al_size_0 rfl 0 rfl ?_
  refine J_get fs_Al_48 rfl rfl d_Al_size_1 ?_
  refine J_iret rfl d_Al_size_4 ⟨Nat.le_of_ble_eq_true rfl, Nat.le_of_ble_eq_true rfl⟩ ?_
  exact ⟨rfl, rfl⟩
set_option maxHeartbeats 4000000 in
theorem c_Ru_behind {d : Int} {q : Int} (hq : 0 ≤ q ∧ q < nr ∧ nr ≤ 10) (hd : 0 ≤ d ∧ d ≤ 10) (hl : 0 ≤ ln q ∧ ln q ≤ 3) : Ct l D b Y_Ru_behind { frames := 0, cells := 0, slots := 0, locals := 0 } [Value.ref (ad (idR q)), Value.int (iI d)] (ad, cC ad r lp fd nr nr nr mc lf ln bd tm it th my lps em mk tr wg wr we wc wb vg vr ve vc vb sy sf so st sn ne mt) (fun v w' => v = some (.int (iI (bhM ln bd q d))) ∧ w' = (ad, cC ad r lp fd nr nr nr mc lf ln bd tm it th my lps em mk tr wg wr we wc wb vg vr ve vc vb sy sf so st sn ne mt)) := by
  refine Ct_of (by decide) (Nat.le_of_ble_eq_true rfl) ?_
  show J l D b Y_Ru_behind _ _ (ad, cC ad r lp fd nr nr nr mc lf ln bd tm it th my lps em mk tr wg wr we wc wb vg vr ve vc vb sy sf so st sn ne mt) 0 0 0 [(0, Value.ref (ad (idR q))), (1, Value.int (iI d))] []
  refine J_iload_n d_Ru_behind_0 rfl 1 rfl ?_
  refine J_aload_n d_Ru_behind_1 rfl 0 rfl ?_
  refine J_get fs_Ru_18 (hidR (k := q) (by omega) (by omega)) rfl d_Ru_behind_2 ?_
  refine J_alenE (z := ln q) (hidB (k := q) (by omega) (by omega)) (by omega) d_Ru_behind_5 ?_
  refine J_icmp_ge (tgt := 18) d_Ru_behind_6 rfl (by omega) (by omega) (fun h6_1 => ?_) (fun h6_1 => ?_)
  · refine J_iconst d_Ru_behind_18 ?_
    refine J_iret rfl d_Ru_behind_19 ⟨Nat.le_of_ble_eq_true rfl, Nat.le_of_ble_eq_true rfl⟩ ?_
    exact ⟨by unfold bhM; rw [if_pos (by unfold lenOf; rw [if_neg (by omega)]; omega)], rfl⟩
  · refine J_aload_n d_Ru_behind_9 rfl 0 rfl ?_
    refine J_get fs_Ru_18 (hidR (k := q) (by omega) (by omega)) rfl d_Ru_behind_10 ?_
    refine J_iload_n d_Ru_behind_13 rfl 1 rfl ?_
    refine J_iald (hidB (k := q) (by omega) (by omega)) (by omega) (by omega) d_Ru_behind_14 ?_
    refine J.topI (bq_in (by omega)) ?_
    refine J_goto (tgt := 19) d_Ru_behind_15 rfl ?_
    refine J_iret rfl d_Ru_behind_19 ⟨Nat.le_of_ble_eq_true rfl, Nat.le_of_ble_eq_true rfl⟩ ?_
    exact ⟨by unfold bhM; rw [if_neg (by unfold lenOf; rw [if_neg (by omega)]; omega), if_neg (by omega)], rfl⟩
set_option maxHeartbeats 4000000 in
theorem c_Ru_behindG {d : Int}  (hd : 0 ≤ d ∧ d ≤ 10) : Ct l D b Y_Ru_behind { frames := 0, cells := 0, slots := 0, locals := 0 } [Value.ref (ad 101), Value.int (iI d)] (ad, cC ad r lp fd nr nr nr mc lf ln bd tm it th my lps em mk tr wg wr we wc wb vg vr ve vc vb sy sf so st sn ne mt) (fun v w' => v = some (.int (iI (bhM ln bd (-1) d))) ∧ w' = (ad, cC ad r lp fd nr nr nr mc lf ln bd tm it th my lps em mk tr wg wr we wc wb vg vr ve vc vb sy sf so st sn ne mt)) := by
  refine Ct_of (by decide) (Nat.le_of_ble_eq_true rfl) ?_
  show J l D b Y_Ru_behind _ _ (ad, cC ad r lp fd nr nr nr mc lf ln bd tm it th my lps em mk tr wg wr we wc wb vg vr ve vc vb sy sf so st sn ne mt) 0 0 0 [(0, Value.ref (ad 101)), (1, Value.int (iI d))] []
  refine J_iload_n d_Ru_behind_0 rfl 1 rfl ?_
  refine J_aload_n d_Ru_behind_1 rfl 0 rfl ?_
  refine J_get fs_Ru_18 rfl rfl d_Ru_behind_2 ?_
  refine J_alen rfl d_Ru_behind_5 ?_
  refine J_icmp_ge (tgt := 18) d_Ru_behind_6 rfl (by omega) (by omega) (fun h6_1 => ?_) (fun h6_1 => ?_)
  · refine J_iconst d_Ru_behind_18 ?_
    refine J_iret rfl d_Ru_behind_19 ⟨Nat.le_of_ble_eq_true rfl, Nat.le_of_ble_eq_true rfl⟩ ?_
    exact ⟨by unfold bhM; rw [if_pos (by unfold lenOf; rw [if_pos (by omega)]; omega)], rfl⟩
  · refine J_aload_n d_Ru_behind_9 rfl 0 rfl ?_
    refine J_get fs_Ru_18 rfl rfl d_Ru_behind_10 ?_
    refine J_iload_n d_Ru_behind_13 rfl 1 rfl ?_
    refine J_iald rfl (by omega) (by decide) d_Ru_behind_14 ?_
    refine J.topI (show (fun _ => (0 : Int)) d = 0 from rfl) ?_
    refine J_goto (tgt := 19) d_Ru_behind_15 rfl ?_
    refine J_iret rfl d_Ru_behind_19 ⟨Nat.le_of_ble_eq_true rfl, Nat.le_of_ble_eq_true rfl⟩ ?_
    exact ⟨by unfold bhM; rw [if_neg (by unfold lenOf; rw [if_pos (by omega)]; omega), if_pos (by omega)], rfl⟩
set_option maxHeartbeats 4000000 in
theorem c_CF_ruleAt {q : Int}  (hq : 0 ≤ q ∧ q < nr ∧ nr ≤ 10) : Ct l D b Y_CF_ruleAt { frames := 3, cells := 0, slots := 0, locals := 64 } [Value.ref (ad 100), Value.int (iI q)] (ad, cC ad r lp fd nr nr nr mc lf ln bd tm it th my lps em mk tr wg wr we wc wb vg vr ve vc vb sy sf so st sn ne mt) (fun v w' => v = some (.ref (ad (idR q))) ∧ w' = (ad, cC ad r lp fd nr nr nr mc lf ln bd tm it th my lps em mk tr wg wr we wc wb vg vr ve vc vb sy sf so st sn ne mt)) := by
  refine Ct_of (by decide) (Nat.le_of_ble_eq_true rfl) ?_
  show J l D b Y_CF_ruleAt _ _ (ad, cC ad r lp fd nr nr nr mc lf ln bd tm it th my lps em mk tr wg wr we wc wb vg vr ve vc vb sy sf so st sn ne mt) 0 0 0 [(0, Value.ref (ad 100)), (1, Value.int (iI q))] []
  refine J_iload_n d_CF_ruleAt_0 rfl 1 rfl ?_
  refine J_if_ge (tgt := 11) d_CF_ruleAt_1 rfl (by omega) (fun h1_1 => ?_) (fun h1_1 => ?_)
  · refine J_aload_n d_CF_ruleAt_11 rfl 0 rfl ?_
    refine J_get fs_CF_23 rfl rfl d_CF_ruleAt_12 ?_
    refine J_iload_n d_CF_ruleAt_15 rfl 1 rfl ?_
    refine J_callV (st := []) [Value.int (iI q)] ms_CF_87 rfl (c_Al_get (by omega)) rfl rfl ⟨Nat.le_of_ble_eq_true rfl, Nat.le_of_ble_eq_true rfl⟩ ⟨Nat.le_of_ble_eq_true rfl, Nat.le_of_ble_eq_true rfl⟩ (Nat.le_of_ble_eq_true rfl) d_CF_ruleAt_16 (fun v w' hp => ?_)
    obtain ⟨rfl, rfl⟩ := hp
    show J l D b Y_CF_ruleAt _ _ (ad, cC ad r lp fd nr nr nr mc lf ln bd tm it th my lps em mk tr wg wr we wc wb vg vr ve vc vb sy sf so st sn ne mt) 0 0 19 [(0, Value.ref (ad 100)), (1, Value.int (iI q))] [Value.ref (ad (idR q))]
    refine J_cast (hidR (k := q) (by omega) (by omega)) rfl cl_CF_9 ca_Ru d_CF_ruleAt_19 ?_
    refine J_aret rfl d_CF_ruleAt_22 ⟨Nat.le_of_ble_eq_true rfl, Nat.le_of_ble_eq_true rfl⟩ ?_
    exact ⟨rfl, rfl⟩
  · exact absurd h1_1 (by omega)
set_option maxHeartbeats 4000000 in
theorem c_CF_ruleAtG {q : Int}  (hq : -2 ≤ q ∧ q < 0) : Ct l D b Y_CF_ruleAt { frames := 0, cells := 0, slots := 0, locals := 0 } [Value.ref (ad 100), Value.int (iI q)] (ad, cC ad r lp fd nr nr nr mc lf ln bd tm it th my lps em mk tr wg wr we wc wb vg vr ve vc vb sy sf so st sn ne mt) (fun v w' => v = some (.ref (ad 101)) ∧ w' = (ad, cC ad r lp fd nr nr nr mc lf ln bd tm it th my lps em mk tr wg wr we wc wb vg vr ve vc vb sy sf so st sn ne mt)) := by
  refine Ct_of (by decide) (Nat.le_of_ble_eq_true rfl) ?_
  show J l D b Y_CF_ruleAt _ _ (ad, cC ad r lp fd nr nr nr mc lf ln bd tm it th my lps em mk tr wg wr we wc wb vg vr ve vc vb sy sf so st sn ne mt) 0 0 0 [(0, Value.ref (ad 100)), (1, Value.int (iI q))] []
  refine J_iload_n d_CF_ruleAt_0 rfl 1 rfl ?_
  refine J_if_ge (tgt := 11) d_CF_ruleAt_1 rfl (by omega) (fun h1_1 => ?_) (fun h1_1 => ?_)
  · exact absurd h1_1 (by omega)
  · refine J_aload_n d_CF_ruleAt_4 rfl 0 rfl ?_
    refine J_get fs_CF_14 rfl rfl d_CF_ruleAt_5 ?_
    refine J_goto (tgt := 22) d_CF_ruleAt_8 rfl ?_
    refine J_aret rfl d_CF_ruleAt_22 ⟨Nat.le_of_ble_eq_true rfl, Nat.le_of_ble_eq_true rfl⟩ ?_
    exact ⟨rfl, rfl⟩
set_option maxHeartbeats 4000000 in
theorem c_CF_behind {c : Int}  (hg : gOK nr lf ln bd) (hc : (0 ≤ c ∧ c < 572) ∧ c / 52 - 1 < nr) : Ct l D b Y_CF_behind { frames := 4, cells := 0, slots := 0, locals := 85 } [Value.ref (ad 100), Value.int (iI c)] (ad, cC ad r lp fd nr nr nr mc lf ln bd tm it th my lps em mk tr wg wr we wc wb vg vr ve vc vb sy sf so st sn ne mt) (fun v w' => v = some (.int (iI (bc ln bd c))) ∧ w' = (ad, cC ad r lp fd nr nr nr mc lf ln bd tm it th my lps em mk tr wg wr we wc wb vg vr ve vc vb sy sf so st sn ne mt)) := by
  refine Ct_of (by decide) (Nat.le_of_ble_eq_true rfl) ?_
  have hn := hg.1
  show J l D b Y_CF_behind _ _ (ad, cC ad r lp fd nr nr nr mc lf ln bd tm it th my lps em mk tr wg wr we wc wb vg vr ve vc vb sy sf so st sn ne mt) 0 0 0 [(0, Value.ref (ad 100)), (1, Value.int (iI c))] []
  refine J_aload_n d_CF_behind_0 rfl 0 rfl ?_
  refine J_iload_n d_CF_behind_1 rfl 1 rfl ?_
  refine J_callS (st := [Value.ref (ad 100)]) [Value.int (iI c)] ms_CF_122 (c_CF_ruleOf (by omega)) rfl rfl ⟨Nat.le_of_ble_eq_true rfl, Nat.le_of_ble_eq_true rfl⟩ ⟨Nat.le_of_ble_eq_true rfl, Nat.le_of_ble_eq_true rfl⟩ (Nat.le_of_ble_eq_true rfl) d_CF_behind_2 (fun v w' hp => ?_)
  obtain ⟨rfl, rfl⟩ := hp
  show J l D b Y_CF_behind _ _ (ad, cC ad r lp fd nr nr nr mc lf ln bd tm it th my lps em mk tr wg wr we wc wb vg vr ve vc vb sy sf so st sn ne mt) 0 0 5 [(0, Value.ref (ad 100)), (1, Value.int (iI c))] [Value.int (iI (c / 52 - 1)), Value.ref (ad 100)]
  by_cases hs5_2 : c / 52 - 1 < 0
  · refine J_callV (st := []) [Value.int (iI (c / 52 - 1))] ms_CF_126 rfl (c_CF_ruleAtG (by omega)) rfl rfl ⟨Nat.le_of_ble_eq_true rfl, Nat.le_of_ble_eq_true rfl⟩ ⟨Nat.le_of_ble_eq_true rfl, Nat.le_of_ble_eq_true rfl⟩ (Nat.le_of_ble_eq_true rfl) d_CF_behind_5 (fun v w' hp => ?_)
    obtain ⟨rfl, rfl⟩ := hp
    show J l D b Y_CF_behind _ _ (ad, cC ad r lp fd nr nr nr mc lf ln bd tm it th my lps em mk tr wg wr we wc wb vg vr ve vc vb sy sf so st sn ne mt) 0 0 8 [(0, Value.ref (ad 100)), (1, Value.int (iI c))] [Value.ref (ad 101)]
    refine J_iload_n d_CF_behind_8 rfl 1 rfl ?_
    refine J_callS (st := [Value.ref (ad 101)]) [Value.int (iI c)] ms_CF_130 (c_CF_dotOf (by omega)) rfl rfl ⟨Nat.le_of_ble_eq_true rfl, Nat.le_of_ble_eq_true rfl⟩ ⟨Nat.le_of_ble_eq_true rfl, Nat.le_of_ble_eq_true rfl⟩ (Nat.le_of_ble_eq_true rfl) d_CF_behind_9 (fun v w' hp => ?_)
    obtain ⟨rfl, rfl⟩ := hp
    show J l D b Y_CF_behind _ _ (ad, cC ad r lp fd nr nr nr mc lf ln bd tm it th my lps em mk tr wg wr we wc wb vg vr ve vc vb sy sf so st sn ne mt) 0 0 12 [(0, Value.ref (ad 100)), (1, Value.int (iI c))] [Value.int (iI (c % 52 / 13)), Value.ref (ad 101)]
    refine J_callV (st := []) [Value.int (iI (c % 52 / 13))] ms_CF_133 rfl (c_Ru_behindG (by omega)) rfl rfl ⟨Nat.le_of_ble_eq_true rfl, Nat.le_of_ble_eq_true rfl⟩ ⟨Nat.le_of_ble_eq_true rfl, Nat.le_of_ble_eq_true rfl⟩ (Nat.le_of_ble_eq_true rfl) d_CF_behind_12 (fun v w' hp => ?_)
    obtain ⟨rfl, rfl⟩ := hp
    show J l D b Y_CF_behind _ _ (ad, cC ad r lp fd nr nr nr mc lf ln bd tm it th my lps em mk tr wg wr we wc wb vg vr ve vc vb sy sf so st sn ne mt) 0 0 15 [(0, Value.ref (ad 100)), (1, Value.int (iI c))] [Value.int (iI (bhM ln bd (-1) (c % 52 / 13)))]
    refine J_iret rfl d_CF_behind_15 ⟨Nat.le_of_ble_eq_true rfl, Nat.le_of_ble_eq_true rfl⟩ ?_
    exact ⟨by unfold bc; rw [show c / 52 - 1 = -1 by omega], rfl⟩
  · refine J_callV (st := []) [Value.int (iI (c / 52 - 1))] ms_CF_126 rfl (c_CF_ruleAt (by omega)) rfl rfl ⟨Nat.le_of_ble_eq_true rfl, Nat.le_of_ble_eq_true rfl⟩ ⟨Nat.le_of_ble_eq_true rfl, Nat.le_of_ble_eq_true rfl⟩ (Nat.le_of_ble_eq_true rfl) d_CF_behind_5 (fun v w' hp => ?_)
    obtain ⟨rfl, rfl⟩ := hp
    show J l D b Y_CF_behind _ _ (ad, cC ad r lp fd nr nr nr mc lf ln bd tm it th my lps em mk tr wg wr we wc wb vg vr ve vc vb sy sf so st sn ne mt) 0 0 8 [(0, Value.ref (ad 100)), (1, Value.int (iI c))] [Value.ref (ad (idR (c / 52 - 1)))]
    refine J_iload_n d_CF_behind_8 rfl 1 rfl ?_
    refine J_callS (st := [Value.ref (ad (idR (c / 52 - 1)))]) [Value.int (iI c)] ms_CF_130 (c_CF_dotOf (by omega)) rfl rfl ⟨Nat.le_of_ble_eq_true rfl, Nat.le_of_ble_eq_true rfl⟩ ⟨Nat.le_of_ble_eq_true rfl, Nat.le_of_ble_eq_true rfl⟩ (Nat.le_of_ble_eq_true rfl) d_CF_behind_9 (fun v w' hp => ?_)
    obtain ⟨rfl, rfl⟩ := hp
    show J l D b Y_CF_behind _ _ (ad, cC ad r lp fd nr nr nr mc lf ln bd tm it th my lps em mk tr wg wr we wc wb vg vr ve vc vb sy sf so st sn ne mt) 0 0 12 [(0, Value.ref (ad 100)), (1, Value.int (iI c))] [Value.int (iI (c % 52 / 13)), Value.ref (ad (idR (c / 52 - 1)))]
    have hl := hg.2.2.1 (c / 52 - 1) (by omega) (by omega)
    refine J_callV (st := []) [Value.int (iI (c % 52 / 13))] ms_CF_133 (hidR (k := (c / 52 - 1)) (by omega) (by omega)) (c_Ru_behind (by omega) (by omega) (by omega)) rfl rfl ⟨Nat.le_of_ble_eq_true rfl, Nat.le_of_ble_eq_true rfl⟩ ⟨Nat.le_of_ble_eq_true rfl, Nat.le_of_ble_eq_true rfl⟩ (Nat.le_of_ble_eq_true rfl) d_CF_behind_12 (fun v w' hp => ?_)
    obtain ⟨rfl, rfl⟩ := hp
    show J l D b Y_CF_behind _ _ (ad, cC ad r lp fd nr nr nr mc lf ln bd tm it th my lps em mk tr wg wr we wc wb vg vr ve vc vb sy sf so st sn ne mt) 0 0 15 [(0, Value.ref (ad 100)), (1, Value.int (iI c))] [Value.int (iI (bhM ln bd (c / 52 - 1) (c % 52 / 13)))]
    refine J_iret rfl d_CF_behind_15 ⟨Nat.le_of_ble_eq_true rfl, Nat.le_of_ble_eq_true rfl⟩ ?_
    exact ⟨rfl, rfl⟩
set_option maxHeartbeats 4000000 in
theorem c_Se_contains {c : Int} {k : Int} (hk : 0 ≤ k ∧ k < 13) (hc : 0 ≤ c ∧ c < 572) : Ct l D b Y_Se_contains { frames := 0, cells := 0, slots := 0, locals := 0 } [Value.ref (ad (idS k)), Value.int (iI c)] (ad, cC ad r lp fd nr nr nr mc lf ln bd tm it th my lps em mk tr wg wr we wc wb vg vr ve vc vb sy sf so st sn ne mt) (fun v w' => v = some (.int (iI (bz (th k c)))) ∧ w' = (ad, cC ad r lp fd nr nr nr mc lf ln bd tm it th my lps em mk tr wg wr we wc wb vg vr ve vc vb sy sf so st sn ne mt)) := by
  refine Ct_of (by decide) (Nat.le_of_ble_eq_true rfl) ?_
  show J l D b Y_Se_contains _ _ (ad, cC ad r lp fd nr nr nr mc lf ln bd tm it th my lps em mk tr wg wr we wc wb vg vr ve vc vb sy sf so st sn ne mt) 0 0 0 [(0, Value.ref (ad (idS k))), (1, Value.int (iI c))] []
  refine J_aload_n d_Se_contains_0 rfl 0 rfl ?_
  refine J_get fs_Se_15 (hidS (k := k) (by omega)) rfl d_Se_contains_1 ?_
  refine J_iload_n d_Se_contains_4 rfl 1 rfl ?_
  refine J_bipush d_Se_contains_5 (by decide) ?_
  refine J_ishr d_Se_contains_7 (sh_6 (by omega)) ?_
  refine J_laldR (hidT (k := k) (by omega)) (by omega) (by decide) d_Se_contains_8 ?_
  refine J_iload_n d_Se_contains_9 rfl 1 rfl ?_
  refine J_bipush d_Se_contains_10 (by decide) ?_
  refine J_iand d_Se_contains_12 rfl ?_
  refine J_lshr d_Se_contains_13 rfl ?_
  refine J_lconst (z := 1) d_Se_contains_14 rfl ?_
  refine J_land d_Se_contains_15 (wd_has (by omega)) ?_
  refine J_lconst (z := 1) d_Se_contains_16 rfl ?_
  have hz := bz_le (th k c)
  refine J_lcmp_ne (tgt := 25) d_Se_contains_17 d_Se_contains_18 rfl (by omega) (by omega) (fun h17_1 => ?_) (fun h17_1 => ?_)
  · refine J_iconst d_Se_contains_25 ?_
    refine J.top (show Value.int (iI 0) = Value.int (iI (bz false)) from rfl) ?_
    refine J_zret rfl d_Se_contains_26 ⟨Nat.le_of_ble_eq_true rfl, Nat.le_of_ble_eq_true rfl⟩ ?_
    exact ⟨by rw [show th k c = false from bz_eq0.mp (by omega)], rfl⟩
  · refine J_iconst d_Se_contains_21 ?_
    refine J_goto (tgt := 26) d_Se_contains_22 rfl ?_
    refine J.top (show Value.int (iI 1) = Value.int (iI (bz true)) from rfl) ?_
    refine J_zret rfl d_Se_contains_26 ⟨Nat.le_of_ble_eq_true rfl, Nat.le_of_ble_eq_true rfl⟩ ?_
    exact ⟨by rw [show th k c = true from bz_ne0.mp (by omega)], rfl⟩
set_option maxHeartbeats 4000000 in
theorem c_Se_add {c : Int} {k : Int} (hk : 0 ≤ k ∧ k < 13) (hc : 0 ≤ c ∧ c < 572) (hS : SO it th my) : Ct l D b Y_Se_add { frames := 1, cells := 0, slots := 0, locals := 21 } [Value.ref (ad (idS k)), Value.int (iI c)] (ad, cC ad r lp fd nr nr nr mc lf ln bd tm it th my lps em mk tr wg wr we wc wb vg vr ve vc vb sy sf so st sn ne mt) (fun v w' => v = none ∧ ∃ it' th' my', w' = (ad, cC ad r lp fd nr nr nr mc lf ln bd tm it' th' my' lps em mk tr wg wr we wc wb vg vr ve vc vb sy sf so st sn ne mt) ∧ GroQ k it th my it' th' my' (fun d => d = c)) := by
  refine Ct_of (by decide) (Nat.le_of_ble_eq_true rfl) ?_
  show J l D b Y_Se_add _ _ (ad, cC ad r lp fd nr nr nr mc lf ln bd tm it th my lps em mk tr wg wr we wc wb vg vr ve vc vb sy sf so st sn ne mt) 0 0 0 [(0, Value.ref (ad (idS k))), (1, Value.int (iI c))] []
  refine J_aload_n d_Se_add_0 rfl 0 rfl ?_
  refine J_iload_n d_Se_add_1 rfl 1 rfl ?_
  refine J_callV (st := []) [Value.int (iI c)] ms_Se_30 (hidS (k := k) (by omega)) (c_Se_contains (by omega) (by omega)) rfl rfl ⟨Nat.le_of_ble_eq_true rfl, Nat.le_of_ble_eq_true rfl⟩ ⟨Nat.le_of_ble_eq_true rfl, Nat.le_of_ble_eq_true rfl⟩ (Nat.le_of_ble_eq_true rfl) d_Se_add_2 (fun v w' hp => ?_)
  obtain ⟨rfl, rfl⟩ := hp
  show J l D b Y_Se_add _ _ (ad, cC ad r lp fd nr nr nr mc lf ln bd tm it th my lps em mk tr wg wr we wc wb vg vr ve vc vb sy sf so st sn ne mt) 0 0 5 [(0, Value.ref (ad (idS k))), (1, Value.int (iI c))] [Value.int (iI (bz (th k c)))]
  refine J_ifB_eq (tgt := 9) d_Se_add_5 rfl (fun h5_2 => ?_) (fun h5_2 => ?_)
  · have hm := (hS k hk.1 hk.2).rng
    have hm2 := ((hS k hk.1 hk.2).add hc ‹_›).2
    refine J_aload_n d_Se_add_9 rfl 0 rfl ?_
    refine J_get fs_Se_15 (hidS (k := k) (by omega)) rfl d_Se_add_10 ?_
    refine J_iload_n d_Se_add_13 rfl 1 rfl ?_
    refine J_bipush d_Se_add_14 (by decide) ?_
    refine J_ishr d_Se_add_16 (sh_6 (by omega)) ?_
    refine J_dup2 d_Se_add_17 rfl rfl ?_
    refine J_laldR (hidT (k := k) (by omega)) (by omega) (by decide) d_Se_add_18 ?_
    refine J_lconst (z := 1) d_Se_add_19 rfl ?_
    refine J_iload_n d_Se_add_20 rfl 1 rfl ?_
    refine J_bipush d_Se_add_21 (by decide) ?_
    refine J_iand d_Se_add_23 rfl ?_
    refine J_lshl d_Se_add_24 rfl ?_
    refine J_lor d_Se_add_25 (wd_add (by omega)) ?_
    refine J_lastR (hidT (k := k) (by omega)) (by omega) (by decide) wd_set (uidT_th (k := k) (by omega)) d_Se_add_26 ?_
    refine J_aload_n d_Se_add_27 rfl 0 rfl ?_
    refine J_get fs_Se_9 (hidS (k := k) (by omega)) rfl d_Se_add_28 ?_
    refine J_aload_n d_Se_add_31 rfl 0 rfl ?_
    refine J_dup d_Se_add_32 rfl ?_
    refine J_get fs_Se_23 (hidS (k := k) (by omega)) rfl d_Se_add_33 ?_
    refine J_dup_x1 d_Se_add_36 rfl rfl ?_
    refine J_iconst d_Se_add_37 ?_
    refine J_iadd d_Se_add_38 ?_
    refine J_put fs_Se_23 (hidS (k := k) (by omega)) (Nat.le_of_ble_eq_true rfl) (fun _ h => by cases h; exact Or.inl rfl) rfl rfl (uidS_my (k := k) (by omega)) d_Se_add_39 ?_
    refine J_iload_n d_Se_add_42 rfl 1 rfl ?_
    refine J_i2s d_Se_add_43 (by omega) ?_
    refine J_sast (hidI (k := k) (by omega)) (by omega) (by decide) (by omega) (uidI_it (k := k) (by omega)) d_Se_add_44 ?_
    refine J_vret rfl d_Se_add_45 ⟨Nat.le_of_ble_eq_true rfl, Nat.le_of_ble_eq_true rfl⟩ ?_
    exact ⟨rfl, _, _, _, rfl, GroQ.one hS hk hc ‹_›⟩
  · refine J_vret rfl d_Se_add_8 ⟨Nat.le_of_ble_eq_true rfl, Nat.le_of_ble_eq_true rfl⟩ ?_
    exact ⟨rfl, _, _, _, rfl, GroQ.same hS ‹_›⟩
end N1
