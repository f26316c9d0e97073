theorem ii_XIA : Cond.initialized "java/lang/IllegalArgumentException" ∈ tb := tb_in (List.mem_of_getElem? (i := 73) (by decide +kernel)) rfl
theorem ii_XIS : Cond.initialized "java/lang/IllegalStateException" ∈ tb := tb_in (List.mem_of_getElem? (i := 74) (by decide +kernel)) rfl
theorem ii_XNS : Cond.initialized "java/util/NoSuchElementException" ∈ tb := tb_in (List.mem_of_getElem? (i := 79) (by decide +kernel)) rfl
theorem ii_XIO : Cond.initialized "java/lang/IndexOutOfBoundsException" ∈ tb := tb_in (List.mem_of_getElem? (i := 80) (by decide +kernel)) rfl
section X1
variable {l : Launch} {D : jD} {b : Nat} {w : jW} {ad : Nat → Nat} {r : Nat → Option jE} {lp : Bool} {fd : Int} {nr : Int} {nc : Int} {nd : Int} {mc : Int} {lf : Int → Int} {ln : Int → Int} {bd : Int → Int} {tm : Int → Int} {it : Int → Int → Int} {th : Int → Int → Bool} {my : Int → Int} {lps : Int → Int → Int} {em : Int → Int} {mk : Int → Int → Int} {tr : Int → Int → Int → Int} {wg : Bool} {wr : Value} {we : Int} {wc : Int → Int} {wb : Bool} {vg : Bool} {vr : Value} {ve : Int} {vc : Int → Int} {vb : Bool} {sy : Int → Int} {sf : Int → Int} {so : Int → Int} {st : Int → Int} {sn : Int} {ne : Int → Int} {mt : Int → Int → Bool}
set_option maxHeartbeats 4000000 in
theorem x_CF_setAt_IO {i : Int}  (hl0 : l.stackTraces = false) (hf : 0 ≤ fd ∧ fd ≤ 12) (hi : -2147483648 ≤ i ∧ i ≤ 2147483647) (hno : ¬ (0 ≤ i ∧ i ≤ fd)) : CtX l D b Y_CF_setAt { frames := 6, cells := 1, slots := 6, locals := 100 } [Value.ref (ad 100), Value.int (iI i)] (ad, cC ad r lp fd nr nr nr mc lf ln bd tm it th my lps em mk tr wg wr we wc wb vg vr ve vc vb sy sf so st sn ne mt) "java/lang/IndexOutOfBoundsException" (fun w' => w' = (ad, cC ad r lp fd nr nr nr mc lf ln bd tm it th my lps em mk tr wg wr we wc wb vg vr ve vc vb sy sf so st sn ne mt)) := by
  refine CtX_of (by decide) (Nat.le_of_ble_eq_true rfl) ?_
  show JX l D b Y_CF_setAt _ _ _ (ad, cC ad r lp fd nr nr nr mc lf ln bd tm it th my lps em mk tr wg wr we wc wb vg vr ve vc vb sy sf so st sn ne mt) 0 0 0 [(0, Value.ref (ad 100)), (1, Value.int (iI i))] []
  refine X_iload_n d_CF_setAt_0 rfl 1 rfl ?_
  refine X_if_lt (tgt := 12) d_CF_setAt_1 rfl (by omega) (fun h1_1 => ?_) (fun h1_1 => ?_)
  · exact X_throw hl0 thW_IO (by decide +kernel) cl_CF_240 ii_XIO d_CF_setAt_12 d_CF_setAt_15 d_CF_setAt_16 d_CF_setAt_19 ⟨Nat.le_of_ble_eq_true rfl, Nat.le_of_ble_eq_true rfl⟩ ⟨Nat.le_of_ble_eq_true rfl, Nat.le_of_ble_eq_true rfl⟩ rfl
  · refine X_iload_n d_CF_setAt_4 rfl 1 rfl ?_
    refine X_aload_n d_CF_setAt_5 rfl 0 rfl ?_
    refine X_get fs_CF_109 rfl rfl d_CF_setAt_6 ?_
    refine X_icmp_le (tgt := 20) d_CF_setAt_9 rfl (by omega) (by omega) (fun h9_2 => ?_) (fun h9_2 => ?_)
    · exact absurd h9_2 (by omega)
    · exact X_throw hl0 thW_IO (by decide +kernel) cl_CF_240 ii_XIO d_CF_setAt_12 d_CF_setAt_15 d_CF_setAt_16 d_CF_setAt_19 ⟨Nat.le_of_ble_eq_true rfl, Nat.le_of_ble_eq_true rfl⟩ ⟨Nat.le_of_ble_eq_true rfl, Nat.le_of_ble_eq_true rfl⟩ rfl
set_option maxHeartbeats 4000000 in
theorem x_CF_back_IA {n : Int}  (hl0 : l.stackTraces = false) (hf : 0 ≤ fd ∧ fd ≤ 12) (hi : -2147483648 ≤ n ∧ n ≤ 2147483647) (hno : ¬ (0 ≤ n ∧ n ≤ fd)) : CtX l D b Y_CF_back { frames := 6, cells := 1, slots := 6, locals := 100 } [Value.ref (ad 100), Value.int (iI n)] (ad, cC ad r lp fd nr nr nr mc lf ln bd tm it th my lps em mk tr wg wr we wc wb vg vr ve vc vb sy sf so st sn ne mt) "java/lang/IllegalArgumentException" (fun w' => w' = (ad, cC ad r lp fd nr nr nr mc lf ln bd tm it th my lps em mk tr wg wr we wc wb vg vr ve vc vb sy sf so st sn ne mt)) := by
  refine CtX_of (by decide) (Nat.le_of_ble_eq_true rfl) ?_
  show JX l D b Y_CF_back _ _ _ (ad, cC ad r lp fd nr nr nr mc lf ln bd tm it th my lps em mk tr wg wr we wc wb vg vr ve vc vb sy sf so st sn ne mt) 0 0 0 [(0, Value.ref (ad 100)), (1, Value.int (iI n))] []
  refine X_iload_n d_CF_back_0 rfl 1 rfl ?_
  refine X_if_lt (tgt := 12) d_CF_back_1 rfl (by omega) (fun h1_1 => ?_) (fun h1_1 => ?_)
  · exact X_throw hl0 thW_IA (by decide +kernel) cl_CF_99 ii_XIA d_CF_back_12 d_CF_back_15 d_CF_back_16 d_CF_back_19 ⟨Nat.le_of_ble_eq_true rfl, Nat.le_of_ble_eq_true rfl⟩ ⟨Nat.le_of_ble_eq_true rfl, Nat.le_of_ble_eq_true rfl⟩ rfl
  · refine X_iload_n d_CF_back_4 rfl 1 rfl ?_
    refine X_aload_n d_CF_back_5 rfl 0 rfl ?_
    refine X_get fs_CF_109 rfl rfl d_CF_back_6 ?_
    refine X_icmp_le (tgt := 20) d_CF_back_9 rfl (by omega) (by omega) (fun h9_2 => ?_) (fun h9_2 => ?_)
    · exact absurd h9_2 (by omega)
    · exact X_throw hl0 thW_IA (by decide +kernel) cl_CF_99 ii_XIA d_CF_back_12 d_CF_back_15 d_CF_back_16 d_CF_back_19 ⟨Nat.le_of_ble_eq_true rfl, Nat.le_of_ble_eq_true rfl⟩ ⟨Nat.le_of_ble_eq_true rfl, Nat.le_of_ble_eq_true rfl⟩ rfl
set_option maxHeartbeats 4000000 in
theorem x_CF_checkStretch_IO {s : Int} {i : Int} {j : Int}  (hl0 : l.stackTraces = false) (hf : 0 ≤ fd ∧ fd ≤ 12) (hs : -2147483648 ≤ s ∧ s ≤ 2147483647) (hi : -2147483648 ≤ i ∧ i ≤ 2147483647) (hj : -2147483648 ≤ j ∧ j ≤ 2147483647) (hno : ¬ ((0 ≤ s ∧ s ≤ 4) ∧ 0 ≤ i ∧ i ≤ j ∧ j ≤ fd)) : CtX l D b Y_CF_checkStretch { frames := 6, cells := 1, slots := 6, locals := 100 } [Value.ref (ad 100), Value.int (iI s), Value.int (iI i), Value.int (iI j)] (ad, cC ad r lp fd nr nr nr mc lf ln bd tm it th my lps em mk tr wg wr we wc wb vg vr ve vc vb sy sf so st sn ne mt) "java/lang/IndexOutOfBoundsException" (fun w' => w' = (ad, cC ad r lp fd nr nr nr mc lf ln bd tm it th my lps em mk tr wg wr we wc wb vg vr ve vc vb sy sf so st sn ne mt)) := by
  refine CtX_of (by decide) (Nat.le_of_ble_eq_true rfl) ?_
  show JX l D b Y_CF_checkStretch _ _ _ (ad, cC ad r lp fd nr nr nr mc lf ln bd tm it th my lps em mk tr wg wr we wc wb vg vr ve vc vb sy sf so st sn ne mt) 0 0 0 [(0, Value.ref (ad 100)), (1, Value.int (iI s)), (2, Value.int (iI i)), (3, Value.int (iI j))] []
  refine X_iload_n d_CF_checkStretch_0 rfl 1 rfl ?_
  refine X_callS (st := []) [Value.int (iI s)] ms_CF_95 (c_CF_isNonterminal (by omega)) rfl rfl ⟨Nat.le_of_ble_eq_true rfl, Nat.le_of_ble_eq_true rfl⟩ ⟨Nat.le_of_ble_eq_true rfl, Nat.le_of_ble_eq_true rfl⟩ (Nat.le_of_ble_eq_true rfl) d_CF_checkStretch_1 (fun v w' hp => ?_)
  obtain ⟨rfl, rfl⟩ := hp
  show JX l D b Y_CF_checkStretch _ _ _ (ad, cC ad r lp fd nr nr nr mc lf ln bd tm it th my lps em mk tr wg wr we wc wb vg vr ve vc vb sy sf so st sn ne mt) 0 0 4 [(0, Value.ref (ad 100)), (1, Value.int (iI s)), (2, Value.int (iI i)), (3, Value.int (iI j))] [Value.int (iI (bz (ntB s)))]
  refine X_ifB_eq (tgt := 24) d_CF_checkStretch_4 rfl (fun h4_2 => ?_) (fun h4_2 => ?_)
  · exact X_throw hl0 thW_IO (by decide +kernel) cl_CF_240 ii_XIO d_CF_checkStretch_24 d_CF_checkStretch_27 d_CF_checkStretch_28 d_CF_checkStretch_31 ⟨Nat.le_of_ble_eq_true rfl, Nat.le_of_ble_eq_true rfl⟩ ⟨Nat.le_of_ble_eq_true rfl, Nat.le_of_ble_eq_true rfl⟩ rfl
  · have hnt := ntB_of ‹_›
    refine X_iload_n d_CF_checkStretch_7 rfl 2 rfl ?_
    refine X_if_lt (tgt := 24) d_CF_checkStretch_8 rfl (by omega) (fun h8_3 => ?_) (fun h8_3 => ?_)
    · exact X_throw hl0 thW_IO (by decide +kernel) cl_CF_240 ii_XIO d_CF_checkStretch_24 d_CF_checkStretch_27 d_CF_checkStretch_28 d_CF_checkStretch_31 ⟨Nat.le_of_ble_eq_true rfl, Nat.le_of_ble_eq_true rfl⟩ ⟨Nat.le_of_ble_eq_true rfl, Nat.le_of_ble_eq_true rfl⟩ rfl
    · refine X_iload_n d_CF_checkStretch_11 rfl 3 rfl ?_
      refine X_iload_n d_CF_checkStretch_12 rfl 2 rfl ?_
      refine X_icmp_lt (tgt := 24) d_CF_checkStretch_13 rfl (by omega) (by omega) (fun h13_4 => ?_) (fun h13_4 => ?_)
      · exact X_throw hl0 thW_IO (by decide +kernel) cl_CF_240 ii_XIO d_CF_checkStretch_24 d_CF_checkStretch_27 d_CF_checkStretch_28 d_CF_checkStretch_31 ⟨Nat.le_of_ble_eq_true rfl, Nat.le_of_ble_eq_true rfl⟩ ⟨Nat.le_of_ble_eq_true rfl, Nat.le_of_ble_eq_true rfl⟩ rfl
      · refine X_iload_n d_CF_checkStretch_16 rfl 3 rfl ?_
        refine X_aload_n d_CF_checkStretch_17 rfl 0 rfl ?_
        refine X_get fs_CF_109 rfl rfl d_CF_checkStretch_18 ?_
        refine X_icmp_le (tgt := 32) d_CF_checkStretch_21 rfl (by omega) (by omega) (fun h21_5 => ?_) (fun h21_5 => ?_)
        · exact absurd h21_5 (by omega)
        · exact X_throw hl0 thW_IO (by decide +kernel) cl_CF_240 ii_XIO d_CF_checkStretch_24 d_CF_checkStretch_27 d_CF_checkStretch_28 d_CF_checkStretch_31 ⟨Nat.le_of_ble_eq_true rfl, Nat.le_of_ble_eq_true rfl⟩ ⟨Nat.le_of_ble_eq_true rfl, Nat.le_of_ble_eq_true rfl⟩ rfl
set_option maxHeartbeats 4000000 in
theorem x_CF_leap_IO {i : Int} {x : Int}  (hl0 : l.stackTraces = false) (hf : 0 ≤ fd ∧ fd ≤ 12) (hi : 0 ≤ i ∧ i ≤ fd) (hx : -2147483648 ≤ x ∧ x ≤ 2147483647) (hno : ntB x = false) : CtX l D b Y_CF_leap { frames := 6, cells := 1, slots := 6, locals := 100 } [Value.ref (ad 100), Value.int (iI i), Value.int (iI x)] (ad, cC ad r lp fd nr nr nr mc lf ln bd tm it th my lps em mk tr wg wr we wc wb vg vr ve vc vb sy sf so st sn ne mt) "java/lang/IndexOutOfBoundsException" (fun w' => w' = (ad, cC ad r lp fd nr nr nr mc lf ln bd tm it th my lps em mk tr wg wr we wc wb vg vr ve vc vb sy sf so st sn ne mt)) := by
  refine CtX_of (by decide) (Nat.le_of_ble_eq_true rfl) ?_
  show JX l D b Y_CF_leap _ _ _ (ad, cC ad r lp fd nr nr nr mc lf ln bd tm it th my lps em mk tr wg wr we wc wb vg vr ve vc vb sy sf so st sn ne mt) 0 0 0 [(0, Value.ref (ad 100)), (1, Value.int (iI i)), (2, Value.int (iI x))] []
  refine X_aload_n d_CF_leap_0 rfl 0 rfl ?_
  refine X_iload_n d_CF_leap_1 rfl 1 rfl ?_
  refine X_callV (st := []) [Value.int (iI i)] ms_CF_243 rfl (c_CF_setAt (by omega) (by omega)) rfl rfl ⟨Nat.le_of_ble_eq_true rfl, Nat.le_of_ble_eq_true rfl⟩ ⟨Nat.le_of_ble_eq_true rfl, Nat.le_of_ble_eq_true rfl⟩ (Nat.le_of_ble_eq_true rfl) d_CF_leap_2 (fun v w' hp => ?_)
  obtain ⟨rfl, rfl⟩ := hp
  show JX l D b Y_CF_leap _ _ _ (ad, cC ad r lp fd nr nr nr mc lf ln bd tm it th my lps em mk tr wg wr we wc wb vg vr ve vc vb sy sf so st sn ne mt) 0 0 5 [(0, Value.ref (ad 100)), (1, Value.int (iI i)), (2, Value.int (iI x))] [Value.ref (ad (idS i))]
  refine X_astore_n d_CF_leap_5 rfl (by decide) rfl ?_
  refine X_iload_n d_CF_leap_6 rfl 3 rfl ?_
  refine X_callS (st := []) [Value.int (iI x)] ms_CF_95 (c_CF_isNonterminal (by omega)) rfl rfl ⟨Nat.le_of_ble_eq_true rfl, Nat.le_of_ble_eq_true rfl⟩ ⟨Nat.le_of_ble_eq_true rfl, Nat.le_of_ble_eq_true rfl⟩ (Nat.le_of_ble_eq_true rfl) d_CF_leap_7 (fun v w' hp => ?_)
  obtain ⟨rfl, rfl⟩ := hp
  show JX l D b Y_CF_leap _ _ _ (ad, cC ad r lp fd nr nr nr mc lf ln bd tm it th my lps em mk tr wg wr we wc wb vg vr ve vc vb sy sf so st sn ne mt) 0 0 10 [(3, Value.ref (ad (idS i))), (0, Value.ref (ad 100)), (1, Value.int (iI i)), (2, Value.int (iI x))] [Value.int (iI (bz (ntB x)))]
  refine X_ifB_ne (tgt := 21) d_CF_leap_10 rfl (fun h10_3 => ?_) (fun h10_3 => ?_)
  · exact absurd h10_3 (by rw [hno]; decide)
  · exact X_throw hl0 thW_IO (by decide +kernel) cl_CF_240 ii_XIO d_CF_leap_13 d_CF_leap_16 d_CF_leap_17 d_CF_leap_20 ⟨Nat.le_of_ble_eq_true rfl, Nat.le_of_ble_eq_true rfl⟩ ⟨Nat.le_of_ble_eq_true rfl, Nat.le_of_ble_eq_true rfl⟩ rfl
set_option maxHeartbeats 4000000 in
theorem x_CF_rule_IA {p : Int} {n : Int} {y : Int}  (hl0 : l.stackTraces = false) (hp : -2147483648 ≤ p ∧ p ≤ 2147483647) (hn : -2147483648 ≤ n ∧ n ≤ 2147483647) (hy : -2147483648 ≤ y ∧ y ≤ 2147483647) (hr : ¬ rOK p n y) : CtX l D b Y_CF_rule { frames := 6, cells := 1, slots := 6, locals := 100 } [Value.ref (ad 100), Value.int (iI p), Value.int (iI n), Value.int (iI y)] (ad, cC ad r lp fd nr nr nr mc lf ln bd tm it th my lps em mk tr wg wr we wc wb vg vr ve vc vb sy sf so st sn ne mt) "java/lang/IllegalArgumentException" (fun w' => w' = (ad, cC ad r lp fd nr nr nr mc lf ln bd tm it th my lps em mk tr wg wr we wc wb vg vr ve vc vb sy sf so st sn ne mt)) := by
  refine CtX_of (by decide) (Nat.le_of_ble_eq_true rfl) ?_
  show JX l D b Y_CF_rule _ _ _ (ad, cC ad r lp fd nr nr nr mc lf ln bd tm it th my lps em mk tr wg wr we wc wb vg vr ve vc vb sy sf so st sn ne mt) 0 0 0 [(0, Value.ref (ad 100)), (1, Value.int (iI p)), (2, Value.int (iI n)), (3, Value.int (iI y))] []
  refine X_iload_n d_CF_rule_0 rfl 1 rfl ?_
  refine X_callS (st := []) [Value.int (iI p)] ms_CF_95 (c_CF_isNonterminal (by omega)) rfl rfl ⟨Nat.le_of_ble_eq_true rfl, Nat.le_of_ble_eq_true rfl⟩ ⟨Nat.le_of_ble_eq_true rfl, Nat.le_of_ble_eq_true rfl⟩ (Nat.le_of_ble_eq_true rfl) d_CF_rule_1 (fun v w' hp => ?_)
  obtain ⟨rfl, rfl⟩ := hp
  show JX l D b Y_CF_rule _ _ _ (ad, cC ad r lp fd nr nr nr mc lf ln bd tm it th my lps em mk tr wg wr we wc wb vg vr ve vc vb sy sf so st sn ne mt) 0 0 4 [(0, Value.ref (ad 100)), (1, Value.int (iI p)), (2, Value.int (iI n)), (3, Value.int (iI y))] [Value.int (iI (bz (ntB p)))]
  refine X_ifB_eq (tgt := 24) d_CF_rule_4 rfl (fun h4_2 => ?_) (fun h4_2 => ?_)
  · exact X_throw hl0 thW_IA (by decide +kernel) cl_CF_99 ii_XIA d_CF_rule_24 d_CF_rule_27 d_CF_rule_28 d_CF_rule_31 ⟨Nat.le_of_ble_eq_true rfl, Nat.le_of_ble_eq_true rfl⟩ ⟨Nat.le_of_ble_eq_true rfl, Nat.le_of_ble_eq_true rfl⟩ rfl
  · refine X_iload_n d_CF_rule_7 rfl 2 rfl ?_
    refine X_if_lt (tgt := 24) d_CF_rule_8 rfl (by omega) (fun h8_3 => ?_) (fun h8_3 => ?_)
    · exact X_throw hl0 thW_IA (by decide +kernel) cl_CF_99 ii_XIA d_CF_rule_24 d_CF_rule_27 d_CF_rule_28 d_CF_rule_31 ⟨Nat.le_of_ble_eq_true rfl, Nat.le_of_ble_eq_true rfl⟩ ⟨Nat.le_of_ble_eq_true rfl, Nat.le_of_ble_eq_true rfl⟩ rfl
    · refine X_iload_n d_CF_rule_11 rfl 2 rfl ?_
      refine X_iconst d_CF_rule_12 ?_
      refine X_icmp_gt (tgt := 24) d_CF_rule_13 rfl (by omega) (by omega) (fun h13_4 => ?_) (fun h13_4 => ?_)
      · exact X_throw hl0 thW_IA (by decide +kernel) cl_CF_99 ii_XIA d_CF_rule_24 d_CF_rule_27 d_CF_rule_28 d_CF_rule_31 ⟨Nat.le_of_ble_eq_true rfl, Nat.le_of_ble_eq_true rfl⟩ ⟨Nat.le_of_ble_eq_true rfl, Nat.le_of_ble_eq_true rfl⟩ rfl
      · refine X_iload_n d_CF_rule_16 rfl 3 rfl ?_
        refine X_iconst d_CF_rule_17 ?_
        refine X_iload_n d_CF_rule_18 rfl 2 rfl ?_
        refine X_imul d_CF_rule_19 ?_
        refine X_iushr d_CF_rule_20 (usr_eq _ _) ?_
        have hu := usr_rng y (4 * n)
        refine X_if_eq (tgt := 32) d_CF_rule_21 rfl (by omega) (fun h21_5 => ?_) (fun h21_5 => ?_)
        · refine X_iconst d_CF_rule_32 ?_
          refine X_istore d_CF_rule_33 (by decide) rfl ?_
          refine JX.sub [0, 1, 2, 3, 4] (lv' := [(4, Value.int (iI 0)), (0, Value.ref (ad 100)), (1, Value.int (iI p)), (2, Value.int (iI n)), (3, Value.int (iI y))]) rfl ?_
          refine JX.loop (σ := Int) (fun k => (0 ≤ k ∧ k ≤ n) ∧ (∀ j, 0 ≤ j → j < k → ntB (sym y (4 * j)) = true ∨ tmB (sym y (4 * j)) = true)) (fun k => (n - k).toNat) (ws := fun k => (ad, cC ad r lp fd nr nr nr mc lf ln bd tm it th my lps em mk tr wg wr we wc wb vg vr ve vc vb sy sf so st sn ne mt)) (ks := fun _ => 0) (ns := fun _ => 0) (lvs := fun k => [(4, Value.int (iI k)), (0, Value.ref (ad 100)), (1, Value.int (iI p)), (2, Value.int (iI n)), (3, Value.int (iI y))]) (sts := fun _ => []) ?_ 0 ?_
          · rintro k hI ih6
            have hI : (0 ≤ k ∧ k ≤ n) ∧ (∀ j, 0 ≤ j → j < k → ntB (sym y (4 * j)) = true ∨ tmB (sym y (4 * j)) = true) := hI
            obtain ⟨hk, hok⟩ := hI
            show JX l D b Y_CF_rule _ _ _ (ad, cC ad r lp fd nr nr nr mc lf ln bd tm it th my lps em mk tr wg wr we wc wb vg vr ve vc vb sy sf so st sn ne mt) 0 0 35 [(4, Value.int (iI k)), (0, Value.ref (ad 100)), (1, Value.int (iI p)), (2, Value.int (iI n)), (3, Value.int (iI y))] []
            refine X_iload d_CF_rule_35 0 rfl ?_
            refine X_iload_n d_CF_rule_37 rfl 3 rfl ?_
            refine X_icmp_ge (tgt := 82) d_CF_rule_38 rfl (by omega) (by omega) (fun h38_7 => ?_) (fun h38_7 => ?_)
            · exact absurd h38_7 (fun h9 => hr ⟨‹_›, by omega, by omega, fun j a1 a2 => hok j a1 (by omega)⟩)
            · refine X_iload_n d_CF_rule_41 rfl 4 rfl ?_
              refine X_iconst d_CF_rule_42 ?_
              refine X_iload d_CF_rule_43 0 rfl ?_
              refine X_imul d_CF_rule_45 ?_
              refine X_ishr d_CF_rule_46 rfl ?_
              refine X_bipush d_CF_rule_47 (by decide) ?_
              refine X_iand d_CF_rule_49 (sym_eq _ _) ?_
              refine X_istore d_CF_rule_50 (by decide) rfl ?_
              have hsy := sym_rng y (4 * k)
              refine X_iload d_CF_rule_52 0 rfl ?_
              refine X_callS (st := []) [Value.int (iI (sym y (4 * k)))] ms_CF_95 (c_CF_isNonterminal (by omega)) rfl rfl ⟨Nat.le_of_ble_eq_true rfl, Nat.le_of_ble_eq_true rfl⟩ ⟨Nat.le_of_ble_eq_true rfl, Nat.le_of_ble_eq_true rfl⟩ (Nat.le_of_ble_eq_true rfl) d_CF_rule_54 (fun v w' hp => ?_)
              obtain ⟨rfl, rfl⟩ := hp
              show JX l D b Y_CF_rule _ _ _ (ad, cC ad r lp fd nr nr nr mc lf ln bd tm it th my lps em mk tr wg wr we wc wb vg vr ve vc vb sy sf so st sn ne mt) 0 0 57 [(5, Value.int (iI (sym y (4 * k)))), (4, Value.int (iI k)), (0, Value.ref (ad 100)), (1, Value.int (iI p)), (2, Value.int (iI n)), (3, Value.int (iI y))] [Value.int (iI (bz (ntB (sym y (4 * k)))))]
              refine X_ifB_ne (tgt := 76) d_CF_rule_57 rfl (fun h57_9 => ?_) (fun h57_9 => ?_)
              · refine X_iinc (j := 1) d_CF_rule_76 rfl (by decide) rfl ?_
                refine X_goto (tgt := 35) d_CF_rule_79 rfl ?_
                refine JX.sub [0, 2, 3, 4, 5] rfl ?_
                exact ih6 (k + 1) (show (0 ≤ (k + 1) ∧ (k + 1) ≤ n) ∧ (∀ j, 0 ≤ j → j < (k + 1) → ntB (sym y (4 * j)) = true ∨ tmB (sym y (4 * j)) = true) by
                    refine ⟨by omega, fun j a1 a2 => ?_⟩
                    by_cases hj : j = k
                    · rw [hj]
                      first
                        | exact Or.inl ‹_›
                        | exact Or.inr ‹_›
                    · exact hok j a1 (by omega)) (show ((n - (k + 1)).toNat) < ((n - k).toNat) by
                    omega)
              · refine X_iload d_CF_rule_60 0 rfl ?_
                refine X_callS (st := []) [Value.int (iI (sym y (4 * k)))] ms_CF_102 (c_CF_isTerminal (by omega)) rfl rfl ⟨Nat.le_of_ble_eq_true rfl, Nat.le_of_ble_eq_true rfl⟩ ⟨Nat.le_of_ble_eq_true rfl, Nat.le_of_ble_eq_true rfl⟩ (Nat.le_of_ble_eq_true rfl) d_CF_rule_62 (fun v w' hp => ?_)
                obtain ⟨rfl, rfl⟩ := hp
                show JX l D b Y_CF_rule _ _ _ (ad, cC ad r lp fd nr nr nr mc lf ln bd tm it th my lps em mk tr wg wr we wc wb vg vr ve vc vb sy sf so st sn ne mt) 0 0 65 [(5, Value.int (iI (sym y (4 * k)))), (4, Value.int (iI k)), (0, Value.ref (ad 100)), (1, Value.int (iI p)), (2, Value.int (iI n)), (3, Value.int (iI y))] [Value.int (iI (bz (tmB (sym y (4 * k)))))]
                refine X_ifB_ne (tgt := 76) d_CF_rule_65 rfl (fun h65_11 => ?_) (fun h65_11 => ?_)
                · refine X_iinc (j := 1) d_CF_rule_76 rfl (by decide) rfl ?_
                  refine X_goto (tgt := 35) d_CF_rule_79 rfl ?_
                  refine JX.sub [0, 2, 3, 4, 5] rfl ?_
                  exact ih6 (k + 1) (show (0 ≤ (k + 1) ∧ (k + 1) ≤ n) ∧ (∀ j, 0 ≤ j → j < (k + 1) → ntB (sym y (4 * j)) = true ∨ tmB (sym y (4 * j)) = true) by
                      refine ⟨by omega, fun j a1 a2 => ?_⟩
                      by_cases hj : j = k
                      · rw [hj]
                        first
                          | exact Or.inl ‹_›
                          | exact Or.inr ‹_›
                      · exact hok j a1 (by omega)) (show ((n - (k + 1)).toNat) < ((n - k).toNat) by
                      omega)
                · exact X_throw hl0 thW_IA (by decide +kernel) cl_CF_99 ii_XIA d_CF_rule_68 d_CF_rule_71 d_CF_rule_72 d_CF_rule_75 ⟨Nat.le_of_ble_eq_true rfl, Nat.le_of_ble_eq_true rfl⟩ ⟨Nat.le_of_ble_eq_true rfl, Nat.le_of_ble_eq_true rfl⟩ rfl
          · show (0 ≤ (0 : Int) ∧ (0 : Int) ≤ n) ∧ (∀ j, 0 ≤ j → j < (0 : Int) → ntB (sym y (4 * j)) = true ∨ tmB (sym y (4 * j)) = true)
            exact ⟨by omega, fun j _ _ => by omega⟩
        · exact X_throw hl0 thW_IA (by decide +kernel) cl_CF_99 ii_XIA d_CF_rule_24 d_CF_rule_27 d_CF_rule_28 d_CF_rule_31 ⟨Nat.le_of_ble_eq_true rfl, Nat.le_of_ble_eq_true rfl⟩ ⟨Nat.le_of_ble_eq_true rfl, Nat.le_of_ble_eq_true rfl⟩ rfl
set_option maxHeartbeats 4000000 in
theorem x_CF_rule_IS {p : Int} {n : Int} {y : Int}  (hl0 : l.stackTraces = false) (hp : -2147483648 ≤ p ∧ p ≤ 2147483647) (hn : -2147483648 ≤ n ∧ n ≤ 2147483647) (hy : -2147483648 ≤ y ∧ y ≤ 2147483647) (hr : rOK p n y) (hf : 0 ≤ fd ∧ fd ≤ 12) (hnr : 0 ≤ nr ∧ nr ≤ 10) (hno : nr = 10 ∨ 0 < fd) : CtX l D b Y_CF_rule { frames := 6, cells := 1, slots := 6, locals := 100 } [Value.ref (ad 100), Value.int (iI p), Value.int (iI n), Value.int (iI y)] (ad, cC ad r lp fd nr nr nr mc lf ln bd tm it th my lps em mk tr wg wr we wc wb vg vr ve vc vb sy sf so st sn ne mt) "java/lang/IllegalStateException" (fun w' => w' = (ad, cC ad r lp fd nr nr nr mc lf ln bd tm it th my lps em mk tr wg wr we wc wb vg vr ve vc vb sy sf so st sn ne mt)) := by
  refine CtX_of (by decide) (Nat.le_of_ble_eq_true rfl) ?_
  obtain ⟨r1, r2, r3, r4⟩ := id hr
  show JX l D b Y_CF_rule _ _ _ (ad, cC ad r lp fd nr nr nr mc lf ln bd tm it th my lps em mk tr wg wr we wc wb vg vr ve vc vb sy sf so st sn ne mt) 0 0 0 [(0, Value.ref (ad 100)), (1, Value.int (iI p)), (2, Value.int (iI n)), (3, Value.int (iI y))] []
  refine X_iload_n d_CF_rule_0 rfl 1 rfl ?_
  refine X_callS (st := []) [Value.int (iI p)] ms_CF_95 (c_CF_isNonterminal (by omega)) rfl rfl ⟨Nat.le_of_ble_eq_true rfl, Nat.le_of_ble_eq_true rfl⟩ ⟨Nat.le_of_ble_eq_true rfl, Nat.le_of_ble_eq_true rfl⟩ (Nat.le_of_ble_eq_true rfl) d_CF_rule_1 (fun v w' hp => ?_)
  obtain ⟨rfl, rfl⟩ := hp
  show JX l D b Y_CF_rule _ _ _ (ad, cC ad r lp fd nr nr nr mc lf ln bd tm it th my lps em mk tr wg wr we wc wb vg vr ve vc vb sy sf so st sn ne mt) 0 0 4 [(0, Value.ref (ad 100)), (1, Value.int (iI p)), (2, Value.int (iI n)), (3, Value.int (iI y))] [Value.int (iI (bz (ntB p)))]
  refine X_ifB_eq (tgt := 24) d_CF_rule_4 rfl (fun h4_2 => ?_) (fun h4_2 => ?_)
  · exact absurd h4_2 (by rw [r1]; decide)
  · refine X_iload_n d_CF_rule_7 rfl 2 rfl ?_
    refine X_if_lt (tgt := 24) d_CF_rule_8 rfl (by omega) (fun h8_3 => ?_) (fun h8_3 => ?_)
    · exact absurd h8_3 (by omega)
    · refine X_iload_n d_CF_rule_11 rfl 2 rfl ?_
      refine X_iconst d_CF_rule_12 ?_
      refine X_icmp_gt (tgt := 24) d_CF_rule_13 rfl (by omega) (by omega) (fun h13_4 => ?_) (fun h13_4 => ?_)
      · exact absurd h13_4 (by omega)
      · refine X_iload_n d_CF_rule_16 rfl 3 rfl ?_
        refine X_iconst d_CF_rule_17 ?_
        refine X_iload_n d_CF_rule_18 rfl 2 rfl ?_
        refine X_imul d_CF_rule_19 ?_
        refine X_iushr d_CF_rule_20 (usr_eq _ _) ?_
        have hu := usr_rng y (4 * n)
        refine X_if_eq (tgt := 32) d_CF_rule_21 rfl (by omega) (fun h21_5 => ?_) (fun h21_5 => ?_)
        · refine X_iconst d_CF_rule_32 ?_
          refine X_istore d_CF_rule_33 (by decide) rfl ?_
          refine JX.sub [0, 1, 2, 3, 4] (lv' := [(4, Value.int (iI 0)), (0, Value.ref (ad 100)), (1, Value.int (iI p)), (2, Value.int (iI n)), (3, Value.int (iI y))]) rfl ?_
          refine JX.loop (σ := Int) (fun k => (0 ≤ k ∧ k ≤ n)) (fun k => (n - k).toNat) (ws := fun k => (ad, cC ad r lp fd nr nr nr mc lf ln bd tm it th my lps em mk tr wg wr we wc wb vg vr ve vc vb sy sf so st sn ne mt)) (ks := fun _ => 0) (ns := fun _ => 0) (lvs := fun k => [(4, Value.int (iI k)), (0, Value.ref (ad 100)), (1, Value.int (iI p)), (2, Value.int (iI n)), (3, Value.int (iI y))]) (sts := fun _ => []) ?_ 0 ?_
          · rintro k hI ih6
            have hI : (0 ≤ k ∧ k ≤ n) := hI
            have hk := hI
            show JX l D b Y_CF_rule _ _ _ (ad, cC ad r lp fd nr nr nr mc lf ln bd tm it th my lps em mk tr wg wr we wc wb vg vr ve vc vb sy sf so st sn ne mt) 0 0 35 [(4, Value.int (iI k)), (0, Value.ref (ad 100)), (1, Value.int (iI p)), (2, Value.int (iI n)), (3, Value.int (iI y))] []
            refine X_iload d_CF_rule_35 0 rfl ?_
            refine X_iload_n d_CF_rule_37 rfl 3 rfl ?_
            refine X_icmp_ge (tgt := 82) d_CF_rule_38 rfl (by omega) (by omega) (fun h38_7 => ?_) (fun h38_7 => ?_)
            · refine X_aload_n d_CF_rule_82 rfl 1 rfl ?_
              refine X_get fs_CF_23 rfl rfl d_CF_rule_83 ?_
              refine X_callV (st := []) [] ms_CF_105 rfl (c_Al_size) rfl rfl ⟨Nat.le_of_ble_eq_true rfl, Nat.le_of_ble_eq_true rfl⟩ ⟨Nat.le_of_ble_eq_true rfl, Nat.le_of_ble_eq_true rfl⟩ (Nat.le_of_ble_eq_true rfl) d_CF_rule_86 (fun v w' hp => ?_)
              obtain ⟨rfl, rfl⟩ := hp
              show JX l D b Y_CF_rule _ _ _ (ad, cC ad r lp fd nr nr nr mc lf ln bd tm it th my lps em mk tr wg wr we wc wb vg vr ve vc vb sy sf so st sn ne mt) 0 0 89 [(4, Value.int (iI k)), (0, Value.ref (ad 100)), (1, Value.int (iI p)), (2, Value.int (iI n)), (3, Value.int (iI y))] [Value.int (iI nr)]
              refine X_bipush d_CF_rule_89 (by decide) ?_
              refine X_icmp_ge (tgt := 101) d_CF_rule_91 rfl (by omega) (by omega) (fun h91_9 => ?_) (fun h91_9 => ?_)
              · exact X_throw hl0 thW_IS (by decide +kernel) cl_CF_113 ii_XIS d_CF_rule_101 d_CF_rule_104 d_CF_rule_105 d_CF_rule_108 ⟨Nat.le_of_ble_eq_true rfl, Nat.le_of_ble_eq_true rfl⟩ ⟨Nat.le_of_ble_eq_true rfl, Nat.le_of_ble_eq_true rfl⟩ rfl
              · refine X_aload_n d_CF_rule_94 rfl 1 rfl ?_
                refine X_get fs_CF_109 rfl rfl d_CF_rule_95 ?_
                refine X_if_le (tgt := 109) d_CF_rule_98 rfl (by omega) (fun h98_10 => ?_) (fun h98_10 => ?_)
                · exact absurd h98_10 (by omega)
                · exact X_throw hl0 thW_IS (by decide +kernel) cl_CF_113 ii_XIS d_CF_rule_101 d_CF_rule_104 d_CF_rule_105 d_CF_rule_108 ⟨Nat.le_of_ble_eq_true rfl, Nat.le_of_ble_eq_true rfl⟩ ⟨Nat.le_of_ble_eq_true rfl, Nat.le_of_ble_eq_true rfl⟩ rfl
            · refine X_iload_n d_CF_rule_41 rfl 4 rfl ?_
              refine X_iconst d_CF_rule_42 ?_
              refine X_iload d_CF_rule_43 0 rfl ?_
              refine X_imul d_CF_rule_45 ?_
              refine X_ishr d_CF_rule_46 rfl ?_
              refine X_bipush d_CF_rule_47 (by decide) ?_
              refine X_iand d_CF_rule_49 (sym_eq _ _) ?_
              refine X_istore d_CF_rule_50 (by decide) rfl ?_
              have hsy := sym_rng y (4 * k)
              refine X_iload d_CF_rule_52 0 rfl ?_
              refine X_callS (st := []) [Value.int (iI (sym y (4 * k)))] ms_CF_95 (c_CF_isNonterminal (by omega)) rfl rfl ⟨Nat.le_of_ble_eq_true rfl, Nat.le_of_ble_eq_true rfl⟩ ⟨Nat.le_of_ble_eq_true rfl, Nat.le_of_ble_eq_true rfl⟩ (Nat.le_of_ble_eq_true rfl) d_CF_rule_54 (fun v w' hp => ?_)
              obtain ⟨rfl, rfl⟩ := hp
              show JX l D b Y_CF_rule _ _ _ (ad, cC ad r lp fd nr nr nr mc lf ln bd tm it th my lps em mk tr wg wr we wc wb vg vr ve vc vb sy sf so st sn ne mt) 0 0 57 [(5, Value.int (iI (sym y (4 * k)))), (4, Value.int (iI k)), (0, Value.ref (ad 100)), (1, Value.int (iI p)), (2, Value.int (iI n)), (3, Value.int (iI y))] [Value.int (iI (bz (ntB (sym y (4 * k)))))]
              refine X_ifB_ne (tgt := 76) d_CF_rule_57 rfl (fun h57_12 => ?_) (fun h57_12 => ?_)
              · refine X_iinc (j := 1) d_CF_rule_76 rfl (by decide) rfl ?_
                refine X_goto (tgt := 35) d_CF_rule_79 rfl ?_
                refine JX.sub [0, 2, 3, 4, 5] rfl ?_
                exact ih6 (k + 1) (show (0 ≤ (k + 1) ∧ (k + 1) ≤ n) by
                    omega) (show ((n - (k + 1)).toNat) < ((n - k).toNat) by
                    omega)
              · have htB : tmB (sym y (4 * k)) = true := by
                  rcases r4 k (by omega) (by omega) with h | h
                  · rw [‹ntB (sym y (4 * k)) = false›] at h
                    cases h
                  · exact h
                refine X_iload d_CF_rule_60 0 rfl ?_
                refine X_callS (st := []) [Value.int (iI (sym y (4 * k)))] ms_CF_102 (c_CF_isTerminal (by omega)) rfl rfl ⟨Nat.le_of_ble_eq_true rfl, Nat.le_of_ble_eq_true rfl⟩ ⟨Nat.le_of_ble_eq_true rfl, Nat.le_of_ble_eq_true rfl⟩ (Nat.le_of_ble_eq_true rfl) d_CF_rule_62 (fun v w' hp => ?_)
                obtain ⟨rfl, rfl⟩ := hp
                show JX l D b Y_CF_rule _ _ _ (ad, cC ad r lp fd nr nr nr mc lf ln bd tm it th my lps em mk tr wg wr we wc wb vg vr ve vc vb sy sf so st sn ne mt) 0 0 65 [(5, Value.int (iI (sym y (4 * k)))), (4, Value.int (iI k)), (0, Value.ref (ad 100)), (1, Value.int (iI p)), (2, Value.int (iI n)), (3, Value.int (iI y))] [Value.int (iI (bz (tmB (sym y (4 * k)))))]
                refine X_ifB_ne (tgt := 76) d_CF_rule_65 rfl (fun h65_14 => ?_) (fun h65_14 => ?_)
                · refine X_iinc (j := 1) d_CF_rule_76 rfl (by decide) rfl ?_
                  refine X_goto (tgt := 35) d_CF_rule_79 rfl ?_
                  refine JX.sub [0, 2, 3, 4, 5] rfl ?_
                  exact ih6 (k + 1) (show (0 ≤ (k + 1) ∧ (k + 1) ≤ n) by
                      omega) (show ((n - (k + 1)).toNat) < ((n - k).toNat) by
                      omega)
                · exact absurd h65_14 (by rw [htB]; decide)
          · show (0 ≤ (0 : Int) ∧ (0 : Int) ≤ n)
            omega
        · exact absurd h21_5 (by omega)
set_option maxHeartbeats 4000000 in
theorem x_CF_feed_IA {t : Int}  (hl0 : l.stackTraces = false) (ht : -2147483648 ≤ t ∧ t ≤ 2147483647) (hno : tmB t = false) : CtX l D b Y_CF_feed { frames := 6, cells := 1, slots := 6, locals := 100 } [Value.ref (ad 100), Value.int (iI t)] (ad, cC ad r lp fd nr nr nr mc lf ln bd tm it th my lps em mk tr wg wr we wc wb vg vr ve vc vb sy sf so st sn ne mt) "java/lang/IllegalArgumentException" (fun w' => w' = (ad, cC ad r lp fd nr nr nr mc lf ln bd tm it th my lps em mk tr wg wr we wc wb vg vr ve vc vb sy sf so st sn ne mt)) := by
  refine CtX_of (by decide) (Nat.le_of_ble_eq_true rfl) ?_
  show JX l D b Y_CF_feed _ _ _ (ad, cC ad r lp fd nr nr nr mc lf ln bd tm it th my lps em mk tr wg wr we wc wb vg vr ve vc vb sy sf so st sn ne mt) 0 0 0 [(0, Value.ref (ad 100)), (1, Value.int (iI t))] []
  refine X_iload_n d_CF_feed_0 rfl 1 rfl ?_
  refine X_callS (st := []) [Value.int (iI t)] ms_CF_102 (c_CF_isTerminal (by omega)) rfl rfl ⟨Nat.le_of_ble_eq_true rfl, Nat.le_of_ble_eq_true rfl⟩ ⟨Nat.le_of_ble_eq_true rfl, Nat.le_of_ble_eq_true rfl⟩ (Nat.le_of_ble_eq_true rfl) d_CF_feed_1 (fun v w' hp => ?_)
  obtain ⟨rfl, rfl⟩ := hp
  show JX l D b Y_CF_feed _ _ _ (ad, cC ad r lp fd nr nr nr mc lf ln bd tm it th my lps em mk tr wg wr we wc wb vg vr ve vc vb sy sf so st sn ne mt) 0 0 4 [(0, Value.ref (ad 100)), (1, Value.int (iI t))] [Value.int (iI (bz (tmB t)))]
  refine X_ifB_ne (tgt := 15) d_CF_feed_4 rfl (fun h4_2 => ?_) (fun h4_2 => ?_)
  · exact absurd h4_2 (by rw [hno]; decide)
  · exact X_throw hl0 thW_IA (by decide +kernel) cl_CF_99 ii_XIA d_CF_feed_7 d_CF_feed_10 d_CF_feed_11 d_CF_feed_14 ⟨Nat.le_of_ble_eq_true rfl, Nat.le_of_ble_eq_true rfl⟩ ⟨Nat.le_of_ble_eq_true rfl, Nat.le_of_ble_eq_true rfl⟩ rfl
set_option maxHeartbeats 4000000 in
theorem x_CF_feed_IS {t : Int}  (hl0 : l.stackTraces = false) (ht : -2147483648 ≤ t ∧ t ≤ 2147483647) (hno : tmB t = true) (hf : fd = 12) : CtX l D b Y_CF_feed { frames := 6, cells := 1, slots := 6, locals := 100 } [Value.ref (ad 100), Value.int (iI t)] (ad, cC ad r lp fd nr nr nr mc lf ln bd tm it th my lps em mk tr wg wr we wc wb vg vr ve vc vb sy sf so st sn ne mt) "java/lang/IllegalStateException" (fun w' => w' = (ad, cC ad r lp fd nr nr nr mc lf ln bd tm it th my lps em mk tr wg wr we wc wb vg vr ve vc vb sy sf so st sn ne mt)) := by
  refine CtX_of (by decide) (Nat.le_of_ble_eq_true rfl) ?_
  show JX l D b Y_CF_feed _ _ _ (ad, cC ad r lp fd nr nr nr mc lf ln bd tm it th my lps em mk tr wg wr we wc wb vg vr ve vc vb sy sf so st sn ne mt) 0 0 0 [(0, Value.ref (ad 100)), (1, Value.int (iI t))] []
  refine X_iload_n d_CF_feed_0 rfl 1 rfl ?_
  refine X_callS (st := []) [Value.int (iI t)] ms_CF_102 (c_CF_isTerminal (by omega)) rfl rfl ⟨Nat.le_of_ble_eq_true rfl, Nat.le_of_ble_eq_true rfl⟩ ⟨Nat.le_of_ble_eq_true rfl, Nat.le_of_ble_eq_true rfl⟩ (Nat.le_of_ble_eq_true rfl) d_CF_feed_1 (fun v w' hp => ?_)
  obtain ⟨rfl, rfl⟩ := hp
  show JX l D b Y_CF_feed _ _ _ (ad, cC ad r lp fd nr nr nr mc lf ln bd tm it th my lps em mk tr wg wr we wc wb vg vr ve vc vb sy sf so st sn ne mt) 0 0 4 [(0, Value.ref (ad 100)), (1, Value.int (iI t))] [Value.int (iI (bz (tmB t)))]
  refine X_ifB_ne (tgt := 15) d_CF_feed_4 rfl (fun h4_2 => ?_) (fun h4_2 => ?_)
  · refine X_aload_n d_CF_feed_15 rfl 0 rfl ?_
    refine X_get fs_CF_109 rfl rfl d_CF_feed_16 ?_
    refine X_bipush d_CF_feed_19 (by decide) ?_
    refine X_icmp_lt (tgt := 32) d_CF_feed_21 rfl (by omega) (by omega) (fun h21_3 => ?_) (fun h21_3 => ?_)
    · exact absurd h21_3 (by omega)
    · exact X_throw hl0 thW_IS (by decide +kernel) cl_CF_113 ii_XIS d_CF_feed_24 d_CF_feed_27 d_CF_feed_28 d_CF_feed_31 ⟨Nat.le_of_ble_eq_true rfl, Nat.le_of_ble_eq_true rfl⟩ ⟨Nat.le_of_ble_eq_true rfl, Nat.le_of_ble_eq_true rfl⟩ rfl
  · exact absurd h4_2 (by rw [hno]; decide)
set_option maxHeartbeats 4000000 in
theorem x_CF_feed_NS {t : Int}  (hl0 : l.stackTraces = false) (hI : CInv lp nr lf ln bd fd tm it th my lps mk tr mt) (ht : 8 ≤ t ∧ t ≤ 11) (hf12 : fd < 12) (hex : ¬ ∃ c, th fd c = true ∧ bc ln bd c = t) : CtX l D b Y_CF_feed { frames := 6, cells := 1, slots := 6, locals := 130 } [Value.ref (ad 100), Value.int (iI t)] (ad, cC ad r lp fd nr nr nr mc lf ln bd tm it th my lps em mk tr wg wr we wc wb vg vr ve vc vb sy sf so st sn ne mt) "java/util/NoSuchElementException" (fun w' => w' = (ad, cC ad r lp fd nr nr nr mc lf ln bd tm it th my lps em mk tr wg wr we wc wb vg vr ve vc vb sy sf so st sn ne mt)) := by
  refine CtX_of (by decide) (Nat.le_of_ble_eq_true rfl) ?_
  obtain ⟨hg, hf, htm, hS, hCL, hmk, htr, hLD, hmt⟩ := hI
  have hIo : ∀ c, th fd c = true → c / 52 - 1 < nr := fun c hc => ((hCL fd (by omega) (by omega)).1 c hc).2.1
  show JX l D b Y_CF_feed _ _ _ (ad, cC ad r lp fd nr nr nr mc lf ln bd tm it th my lps em mk tr wg wr we wc wb vg vr ve vc vb sy sf so st sn ne mt) 0 0 0 [(0, Value.ref (ad 100)), (1, Value.int (iI t))] []
  refine X_iload_n d_CF_feed_0 rfl 1 rfl ?_
  refine X_callS (st := []) [Value.int (iI t)] ms_CF_102 (c_CF_isTerminal (by omega)) rfl rfl ⟨Nat.le_of_ble_eq_true rfl, Nat.le_of_ble_eq_true rfl⟩ ⟨Nat.le_of_ble_eq_true rfl, Nat.le_of_ble_eq_true rfl⟩ (Nat.le_of_ble_eq_true rfl) d_CF_feed_1 (fun v w' hp => ?_)
  obtain ⟨rfl, rfl⟩ := hp
  show JX l D b Y_CF_feed _ _ _ (ad, cC ad r lp fd nr nr nr mc lf ln bd tm it th my lps em mk tr wg wr we wc wb vg vr ve vc vb sy sf so st sn ne mt) 0 0 4 [(0, Value.ref (ad 100)), (1, Value.int (iI t))] [Value.int (iI (bz (tmB t)))]
  refine X_ifB_ne (tgt := 15) d_CF_feed_4 rfl (fun h4_2 => ?_) (fun h4_2 => ?_)
  · refine X_aload_n d_CF_feed_15 rfl 0 rfl ?_
    refine X_get fs_CF_109 rfl rfl d_CF_feed_16 ?_
    refine X_bipush d_CF_feed_19 (by decide) ?_
    refine X_icmp_lt (tgt := 32) d_CF_feed_21 rfl (by omega) (by omega) (fun h21_3 => ?_) (fun h21_3 => ?_)
    · refine X_aload_n d_CF_feed_32 rfl 0 rfl ?_
      refine X_callV (st := []) [] ms_CF_172 rfl (c_CF_expected hg (by omega) hS hIo) rfl rfl ⟨Nat.le_of_ble_eq_true rfl, Nat.le_of_ble_eq_true rfl⟩ ⟨Nat.le_of_ble_eq_true rfl, Nat.le_of_ble_eq_true rfl⟩ (Nat.le_of_ble_eq_true rfl) d_CF_feed_33 (fun v w' hp => ?_)
      obtain ⟨e4, rfl, rfl, hE4⟩ := hp
      show JX l D b Y_CF_feed _ _ _ (ad, cC ad r lp fd nr nr nr mc lf ln bd tm it th my lps em mk tr wg wr we wc wb vg vr ve vc vb sy sf so st sn ne mt) 0 0 36 [(0, Value.ref (ad 100)), (1, Value.int (iI t))] [Value.int (iI e4)]
      have hE9 := hE4
      have hbt : bit e4 (t - 8) = false := by
        cases h9 : bit e4 (t - 8) with
        | false => rfl
        | true =>
          obtain ⟨c, c1, c2, c3, c4⟩ := (hE9.2 (t - 8) (by omega)).mp h9
          rw [tab_at th ⟨c1, c2⟩] at c3
          exact absurd ⟨c, c3, by omega⟩ hex
      refine X_iload_n d_CF_feed_36 rfl 1 rfl ?_
      refine X_bipush d_CF_feed_37 (by decide) ?_
      refine X_isub d_CF_feed_39 ?_
      refine X_ishr d_CF_feed_40 (iI_shr (by have := hE9.1; omega) (by omega)) ?_
      refine X_iconst d_CF_feed_41 ?_
      refine X_iand d_CF_feed_42 (iI_bit (by have := hE9.1; omega)) ?_
      refine X_ifB_ne (tgt := 54) d_CF_feed_43 rfl (fun h43_5 => ?_) (fun h43_5 => ?_)
      · exact absurd h43_5 (by rw [hbt]; decide)
      · exact X_throw hl0 thW_NS (by decide +kernel) cl_CF_175 ii_XNS d_CF_feed_46 d_CF_feed_49 d_CF_feed_50 d_CF_feed_53 ⟨Nat.le_of_ble_eq_true rfl, Nat.le_of_ble_eq_true rfl⟩ ⟨Nat.le_of_ble_eq_true rfl, Nat.le_of_ble_eq_true rfl⟩ rfl
    · exact absurd h21_3 (by omega)
  · exact absurd h4_2 (by rw [tmB_t (by omega)]; decide)
end X1
