theorem exj_yes {e k : Int} {it ln bd : Int → Int} {x : Int} (h : (0 ≤ e ∧ e ≤ 15) ∧ ∀ s, 0 ≤ s → (bit e s = true ↔ ∃ j, 0 ≤ j ∧ j < k ∧ bc ln bd (it j) = 8 + s)) (hk : 0 ≤ k) (hx : bc ln bd (it k) = x) (h2 : 8 ≤ x ∧ x ≤ 11) : (0 ≤ orI e (p2 (x - 8)) ∧ orI e (p2 (x - 8)) ≤ 15) ∧ ∀ s, 0 ≤ s → (bit (orI e (p2 (x - 8))) s = true ↔ ∃ j, 0 ≤ j ∧ j < k + 1 ∧ bc ln bd (it j) = 8 + s) := by
  have hp : 1 ≤ p2 (x - 8) ∧ p2 (x - 8) ≤ 15 := by
    have : x = 8 ∨ x = 9 ∨ x = 10 ∨ x = 11 := by omega
    rcases this with rfl | rfl | rfl | rfl <;> decide
  refine ⟨orI_16 h.1 (by omega), fun s hs => ?_⟩
  rw [bit_or, bit_p2 (by omega) hs, Bool.or_eq_true, h.2 s hs, decide_eq_true_iff]
  refine ⟨fun g => ?_, fun ⟨j, g1, g2, g4⟩ => ?_⟩
  · rcases g with ⟨j, g1, g2, g3⟩ | g
    · exact ⟨j, g1, by omega, g3⟩
    · exact ⟨k, hk, by omega, by omega⟩
  · by_cases hj : j = k
    · rw [hj] at g4
      exact Or.inr (by omega)
    · exact Or.inl ⟨j, g1, by omega, g4⟩
theorem exj_end {e k i : Int} {it : Int → Int → Int} {my : Int → Int} {th : Int → Int → Bool} {ln bd : Int → Int} (hK : SetR (it i) (my i) (th i)) (h : (0 ≤ e ∧ e ≤ 15) ∧ ∀ s, 0 ≤ s → (bit e s = true ↔ ∃ j, 0 ≤ j ∧ j < k ∧ bc ln bd (it i j) = 8 + s)) (hk : k = my i) : ExpR (tab th) ln bd i e := by
  refine ⟨h.1, fun s hs => ?_⟩
  rw [h.2 s hs]
  refine ⟨fun ⟨j, h1, h2, h3⟩ => ?_, fun ⟨c, h1, h2, h3, h4⟩ => ?_⟩
  · obtain ⟨h4, h5⟩ := hK.2.1 j h1 (by omega)
    exact ⟨it i j, h4.1, h4.2, by rw [tab_at th h4]; exact h5, h3⟩
  · rw [tab_at th ⟨h1, h2⟩] at h3
    obtain ⟨j, b1, b2, b3⟩ := hK.2.2.1 c h3
    exact ⟨j, b1, by omega, by rw [b3]; exact h4⟩
section N4
variable {l : Launch} {D : jD} {b : Nat} {w : jW} {ad : Nat → Nat} {r : Nat → Option jE} {lp : Bool} {fd : Int} {nr : Int} {nc : Int} {nd : Int} {mc : Int} {lf : Int → Int} {ln : Int → Int} {bd : Int → Int} {tm : Int → Int} {it : Int → Int → Int} {th : Int → Int → Bool} {my : Int → Int} {lps : Int → Int → Int} {em : Int → Int} {mk : Int → Int → Int} {tr : Int → Int → Int → Int} {wg : Bool} {wr : Value} {we : Int} {wc : Int → Int} {wb : Bool} {vg : Bool} {vr : Value} {ve : Int} {vc : Int → Int} {vb : Bool} {sy : Int → Int} {sf : Int → Int} {so : Int → Int} {st : Int → Int} {sn : Int} {ne : Int → Int} {mt : Int → Int → Bool}
set_option maxHeartbeats 4000000 in
theorem c_CF_fed    : Ct l D b Y_CF_fed { frames := 0, cells := 0, slots := 0, locals := 0 } [Value.ref (ad 100)] (ad, cC ad r lp fd nr nr nr mc lf ln bd tm it th my lps em mk tr wg wr we wc wb vg vr ve vc vb sy sf so st sn ne mt) (fun v w' => v = some (.int (iI fd)) ∧ w' = (ad, cC ad r lp fd nr nr nr mc lf ln bd tm it th my lps em mk tr wg wr we wc wb vg vr ve vc vb sy sf so st sn ne mt)) := by
  refine Ct_of (by decide) (Nat.le_of_ble_eq_true rfl) ?_
  show J l D b Y_CF_fed _ _ (ad, cC ad r lp fd nr nr nr mc lf ln bd tm it th my lps em mk tr wg wr we wc wb vg vr ve vc vb sy sf so st sn ne mt) 0 0 0 [(0, Value.ref (ad 100))] []
  refine J_aload_n d_CF_fed_0 rfl 0 rfl ?_
  refine J_get fs_CF_109 rfl rfl d_CF_fed_1 ?_
  refine J_iret rfl d_CF_fed_4 ⟨Nat.le_of_ble_eq_true rfl, Nat.le_of_ble_eq_true rfl⟩ ?_
  exact ⟨rfl, rfl⟩
set_option maxHeartbeats 4000000 in
theorem c_CF_accepts   (hf : 0 ≤ fd ∧ fd ≤ 12) : Ct l D b Y_CF_accepts { frames := 1, cells := 0, slots := 0, locals := 22 } [Value.ref (ad 100)] (ad, cC ad r lp fd nr nr nr mc lf ln bd tm it th my lps em mk tr wg wr we wc wb vg vr ve vc vb sy sf so st sn ne mt) (fun v w' => v = some (.int (iI (bz (th fd 13)))) ∧ w' = (ad, cC ad r lp fd nr nr nr mc lf ln bd tm it th my lps em mk tr wg wr we wc wb vg vr ve vc vb sy sf so st sn ne mt)) := by
  refine Ct_of (by decide) (Nat.le_of_ble_eq_true rfl) ?_
  show J l D b Y_CF_accepts _ _ (ad, cC ad r lp fd nr nr nr mc lf ln bd tm it th my lps em mk tr wg wr we wc wb vg vr ve vc vb sy sf so st sn ne mt) 0 0 0 [(0, Value.ref (ad 100))] []
  refine J_aload_n d_CF_accepts_0 rfl 0 rfl ?_
  refine J_get fs_CF_29 rfl rfl d_CF_accepts_1 ?_
  refine J_aload_n d_CF_accepts_4 rfl 0 rfl ?_
  refine J_get fs_CF_109 rfl rfl d_CF_accepts_5 ?_
  refine J_aald (v := Value.ref (ad (idS fd))) rfl rfl (by omega) (by decide) rfl d_CF_accepts_8 ?_
  refine J_iconst d_CF_accepts_9 ?_
  refine J_iconst d_CF_accepts_10 ?_
  refine J_iconst d_CF_accepts_11 ?_
  refine J_callS (st := [Value.ref (ad (idS fd))]) [Value.int (iI (-1)), Value.int (iI 1), Value.int (iI 0)] ms_CF_77 (c_CF_pack) rfl rfl ⟨Nat.le_of_ble_eq_true rfl, Nat.le_of_ble_eq_true rfl⟩ ⟨Nat.le_of_ble_eq_true rfl, Nat.le_of_ble_eq_true rfl⟩ (Nat.le_of_ble_eq_true rfl) d_CF_accepts_12 (fun v w' hp => ?_)
  obtain ⟨rfl, rfl⟩ := hp
  show J l D b Y_CF_accepts _ _ (ad, cC ad r lp fd nr nr nr mc lf ln bd tm it th my lps em mk tr wg wr we wc wb vg vr ve vc vb sy sf so st sn ne mt) 0 0 15 [(0, Value.ref (ad 100))] [Value.int (iI (52 * ((-1) + 1) + 13 * 1 + 0)), Value.ref (ad (idS fd))]
  refine J_callV (st := []) [Value.int (iI (52 * ((-1) + 1) + 13 * 1 + 0))] ms_CF_237 (hidS (k := fd) (by omega)) (c_Se_contains (by omega) (by omega)) rfl rfl ⟨Nat.le_of_ble_eq_true rfl, Nat.le_of_ble_eq_true rfl⟩ ⟨Nat.le_of_ble_eq_true rfl, Nat.le_of_ble_eq_true rfl⟩ (Nat.le_of_ble_eq_true rfl) d_CF_accepts_15 (fun v w' hp => ?_)
  obtain ⟨rfl, rfl⟩ := hp
  show J l D b Y_CF_accepts _ _ (ad, cC ad r lp fd nr nr nr mc lf ln bd tm it th my lps em mk tr wg wr we wc wb vg vr ve vc vb sy sf so st sn ne mt) 0 0 18 [(0, Value.ref (ad 100))] [Value.int (iI (bz (th fd (52 * ((-1) + 1) + 13 * 1 + 0))))]
  refine J_zret rfl d_CF_accepts_18 ⟨Nat.le_of_ble_eq_true rfl, Nat.le_of_ble_eq_true rfl⟩ ?_
  exact ⟨rfl, rfl⟩
set_option maxHeartbeats 4000000 in
theorem c_CF_setAt {i : Int}  (hf : 0 ≤ fd ∧ fd ≤ 12) (hi : 0 ≤ i ∧ i ≤ fd) : Ct l D b Y_CF_setAt { frames := 0, cells := 0, slots := 0, locals := 0 } [Value.ref (ad 100), Value.int (iI i)] (ad, cC ad r lp fd nr nr nr mc lf ln bd tm it th my lps em mk tr wg wr we wc wb vg vr ve vc vb sy sf so st sn ne mt) (fun v w' => v = some (.ref (ad (idS i))) ∧ w' = (ad, cC ad r lp fd nr nr nr mc lf ln bd tm it th my lps em mk tr wg wr we wc wb vg vr ve vc vb sy sf so st sn ne mt)) := by
  refine Ct_of (by decide) (Nat.le_of_ble_eq_true rfl) ?_
  show J l D b Y_CF_setAt _ _ (ad, cC ad r lp fd nr nr nr mc lf ln bd tm it th my lps em mk tr wg wr we wc wb vg vr ve vc vb sy sf so st sn ne mt) 0 0 0 [(0, Value.ref (ad 100)), (1, Value.int (iI i))] []
  refine J_iload_n d_CF_setAt_0 rfl 1 rfl ?_
  refine J_if_lt (tgt := 12) d_CF_setAt_1 rfl (by omega) (fun h1_1 => ?_) (fun h1_1 => ?_)
  · exact absurd h1_1 (by omega)
  · refine J_iload_n d_CF_setAt_4 rfl 1 rfl ?_
    refine J_aload_n d_CF_setAt_5 rfl 0 rfl ?_
    refine J_get fs_CF_109 rfl rfl d_CF_setAt_6 ?_
    refine J_icmp_le (tgt := 20) d_CF_setAt_9 rfl (by omega) (by omega) (fun h9_2 => ?_) (fun h9_2 => ?_)
    · refine J_aload_n d_CF_setAt_20 rfl 0 rfl ?_
      refine J_get fs_CF_29 rfl rfl d_CF_setAt_21 ?_
      refine J_iload_n d_CF_setAt_24 rfl 1 rfl ?_
      refine J_aald (v := Value.ref (ad (idS i))) rfl rfl (by omega) (by decide) rfl d_CF_setAt_25 ?_
      refine J_aret rfl d_CF_setAt_26 ⟨Nat.le_of_ble_eq_true rfl, Nat.le_of_ble_eq_true rfl⟩ ?_
      exact ⟨rfl, rfl⟩
    · exact absurd h9_2 (by omega)
set_option maxHeartbeats 4000000 in
theorem c_CF_items {i : Int}  (hf : 0 ≤ fd ∧ fd ≤ 12) (hi : 0 ≤ i ∧ i ≤ fd) : Ct l D b Y_CF_items { frames := 1, cells := 0, slots := 0, locals := 21 } [Value.ref (ad 100), Value.int (iI i)] (ad, cC ad r lp fd nr nr nr mc lf ln bd tm it th my lps em mk tr wg wr we wc wb vg vr ve vc vb sy sf so st sn ne mt) (fun v w' => v = some (.int (iI (my i))) ∧ w' = (ad, cC ad r lp fd nr nr nr mc lf ln bd tm it th my lps em mk tr wg wr we wc wb vg vr ve vc vb sy sf so st sn ne mt)) := by
  refine Ct_of (by decide) (Nat.le_of_ble_eq_true rfl) ?_
  show J l D b Y_CF_items _ _ (ad, cC ad r lp fd nr nr nr mc lf ln bd tm it th my lps em mk tr wg wr we wc wb vg vr ve vc vb sy sf so st sn ne mt) 0 0 0 [(0, Value.ref (ad 100)), (1, Value.int (iI i))] []
  refine J_aload_n d_CF_items_0 rfl 0 rfl ?_
  refine J_iload_n d_CF_items_1 rfl 1 rfl ?_
  refine J_callV (st := []) [Value.int (iI i)] ms_CF_243 rfl (c_CF_setAt (by omega) (by omega)) rfl rfl ⟨Nat.le_of_ble_eq_true rfl, Nat.le_of_ble_eq_true rfl⟩ ⟨Nat.le_of_ble_eq_true rfl, Nat.le_of_ble_eq_true rfl⟩ (Nat.le_of_ble_eq_true rfl) d_CF_items_2 (fun v w' hp => ?_)
  obtain ⟨rfl, rfl⟩ := hp
  show J l D b Y_CF_items _ _ (ad, cC ad r lp fd nr nr nr mc lf ln bd tm it th my lps em mk tr wg wr we wc wb vg vr ve vc vb sy sf so st sn ne mt) 0 0 5 [(0, Value.ref (ad 100)), (1, Value.int (iI i))] [Value.ref (ad (idS i))]
  refine J_get fs_CF_136 (hidS (k := i) (by omega)) rfl d_CF_items_5 ?_
  refine J_iret rfl d_CF_items_8 ⟨Nat.le_of_ble_eq_true rfl, Nat.le_of_ble_eq_true rfl⟩ ?_
  exact ⟨rfl, rfl⟩
set_option maxHeartbeats 4000000 in
theorem c_CF_has {i : Int} {q : Int} {d : Int} {o : Int}  (hf : 0 ≤ fd ∧ fd ≤ 12) (hn : 0 ≤ nr ∧ nr ≤ 10) (hi : 0 ≤ i ∧ i ≤ fd) (hq : -2147483648 ≤ q ∧ q ≤ 2147483647) (hd : -2147483648 ≤ d ∧ d ≤ 2147483647) (ho : -2147483648 ≤ o ∧ o ≤ 2147483647) : Ct l D b Y_CF_has { frames := 1, cells := 0, slots := 0, locals := 22 } [Value.ref (ad 100), Value.int (iI i), Value.int (iI q), Value.int (iI d), Value.int (iI o)] (ad, cC ad r lp fd nr nr nr mc lf ln bd tm it th my lps em mk tr wg wr we wc wb vg vr ve vc vb sy sf so st sn ne mt) (fun v w' => ∃ z, v = some (.int (iI (bz z))) ∧ w' = (ad, cC ad r lp fd nr nr nr mc lf ln bd tm it th my lps em mk tr wg wr we wc wb vg vr ve vc vb sy sf so st sn ne mt) ∧ (z = true ↔ -1 ≤ q ∧ q < nr ∧ 0 ≤ d ∧ d ≤ 3 ∧ 0 ≤ o ∧ o ≤ 12 ∧ th i (52 * (q + 1) + 13 * d + o) = true)) := by
  refine Ct_of (by decide) (Nat.le_of_ble_eq_true rfl) ?_
  show J l D b Y_CF_has _ _ (ad, cC ad r lp fd nr nr nr mc lf ln bd tm it th my lps em mk tr wg wr we wc wb vg vr ve vc vb sy sf so st sn ne mt) 0 0 0 [(0, Value.ref (ad 100)), (1, Value.int (iI i)), (2, Value.int (iI q)), (3, Value.int (iI d)), (4, Value.int (iI o))] []
  refine J_aload_n d_CF_has_0 rfl 0 rfl ?_
  refine J_iload_n d_CF_has_1 rfl 1 rfl ?_
  refine J_callV (st := []) [Value.int (iI i)] ms_CF_243 rfl (c_CF_setAt (by omega) (by omega)) rfl rfl ⟨Nat.le_of_ble_eq_true rfl, Nat.le_of_ble_eq_true rfl⟩ ⟨Nat.le_of_ble_eq_true rfl, Nat.le_of_ble_eq_true rfl⟩ (Nat.le_of_ble_eq_true rfl) d_CF_has_2 (fun v w' hp => ?_)
  obtain ⟨rfl, rfl⟩ := hp
  show J l D b Y_CF_has _ _ (ad, cC ad r lp fd nr nr nr mc lf ln bd tm it th my lps em mk tr wg wr we wc wb vg vr ve vc vb sy sf so st sn ne mt) 0 0 5 [(0, Value.ref (ad 100)), (1, Value.int (iI i)), (2, Value.int (iI q)), (3, Value.int (iI d)), (4, Value.int (iI o))] [Value.ref (ad (idS i))]
  refine J_astore d_CF_has_5 (by decide) rfl ?_
  refine J_iload_n d_CF_has_7 rfl 3 rfl ?_
  refine J_iconst d_CF_has_8 ?_
  refine J_icmp_lt (tgt := 63) d_CF_has_9 rfl (by omega) (by omega) (fun h9_2 => ?_) (fun h9_2 => ?_)
  · refine J_iconst d_CF_has_63 ?_
    refine J.top (show Value.int (iI 0) = Value.int (iI (bz false)) from rfl) ?_
    refine J_zret rfl d_CF_has_64 ⟨Nat.le_of_ble_eq_true rfl, Nat.le_of_ble_eq_true rfl⟩ ?_
    refine ⟨_, rfl, rfl, (fun h => by cases h), fun h => ?_⟩
    first
      | omega
      | (have h9 := h.2.2.2.2.2.2; rw [‹th i _ = false›] at h9; cases h9)
  · refine J_iload_n d_CF_has_12 rfl 3 rfl ?_
    refine J_aload_n d_CF_has_13 rfl 1 rfl ?_
    refine J_get fs_CF_23 rfl rfl d_CF_has_14 ?_
    refine J_callV (st := [Value.int (iI q)]) [] ms_CF_105 rfl (c_Al_size) rfl rfl ⟨Nat.le_of_ble_eq_true rfl, Nat.le_of_ble_eq_true rfl⟩ ⟨Nat.le_of_ble_eq_true rfl, Nat.le_of_ble_eq_true rfl⟩ (Nat.le_of_ble_eq_true rfl) d_CF_has_17 (fun v w' hp => ?_)
    obtain ⟨rfl, rfl⟩ := hp
    show J l D b Y_CF_has _ _ (ad, cC ad r lp fd nr nr nr mc lf ln bd tm it th my lps em mk tr wg wr we wc wb vg vr ve vc vb sy sf so st sn ne mt) 0 0 20 [(5, Value.ref (ad (idS i))), (0, Value.ref (ad 100)), (1, Value.int (iI i)), (2, Value.int (iI q)), (3, Value.int (iI d)), (4, Value.int (iI o))] [Value.int (iI nr), Value.int (iI q)]
    refine J_icmp_ge (tgt := 63) d_CF_has_20 rfl (by omega) (by omega) (fun h20_4 => ?_) (fun h20_4 => ?_)
    · refine J_iconst d_CF_has_63 ?_
      refine J.top (show Value.int (iI 0) = Value.int (iI (bz false)) from rfl) ?_
      refine J_zret rfl d_CF_has_64 ⟨Nat.le_of_ble_eq_true rfl, Nat.le_of_ble_eq_true rfl⟩ ?_
      refine ⟨_, rfl, rfl, (fun h => by cases h), fun h => ?_⟩
      first
        | omega
        | (have h9 := h.2.2.2.2.2.2; rw [‹th i _ = false›] at h9; cases h9)
    · refine J_iload_n d_CF_has_23 rfl 4 rfl ?_
      refine J_if_lt (tgt := 63) d_CF_has_24 rfl (by omega) (fun h24_5 => ?_) (fun h24_5 => ?_)
      · refine J_iconst d_CF_has_63 ?_
        refine J.top (show Value.int (iI 0) = Value.int (iI (bz false)) from rfl) ?_
        refine J_zret rfl d_CF_has_64 ⟨Nat.le_of_ble_eq_true rfl, Nat.le_of_ble_eq_true rfl⟩ ?_
        refine ⟨_, rfl, rfl, (fun h => by cases h), fun h => ?_⟩
        first
          | omega
          | (have h9 := h.2.2.2.2.2.2; rw [‹th i _ = false›] at h9; cases h9)
      · refine J_iload_n d_CF_has_27 rfl 4 rfl ?_
        refine J_iconst d_CF_has_28 ?_
        refine J_icmp_ge (tgt := 63) d_CF_has_29 rfl (by omega) (by omega) (fun h29_6 => ?_) (fun h29_6 => ?_)
        · refine J_iconst d_CF_has_63 ?_
          refine J.top (show Value.int (iI 0) = Value.int (iI (bz false)) from rfl) ?_
          refine J_zret rfl d_CF_has_64 ⟨Nat.le_of_ble_eq_true rfl, Nat.le_of_ble_eq_true rfl⟩ ?_
          refine ⟨_, rfl, rfl, (fun h => by cases h), fun h => ?_⟩
          first
            | omega
            | (have h9 := h.2.2.2.2.2.2; rw [‹th i _ = false›] at h9; cases h9)
        · refine J_iload d_CF_has_32 5 rfl ?_
          refine J_if_lt (tgt := 63) d_CF_has_34 rfl (by omega) (fun h34_7 => ?_) (fun h34_7 => ?_)
          · refine J_iconst d_CF_has_63 ?_
            refine J.top (show Value.int (iI 0) = Value.int (iI (bz false)) from rfl) ?_
            refine J_zret rfl d_CF_has_64 ⟨Nat.le_of_ble_eq_true rfl, Nat.le_of_ble_eq_true rfl⟩ ?_
            refine ⟨_, rfl, rfl, (fun h => by cases h), fun h => ?_⟩
            first
              | omega
              | (have h9 := h.2.2.2.2.2.2; rw [‹th i _ = false›] at h9; cases h9)
          · refine J_iload d_CF_has_37 5 rfl ?_
            refine J_bipush d_CF_has_39 (by decide) ?_
            refine J_icmp_ge (tgt := 63) d_CF_has_41 rfl (by omega) (by omega) (fun h41_8 => ?_) (fun h41_8 => ?_)
            · refine J_iconst d_CF_has_63 ?_
              refine J.top (show Value.int (iI 0) = Value.int (iI (bz false)) from rfl) ?_
              refine J_zret rfl d_CF_has_64 ⟨Nat.le_of_ble_eq_true rfl, Nat.le_of_ble_eq_true rfl⟩ ?_
              refine ⟨_, rfl, rfl, (fun h => by cases h), fun h => ?_⟩
              first
                | omega
                | (have h9 := h.2.2.2.2.2.2; rw [‹th i _ = false›] at h9; cases h9)
            · refine J_aload d_CF_has_44 0 rfl ?_
              refine J_iload_n d_CF_has_46 rfl 3 rfl ?_
              refine J_iload_n d_CF_has_47 rfl 4 rfl ?_
              refine J_iload d_CF_has_48 5 rfl ?_
              refine J_callS (st := [Value.ref (ad (idS i))]) [Value.int (iI q), Value.int (iI d), Value.int (iI o)] ms_CF_77 (c_CF_pack) rfl rfl ⟨Nat.le_of_ble_eq_true rfl, Nat.le_of_ble_eq_true rfl⟩ ⟨Nat.le_of_ble_eq_true rfl, Nat.le_of_ble_eq_true rfl⟩ (Nat.le_of_ble_eq_true rfl) d_CF_has_50 (fun v w' hp => ?_)
              obtain ⟨rfl, rfl⟩ := hp
              show J l D b Y_CF_has _ _ (ad, cC ad r lp fd nr nr nr mc lf ln bd tm it th my lps em mk tr wg wr we wc wb vg vr ve vc vb sy sf so st sn ne mt) 0 0 53 [(5, Value.ref (ad (idS i))), (0, Value.ref (ad 100)), (1, Value.int (iI i)), (2, Value.int (iI q)), (3, Value.int (iI d)), (4, Value.int (iI o))] [Value.int (iI (52 * (q + 1) + 13 * d + o)), Value.ref (ad (idS i))]
              refine J_callV (st := []) [Value.int (iI (52 * (q + 1) + 13 * d + o))] ms_CF_237 (hidS (k := i) (by omega)) (c_Se_contains (by omega) (by omega)) rfl rfl ⟨Nat.le_of_ble_eq_true rfl, Nat.le_of_ble_eq_true rfl⟩ ⟨Nat.le_of_ble_eq_true rfl, Nat.le_of_ble_eq_true rfl⟩ (Nat.le_of_ble_eq_true rfl) d_CF_has_53 (fun v w' hp => ?_)
              obtain ⟨rfl, rfl⟩ := hp
              show J l D b Y_CF_has _ _ (ad, cC ad r lp fd nr nr nr mc lf ln bd tm it th my lps em mk tr wg wr we wc wb vg vr ve vc vb sy sf so st sn ne mt) 0 0 56 [(5, Value.ref (ad (idS i))), (0, Value.ref (ad 100)), (1, Value.int (iI i)), (2, Value.int (iI q)), (3, Value.int (iI d)), (4, Value.int (iI o))] [Value.int (iI (bz (th i (52 * (q + 1) + 13 * d + o))))]
              refine J_ifB_eq (tgt := 63) d_CF_has_56 rfl (fun h56_11 => ?_) (fun h56_11 => ?_)
              · refine J_iconst d_CF_has_63 ?_
                refine J.top (show Value.int (iI 0) = Value.int (iI (bz false)) from rfl) ?_
                refine J_zret rfl d_CF_has_64 ⟨Nat.le_of_ble_eq_true rfl, Nat.le_of_ble_eq_true rfl⟩ ?_
                refine ⟨_, rfl, rfl, (fun h => by cases h), fun h => ?_⟩
                first
                  | omega
                  | (have h9 := h.2.2.2.2.2.2; rw [‹th i _ = false›] at h9; cases h9)
              · refine J_iconst d_CF_has_59 ?_
                refine J_goto (tgt := 64) d_CF_has_60 rfl ?_
                refine J.top (show Value.int (iI 1) = Value.int (iI (bz true)) from rfl) ?_
                refine J_zret rfl d_CF_has_64 ⟨Nat.le_of_ble_eq_true rfl, Nat.le_of_ble_eq_true rfl⟩ ?_
                exact ⟨_, rfl, rfl, fun _ => ⟨by omega, by omega, by omega, by omega, by omega, by omega, ‹_›⟩, fun _ => rfl⟩
set_option maxHeartbeats 4000000 in
theorem c_CF_leap {i : Int} {x : Int}  (hf : 0 ≤ fd ∧ fd ≤ 12) (hi : 0 ≤ i ∧ i ≤ fd) (hx : ntB x = true) (hl : -1 ≤ lps i x ∧ lps i x < 572) : Ct l D b Y_CF_leap { frames := 1, cells := 0, slots := 0, locals := 21 } [Value.ref (ad 100), Value.int (iI i), Value.int (iI x)] (ad, cC ad r lp fd nr nr nr mc lf ln bd tm it th my lps em mk tr wg wr we wc wb vg vr ve vc vb sy sf so st sn ne mt) (fun v w' => v = some (.int (iI (lpV (if i = fd then -1 else lps i x)))) ∧ w' = (ad, cC ad r lp fd nr nr nr mc lf ln bd tm it th my lps em mk tr wg wr we wc wb vg vr ve vc vb sy sf so st sn ne mt)) := by
  refine Ct_of (by decide) (Nat.le_of_ble_eq_true rfl) ?_
  have hx5 := ntB_of hx
  show J l D b Y_CF_leap _ _ (ad, cC ad r lp fd nr nr nr mc lf ln bd tm it th my lps em mk tr wg wr we wc wb vg vr ve vc vb sy sf so st sn ne mt) 0 0 0 [(0, Value.ref (ad 100)), (1, Value.int (iI i)), (2, Value.int (iI x))] []
  refine J_aload_n d_CF_leap_0 rfl 0 rfl ?_
  refine J_iload_n d_CF_leap_1 rfl 1 rfl ?_
  refine J_callV (st := []) [Value.int (iI i)] ms_CF_243 rfl (c_CF_setAt (by omega) (by omega)) rfl rfl ⟨Nat.le_of_ble_eq_true rfl, Nat.le_of_ble_eq_true rfl⟩ ⟨Nat.le_of_ble_eq_true rfl, Nat.le_of_ble_eq_true rfl⟩ (Nat.le_of_ble_eq_true rfl) d_CF_leap_2 (fun v w' hp => ?_)
  obtain ⟨rfl, rfl⟩ := hp
  show J l D b Y_CF_leap _ _ (ad, cC ad r lp fd nr nr nr mc lf ln bd tm it th my lps em mk tr wg wr we wc wb vg vr ve vc vb sy sf so st sn ne mt) 0 0 5 [(0, Value.ref (ad 100)), (1, Value.int (iI i)), (2, Value.int (iI x))] [Value.ref (ad (idS i))]
  refine J_astore_n d_CF_leap_5 rfl (by decide) rfl ?_
  refine J_iload_n d_CF_leap_6 rfl 3 rfl ?_
  refine J_callS (st := []) [Value.int (iI x)] ms_CF_95 (c_CF_isNonterminal (by omega)) rfl rfl ⟨Nat.le_of_ble_eq_true rfl, Nat.le_of_ble_eq_true rfl⟩ ⟨Nat.le_of_ble_eq_true rfl, Nat.le_of_ble_eq_true rfl⟩ (Nat.le_of_ble_eq_true rfl) d_CF_leap_7 (fun v w' hp => ?_)
  obtain ⟨rfl, rfl⟩ := hp
  show J l D b Y_CF_leap _ _ (ad, cC ad r lp fd nr nr nr mc lf ln bd tm it th my lps em mk tr wg wr we wc wb vg vr ve vc vb sy sf so st sn ne mt) 0 0 10 [(3, Value.ref (ad (idS i))), (0, Value.ref (ad 100)), (1, Value.int (iI i)), (2, Value.int (iI x))] [Value.int (iI (bz (ntB x)))]
  refine J_ifB_ne (tgt := 21) d_CF_leap_10 rfl (fun h10_3 => ?_) (fun h10_3 => ?_)
  · refine J_iload_n d_CF_leap_21 rfl 2 rfl ?_
    refine J_aload_n d_CF_leap_22 rfl 1 rfl ?_
    refine J_get fs_CF_109 rfl rfl d_CF_leap_23 ?_
    refine J_icmp_ne (tgt := 33) d_CF_leap_26 rfl (by omega) (by omega) (fun h26_4 => ?_) (fun h26_4 => ?_)
    · refine J_aload_n d_CF_leap_33 rfl 0 rfl ?_
      refine J_get fs_CF_154 (hidS (k := i) (by omega)) rfl d_CF_leap_34 ?_
      refine J_iload_n d_CF_leap_37 rfl 3 rfl ?_
      refine J_iald (hidL (k := i) (by omega)) (by omega) (by decide) d_CF_leap_38 ?_
      refine J_istore d_CF_leap_39 (by decide) rfl ?_
      refine J_iload d_CF_leap_41 0 rfl ?_
      refine J_iconst d_CF_leap_43 ?_
      refine J_icmp_ne (tgt := 51) d_CF_leap_44 rfl (by omega) (by omega) (fun h44_5 => ?_) (fun h44_5 => ?_)
      · refine J_sipush d_CF_leap_51 (by decide) ?_
        refine J_iload d_CF_leap_54 0 rfl ?_
        refine J_callS (st := [Value.int (iI 1000)]) [Value.int (iI (lps i x))] ms_CF_122 (c_CF_ruleOf (by omega)) rfl rfl ⟨Nat.le_of_ble_eq_true rfl, Nat.le_of_ble_eq_true rfl⟩ ⟨Nat.le_of_ble_eq_true rfl, Nat.le_of_ble_eq_true rfl⟩ (Nat.le_of_ble_eq_true rfl) d_CF_leap_56 (fun v w' hp => ?_)
        obtain ⟨rfl, rfl⟩ := hp
        show J l D b Y_CF_leap _ _ (ad, cC ad r lp fd nr nr nr mc lf ln bd tm it th my lps em mk tr wg wr we wc wb vg vr ve vc vb sy sf so st sn ne mt) 0 0 59 [(4, Value.int (iI (lps i x))), (3, Value.ref (ad (idS i))), (0, Value.ref (ad 100)), (1, Value.int (iI i)), (2, Value.int (iI x))] [Value.int (iI ((lps i x) / 52 - 1)), Value.int (iI 1000)]
        refine J_iconst d_CF_leap_59 ?_
        refine J_iadd d_CF_leap_60 ?_
        refine J_imul d_CF_leap_61 ?_
        refine J_bipush d_CF_leap_62 (by decide) ?_
        refine J_iload d_CF_leap_64 0 rfl ?_
        refine J_callS (st := [Value.int (iI 100), Value.int (iI (1000 * (((lps i x) / 52 - 1) + 1)))]) [Value.int (iI (lps i x))] ms_CF_130 (c_CF_dotOf (by omega)) rfl rfl ⟨Nat.le_of_ble_eq_true rfl, Nat.le_of_ble_eq_true rfl⟩ ⟨Nat.le_of_ble_eq_true rfl, Nat.le_of_ble_eq_true rfl⟩ (Nat.le_of_ble_eq_true rfl) d_CF_leap_66 (fun v w' hp => ?_)
        obtain ⟨rfl, rfl⟩ := hp
        show J l D b Y_CF_leap _ _ (ad, cC ad r lp fd nr nr nr mc lf ln bd tm it th my lps em mk tr wg wr we wc wb vg vr ve vc vb sy sf so st sn ne mt) 0 0 69 [(4, Value.int (iI (lps i x))), (3, Value.ref (ad (idS i))), (0, Value.ref (ad 100)), (1, Value.int (iI i)), (2, Value.int (iI x))] [Value.int (iI ((lps i x) % 52 / 13)), Value.int (iI 100), Value.int (iI (1000 * (((lps i x) / 52 - 1) + 1)))]
        refine J_imul d_CF_leap_69 ?_
        refine J_iadd d_CF_leap_70 ?_
        refine J_iload d_CF_leap_71 0 rfl ?_
        refine J_callS (st := [Value.int (iI ((1000 * (((lps i x) / 52 - 1) + 1)) + (100 * ((lps i x) % 52 / 13))))]) [Value.int (iI (lps i x))] ms_CF_161 (c_CF_originOf (by omega)) rfl rfl ⟨Nat.le_of_ble_eq_true rfl, Nat.le_of_ble_eq_true rfl⟩ ⟨Nat.le_of_ble_eq_true rfl, Nat.le_of_ble_eq_true rfl⟩ (Nat.le_of_ble_eq_true rfl) d_CF_leap_73 (fun v w' hp => ?_)
        obtain ⟨rfl, rfl⟩ := hp
        show J l D b Y_CF_leap _ _ (ad, cC ad r lp fd nr nr nr mc lf ln bd tm it th my lps em mk tr wg wr we wc wb vg vr ve vc vb sy sf so st sn ne mt) 0 0 76 [(4, Value.int (iI (lps i x))), (3, Value.ref (ad (idS i))), (0, Value.ref (ad 100)), (1, Value.int (iI i)), (2, Value.int (iI x))] [Value.int (iI ((lps i x) % 13)), Value.int (iI ((1000 * (((lps i x) / 52 - 1) + 1)) + (100 * ((lps i x) % 52 / 13))))]
        refine J_iadd d_CF_leap_76 ?_
        refine J_iret rfl d_CF_leap_77 ⟨Nat.le_of_ble_eq_true rfl, Nat.le_of_ble_eq_true rfl⟩ ?_
        exact ⟨by unfold lpV; rw [if_neg ‹i ≠ fd›, if_neg (by omega)]; congr 3; omega, rfl⟩
      · refine J_iconst d_CF_leap_47 ?_
        refine J_goto (tgt := 77) d_CF_leap_48 rfl ?_
        refine J_iret rfl d_CF_leap_77 ⟨Nat.le_of_ble_eq_true rfl, Nat.le_of_ble_eq_true rfl⟩ ?_
        exact ⟨by unfold lpV; rw [if_pos (by first | (rw [if_pos ‹i = fd›]; decide) | (rw [if_neg ‹i ≠ fd›]; omega))], rfl⟩
    · refine J_iconst d_CF_leap_29 ?_
      refine J_goto (tgt := 39) d_CF_leap_30 rfl ?_
      refine J_istore d_CF_leap_39 (by decide) rfl ?_
      refine J_iload d_CF_leap_41 0 rfl ?_
      refine J_iconst d_CF_leap_43 ?_
      refine J_icmp_ne (tgt := 51) d_CF_leap_44 rfl (by omega) (by omega) (fun h44_9 => ?_) (fun h44_9 => ?_)
      · exact absurd h44_9 (by decide)
      · refine J_iconst d_CF_leap_47 ?_
        refine J_goto (tgt := 77) d_CF_leap_48 rfl ?_
        refine J_iret rfl d_CF_leap_77 ⟨Nat.le_of_ble_eq_true rfl, Nat.le_of_ble_eq_true rfl⟩ ?_
        exact ⟨by unfold lpV; rw [if_pos (by first | (rw [if_pos ‹i = fd›]; decide) | (rw [if_neg ‹i ≠ fd›]; omega))], rfl⟩
  · exact absurd h10_3 (by rw [hx]; decide)
set_option maxHeartbeats 4000000 in
theorem c_CF_checkStretch {s : Int} {i : Int} {j : Int}  (hf : 0 ≤ fd ∧ fd ≤ 12) (hs : 0 ≤ s ∧ s ≤ 4) (hij : 0 ≤ i ∧ i ≤ j ∧ j ≤ fd) : Ct l D b Y_CF_checkStretch { frames := 1, cells := 0, slots := 0, locals := 20 } [Value.ref (ad 100), Value.int (iI s), Value.int (iI i), Value.int (iI j)] (ad, cC ad r lp fd nr nr nr mc lf ln bd tm it th my lps em mk tr wg wr we wc wb vg vr ve vc vb sy sf so st sn ne mt) (fun v w' => v = none ∧ w' = (ad, cC ad r lp fd nr nr nr mc lf ln bd tm it th my lps em mk tr wg wr we wc wb vg vr ve vc vb sy sf so st sn ne mt)) := by
  refine Ct_of (by decide) (Nat.le_of_ble_eq_true rfl) ?_
  show J l D b Y_CF_checkStretch _ _ (ad, cC ad r lp fd nr nr nr mc lf ln bd tm it th my lps em mk tr wg wr we wc wb vg vr ve vc vb sy sf so st sn ne mt) 0 0 0 [(0, Value.ref (ad 100)), (1, Value.int (iI s)), (2, Value.int (iI i)), (3, Value.int (iI j))] []
  refine J_iload_n d_CF_checkStretch_0 rfl 1 rfl ?_
  refine J_callS (st := []) [Value.int (iI s)] ms_CF_95 (c_CF_isNonterminal (by omega)) rfl rfl ⟨Nat.le_of_ble_eq_true rfl, Nat.le_of_ble_eq_true rfl⟩ ⟨Nat.le_of_ble_eq_true rfl, Nat.le_of_ble_eq_true rfl⟩ (Nat.le_of_ble_eq_true rfl) d_CF_checkStretch_1 (fun v w' hp => ?_)
  obtain ⟨rfl, rfl⟩ := hp
  show J l D b Y_CF_checkStretch _ _ (ad, cC ad r lp fd nr nr nr mc lf ln bd tm it th my lps em mk tr wg wr we wc wb vg vr ve vc vb sy sf so st sn ne mt) 0 0 4 [(0, Value.ref (ad 100)), (1, Value.int (iI s)), (2, Value.int (iI i)), (3, Value.int (iI j))] [Value.int (iI (bz (ntB s)))]
  refine J_ifB_eq (tgt := 24) d_CF_checkStretch_4 rfl (fun h4_2 => ?_) (fun h4_2 => ?_)
  · exact absurd h4_2 (by rw [ntB_t hs]; decide)
  · refine J_iload_n d_CF_checkStretch_7 rfl 2 rfl ?_
    refine J_if_lt (tgt := 24) d_CF_checkStretch_8 rfl (by omega) (fun h8_3 => ?_) (fun h8_3 => ?_)
    · exact absurd h8_3 (by omega)
    · refine J_iload_n d_CF_checkStretch_11 rfl 3 rfl ?_
      refine J_iload_n d_CF_checkStretch_12 rfl 2 rfl ?_
      refine J_icmp_lt (tgt := 24) d_CF_checkStretch_13 rfl (by omega) (by omega) (fun h13_4 => ?_) (fun h13_4 => ?_)
      · exact absurd h13_4 (by omega)
      · refine J_iload_n d_CF_checkStretch_16 rfl 3 rfl ?_
        refine J_aload_n d_CF_checkStretch_17 rfl 0 rfl ?_
        refine J_get fs_CF_109 rfl rfl d_CF_checkStretch_18 ?_
        refine J_icmp_le (tgt := 32) d_CF_checkStretch_21 rfl (by omega) (by omega) (fun h21_5 => ?_) (fun h21_5 => ?_)
        · refine J_vret rfl d_CF_checkStretch_32 ⟨Nat.le_of_ble_eq_true rfl, Nat.le_of_ble_eq_true rfl⟩ ?_
          exact ⟨rfl, rfl⟩
        · exact absurd h21_5 (by omega)
set_option maxHeartbeats 4000000 in
theorem c_CF_back {n : Int}  (hf : 0 ≤ fd ∧ fd ≤ 12) (hn : 0 ≤ n ∧ n ≤ fd) : Ct l D b Y_CF_back { frames := 0, cells := 0, slots := 0, locals := 0 } [Value.ref (ad 100), Value.int (iI n)] (ad, cC ad r lp fd nr nr nr mc lf ln bd tm it th my lps em mk tr wg wr we wc wb vg vr ve vc vb sy sf so st sn ne mt) (fun v w' => v = some (.int (iI (fd - n))) ∧ w' = (ad, cC ad r lp (fd - n) nr nr nr mc lf ln bd tm it th my lps em mk tr wg wr we wc wb vg vr ve vc vb sy sf so st sn ne mt)) := by
  refine Ct_of (by decide) (Nat.le_of_ble_eq_true rfl) ?_
  show J l D b Y_CF_back _ _ (ad, cC ad r lp fd nr nr nr mc lf ln bd tm it th my lps em mk tr wg wr we wc wb vg vr ve vc vb sy sf so st sn ne mt) 0 0 0 [(0, Value.ref (ad 100)), (1, Value.int (iI n))] []
  refine J_iload_n d_CF_back_0 rfl 1 rfl ?_
  refine J_if_lt (tgt := 12) d_CF_back_1 rfl (by omega) (fun h1_1 => ?_) (fun h1_1 => ?_)
  · exact absurd h1_1 (by omega)
  · refine J_iload_n d_CF_back_4 rfl 1 rfl ?_
    refine J_aload_n d_CF_back_5 rfl 0 rfl ?_
    refine J_get fs_CF_109 rfl rfl d_CF_back_6 ?_
    refine J_icmp_le (tgt := 20) d_CF_back_9 rfl (by omega) (by omega) (fun h9_2 => ?_) (fun h9_2 => ?_)
    · refine J_aload_n d_CF_back_20 rfl 0 rfl ?_
      refine J_dup d_CF_back_21 rfl ?_
      refine J_get fs_CF_109 rfl rfl d_CF_back_22 ?_
      refine J_iload_n d_CF_back_25 rfl 1 rfl ?_
      refine J_isub d_CF_back_26 ?_
      refine J_put fs_CF_109 rfl (Nat.le_of_ble_eq_true rfl) (fun _ h => by cases h; exact Or.inl rfl) rfl rfl u_100 d_CF_back_27 ?_
      refine J_aload_n d_CF_back_30 rfl 0 rfl ?_
      refine J_get fs_CF_109 rfl rfl d_CF_back_31 ?_
      refine J_iret rfl d_CF_back_34 ⟨Nat.le_of_ble_eq_true rfl, Nat.le_of_ble_eq_true rfl⟩ ?_
      exact ⟨rfl, rfl⟩
    · exact absurd h9_2 (by omega)
set_option maxHeartbeats 4000000 in
theorem c_CF_expected   (hg : gOK nr lf ln bd) (hf : 0 ≤ fd ∧ fd ≤ 12) (hS : SO it th my) (hIo : ∀ c, th fd c = true → c / 52 - 1 < nr) : Ct l D b Y_CF_expected { frames := 5, cells := 0, slots := 0, locals := 106 } [Value.ref (ad 100)] (ad, cC ad r lp fd nr nr nr mc lf ln bd tm it th my lps em mk tr wg wr we wc wb vg vr ve vc vb sy sf so st sn ne mt) (fun v w' => ∃ e, v = some (.int (iI e)) ∧ w' = (ad, cC ad r lp fd nr nr nr mc lf ln bd tm it th my lps em mk tr wg wr we wc wb vg vr ve vc vb sy sf so st sn ne mt) ∧ ExpR (tab th) ln bd fd e) := by
  refine Ct_of (by decide) (Nat.le_of_ble_eq_true rfl) ?_
  have hn := hg.1
  have hK := hS fd (by omega) (by omega)
  have hm := hK.rng
  show J l D b Y_CF_expected _ _ (ad, cC ad r lp fd nr nr nr mc lf ln bd tm it th my lps em mk tr wg wr we wc wb vg vr ve vc vb sy sf so st sn ne mt) 0 0 0 [(0, Value.ref (ad 100))] []
  refine J_aload_n d_CF_expected_0 rfl 0 rfl ?_
  refine J_get fs_CF_29 rfl rfl d_CF_expected_1 ?_
  refine J_aload_n d_CF_expected_4 rfl 0 rfl ?_
  refine J_get fs_CF_109 rfl rfl d_CF_expected_5 ?_
  refine J_aald (v := Value.ref (ad (idS fd))) rfl rfl (by omega) (by decide) rfl d_CF_expected_8 ?_
  refine J_astore_n d_CF_expected_9 rfl (by decide) rfl ?_
  refine J_iconst d_CF_expected_10 ?_
  refine J_istore_n d_CF_expected_11 rfl (by decide) rfl ?_
  refine J_iconst d_CF_expected_12 ?_
  refine J_istore_n d_CF_expected_13 rfl (by decide) rfl ?_
  refine J.sub [0, 1, 2, 3] (lv' := [(3, Value.int (iI 0)), (2, Value.int (iI 0)), (1, Value.ref (ad (idS fd))), (0, Value.ref (ad 100))]) rfl ?_
  refine J.loop (σ := Int × Int) (fun xx_ => match xx_ with | (k, e) => (0 ≤ k ∧ k ≤ my fd) ∧ ((0 ≤ e ∧ e ≤ 15) ∧ ∀ s, 0 ≤ s → (bit e s = true ↔ ∃ j, 0 ≤ j ∧ j < k ∧ bc ln bd (it fd j) = 8 + s))) (fun xx_ => match xx_ with | (k, e) => (my fd - k).toNat) (ws := fun xx_ => match xx_ with | (k, e) => (ad, cC ad r lp fd nr nr nr mc lf ln bd tm it th my lps em mk tr wg wr we wc wb vg vr ve vc vb sy sf so st sn ne mt)) (ks := fun _ => 0) (ns := fun _ => 0) (lvs := fun xx_ => match xx_ with | (k, e) => [(3, Value.int (iI k)), (2, Value.int (iI e)), (1, Value.ref (ad (idS fd))), (0, Value.ref (ad 100))]) (sts := fun _ => []) ?_ (0, 0) ?_
  · rintro ⟨k, e⟩ hI ih1
    have hI : (0 ≤ k ∧ k ≤ my fd) ∧ ((0 ≤ e ∧ e ≤ 15) ∧ ∀ s, 0 ≤ s → (bit e s = true ↔ ∃ j, 0 ≤ j ∧ j < k ∧ bc ln bd (it fd j) = 8 + s)) := hI
    obtain ⟨hk, hE⟩ := hI
    show J l D b Y_CF_expected _ _ (ad, cC ad r lp fd nr nr nr mc lf ln bd tm it th my lps em mk tr wg wr we wc wb vg vr ve vc vb sy sf so st sn ne mt) 0 0 14 [(3, Value.int (iI k)), (2, Value.int (iI e)), (1, Value.ref (ad (idS fd))), (0, Value.ref (ad 100))] []
    refine J_iload_n d_CF_expected_14 rfl 0 rfl ?_
    refine J_aload_n d_CF_expected_15 rfl 2 rfl ?_
    refine J_get fs_CF_136 (hidS (k := fd) (by omega)) rfl d_CF_expected_16 ?_
    refine J_icmp_ge (tgt := 58) d_CF_expected_19 rfl (by omega) (by omega) (fun h19_2 => ?_) (fun h19_2 => ?_)
    · refine J_iload_n d_CF_expected_58 rfl 1 rfl ?_
      refine J_iret rfl d_CF_expected_59 ⟨Nat.le_of_ble_eq_true rfl, Nat.le_of_ble_eq_true rfl⟩ ?_
      exact ⟨e, rfl, rfl, exj_end hK hE (by omega)⟩
    · have hck := hK.2.1 k (by omega) (by omega)
      have hck1 := hck.1
      have hio := hIo _ hck.2
      have hbr := hg.bc hck1
      refine J_aload_n d_CF_expected_22 rfl 3 rfl ?_
      refine J_aload_n d_CF_expected_23 rfl 2 rfl ?_
      refine J_get fs_CF_139 (hidS (k := fd) (by omega)) rfl d_CF_expected_24 ?_
      refine J_iload_n d_CF_expected_27 rfl 0 rfl ?_
      refine J_sald (hidI (k := fd) (by omega)) (by omega) (by decide) d_CF_expected_28 ?_
      refine J_callV (st := []) [Value.int (iI (it fd k))] ms_CF_143 rfl (c_CF_behind hg (by omega)) rfl rfl ⟨Nat.le_of_ble_eq_true rfl, Nat.le_of_ble_eq_true rfl⟩ ⟨Nat.le_of_ble_eq_true rfl, Nat.le_of_ble_eq_true rfl⟩ (Nat.le_of_ble_eq_true rfl) d_CF_expected_29 (fun v w' hp => ?_)
      obtain ⟨rfl, rfl⟩ := hp
      show J l D b Y_CF_expected _ _ (ad, cC ad r lp fd nr nr nr mc lf ln bd tm it th my lps em mk tr wg wr we wc wb vg vr ve vc vb sy sf so st sn ne mt) 0 0 32 [(3, Value.int (iI k)), (2, Value.int (iI e)), (1, Value.ref (ad (idS fd))), (0, Value.ref (ad 100))] [Value.int (iI (bc ln bd (it fd k)))]
      refine J_istore d_CF_expected_32 (by decide) rfl ?_
      refine J_iload d_CF_expected_34 0 rfl ?_
      refine J_callS (st := []) [Value.int (iI (bc ln bd (it fd k)))] ms_CF_102 (c_CF_isTerminal (by omega)) rfl rfl ⟨Nat.le_of_ble_eq_true rfl, Nat.le_of_ble_eq_true rfl⟩ ⟨Nat.le_of_ble_eq_true rfl, Nat.le_of_ble_eq_true rfl⟩ (Nat.le_of_ble_eq_true rfl) d_CF_expected_36 (fun v w' hp => ?_)
      obtain ⟨rfl, rfl⟩ := hp
      show J l D b Y_CF_expected _ _ (ad, cC ad r lp fd nr nr nr mc lf ln bd tm it th my lps em mk tr wg wr we wc wb vg vr ve vc vb sy sf so st sn ne mt) 0 0 39 [(4, Value.int (iI (bc ln bd (it fd k)))), (3, Value.int (iI k)), (2, Value.int (iI e)), (1, Value.ref (ad (idS fd))), (0, Value.ref (ad 100))] [Value.int (iI (bz (tmB (bc ln bd (it fd k)))))]
      refine J_ifB_eq (tgt := 52) d_CF_expected_39 rfl (fun h39_5 => ?_) (fun h39_5 => ?_)
      · refine J_iinc (j := 1) d_CF_expected_52 rfl (by decide) rfl ?_
        refine J_goto (tgt := 14) d_CF_expected_55 rfl ?_
        refine J.sub [0, 2, 3, 4] rfl ?_
        exact ih1 (k + 1, e) (show (0 ≤ (k + 1) ∧ (k + 1) ≤ my fd) ∧ ((0 ≤ e ∧ e ≤ 15) ∧ ∀ s, 0 ≤ s → (bit e s = true ↔ ∃ j, 0 ≤ j ∧ j < (k + 1) ∧ bc ln bd (it fd j) = 8 + s)) by
            refine ⟨by omega, hE.1, fun s hs => ?_⟩
            rw [hE.2 s hs]
            refine ⟨fun ⟨j, h1, h2, h3⟩ => ⟨j, h1, by omega, h3⟩, fun ⟨j, h1, h2, h3⟩ => ⟨j, h1, ?_, h3⟩⟩
            by_cases hj : j = k
            · have := tmB_no ‹tmB _ = false›
              rw [hj] at h3
              have := hbr.2
              omega
            · omega) (show ((my fd - (k + 1)).toNat) < ((my fd - k).toNat) by
            omega)
      · have htm := tmB_of ‹tmB _ = true›
        refine J_iload_n d_CF_expected_42 rfl 2 rfl ?_
        refine J_iconst d_CF_expected_43 ?_
        refine J_iload d_CF_expected_44 0 rfl ?_
        refine J_bipush d_CF_expected_46 (by decide) ?_
        refine J_isub d_CF_expected_48 ?_
        refine J_ishl d_CF_expected_49 (iI_shl1 (by omega)) ?_
        refine J_ior d_CF_expected_50 (iI_or (by have := hE.1; omega) (by have := p2_rng (s := bc ln bd (it fd k) - 8) (by omega); omega)) ?_
        refine J_istore_n d_CF_expected_51 rfl (by decide) rfl ?_
        refine J_iinc (j := 2) d_CF_expected_52 rfl (by decide) rfl ?_
        refine J_goto (tgt := 14) d_CF_expected_55 rfl ?_
        refine J.sub [0, 1, 3, 4] rfl ?_
        exact ih1 (k + 1, orI e (p2 ((bc ln bd (it fd k)) - 8))) (show (0 ≤ (k + 1) ∧ (k + 1) ≤ my fd) ∧ ((0 ≤ (orI e (p2 ((bc ln bd (it fd k)) - 8))) ∧ (orI e (p2 ((bc ln bd (it fd k)) - 8))) ≤ 15) ∧ ∀ s, 0 ≤ s → (bit (orI e (p2 ((bc ln bd (it fd k)) - 8))) s = true ↔ ∃ j, 0 ≤ j ∧ j < (k + 1) ∧ bc ln bd (it fd j) = 8 + s)) by
            exact ⟨by omega, exj_yes hE (by omega) rfl htm⟩) (show ((my fd - (k + 1)).toNat) < ((my fd - k).toNat) by
            omega)
  · show (0 ≤ (0 : Int) ∧ (0 : Int) ≤ my fd) ∧ ((0 ≤ (0 : Int) ∧ (0 : Int) ≤ 15) ∧ ∀ s, 0 ≤ s → (bit (0 : Int) s = true ↔ ∃ j, 0 ≤ j ∧ j < (0 : Int) ∧ bc ln bd (it fd j) = 8 + s))
    exact ⟨by omega, by omega, fun s _ => ⟨(fun h => by rw [bit_0] at h; cases h), fun ⟨j, h1, h2, _⟩ => by omega⟩⟩
end N4
