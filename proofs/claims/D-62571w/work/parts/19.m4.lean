def lpV (n : Int) : Int := if n < 0 then -1 else 1000 * (n / 52) + 100 * (n % 52 / 13) + n % 13
section M4
variable {l : Launch} {D : jD} {b : Nat} {w : jW} {ad : Nat → Nat} {r : Nat → Option jE} {lp : Bool} {rf : Int} {nr : Int} {lf : Int → Int} {ln : Int → Int} {bd : Int → Int} {fd : Int} {tm : Int → Int} {it : Int → Bool} {wk : Bool} {dv : Int → Bool} {ct : Int → Bool} {nu : Int → Int} {mt : Int → Bool} {c1 : Int} {c2 : Int} {td : Int → Int} {tt : Int → Int} {tc : Int}
set_option maxHeartbeats 4000000 in
theorem c_Mo_has {i : Int} {q : Int} {d : Int} {o : Int} (hg : gOK nr lf ln bd) (hf : 0 ≤ fd ∧ fd ≤ 12) (hi : -2147483648 ≤ i ∧ i ≤ 2147483647) (hq : -2147483648 ≤ q ∧ q ≤ 2147483647) (hd : -2147483648 ≤ d ∧ d ≤ 2147483647) (ho : -2147483648 ≤ o ∧ o ≤ 2147483647) : Ct l D b Y_Mo_has { frames := 2, cells := 0, slots := 0, locals := 47 } [Value.ref (ad 0), Value.int (iI i), Value.int (iI q), Value.int (iI d), Value.int (iI o)] (ad, cM ad r lp rf nr lf ln bd fd tm it wk dv ct nu mt c1 c2 td tt tc) (fun v w' => ∃ z rf', v = some (.int (iI (bz z))) ∧ w' = (ad, cM ad r lp rf' nr lf ln bd fd tm it wk dv ct nu mt c1 c2 td tt tc) ∧ ((¬ (0 ≤ i ∧ i ≤ fd) ∧ z = false ∧ rf' = 1) ∨ ((0 ≤ i ∧ i ≤ fd) ∧ rf' = 0 ∧ (z = true ↔ -1 ≤ q ∧ q < nr ∧ 0 ≤ d ∧ d ≤ lenOf ln q ∧ 0 ≤ o ∧ o ≤ fd ∧ it (572 * i + 52 * (q + 1) + 13 * d + o) = true)))) := by
  refine Ct_of (by decide) (Nat.le_of_ble_eq_true rfl) ?_
  have hg1 := hg.1
  show J l D b Y_Mo_has _ _ (ad, cM ad r lp rf nr lf ln bd fd tm it wk dv ct nu mt c1 c2 td tt tc) 0 0 0 [(0, Value.ref (ad 0)), (1, Value.int (iI i)), (2, Value.int (iI q)), (3, Value.int (iI d)), (4, Value.int (iI o))] []
  refine J_aload_n d_Mo_has_0 rfl 0 rfl ?_
  refine J_aload_n d_Mo_has_1 rfl 0 rfl ?_
  refine J_iload_n d_Mo_has_2 rfl 1 rfl ?_
  refine J_callV (st := [Value.ref (ad 0)]) [Value.int (iI i)] ms_Mo_110 rfl (c_Mo_isSet (by omega) (by omega)) rfl rfl ⟨Nat.le_of_ble_eq_true rfl, Nat.le_of_ble_eq_true rfl⟩ ⟨Nat.le_of_ble_eq_true rfl, Nat.le_of_ble_eq_true rfl⟩ (Nat.le_of_ble_eq_true rfl) d_Mo_has_3 (fun v w' hp => ?_)
  obtain ⟨rfl, rfl⟩ := hp
  show J l D b Y_Mo_has _ _ (ad, cM ad r lp rf nr lf ln bd fd tm it wk dv ct nu mt c1 c2 td tt tc) 0 0 6 [(0, Value.ref (ad 0)), (1, Value.int (iI i)), (2, Value.int (iI q)), (3, Value.int (iI d)), (4, Value.int (iI o))] [Value.int (iI (bz (decide (0 ≤ i ∧ i ≤ fd)))), Value.ref (ad 0)]
  refine J_ifB_eq (tgt := 13) d_Mo_has_6 rfl (fun h6_2 => ?_) (fun h6_2 => ?_)
  · have hii := of_decide_eq_false ‹decide (0 ≤ i ∧ i ≤ fd) = false›
    refine J_iconst d_Mo_has_13 ?_
    refine J_put fs_Mo_53 rfl (Nat.le_of_ble_eq_true rfl) (fun _ h => by cases h; exact Or.inl rfl) rfl rfl uM_obj d_Mo_has_14 ?_
    refine J_aload_n d_Mo_has_17 rfl 0 rfl ?_
    refine J_get fs_Mo_53 rfl rfl d_Mo_has_18 ?_
    refine J_if_ne (tgt := 59) d_Mo_has_21 rfl (by omega) (fun h21_3 => ?_) (fun h21_3 => ?_)
    · refine J_iconst d_Mo_has_59 ?_
      refine J.top (show Value.int (iI 0) = Value.int (iI (bz false)) from rfl) ?_
      refine J_zret rfl d_Mo_has_60 ⟨Nat.le_of_ble_eq_true rfl, Nat.le_of_ble_eq_true rfl⟩ ?_
      exact ⟨_, _, rfl, rfl, Or.inl ⟨hii, rfl, rfl⟩⟩
    · exact absurd h21_3 (by decide)
  · have hii := of_decide_eq_true ‹decide (0 ≤ i ∧ i ≤ fd) = true›
    refine J_iconst d_Mo_has_9 ?_
    refine J_goto (tgt := 14) d_Mo_has_10 rfl ?_
    refine J_put fs_Mo_53 rfl (Nat.le_of_ble_eq_true rfl) (fun _ h => by cases h; exact Or.inl rfl) rfl rfl uM_obj d_Mo_has_14 ?_
    refine J_aload_n d_Mo_has_17 rfl 0 rfl ?_
    refine J_get fs_Mo_53 rfl rfl d_Mo_has_18 ?_
    refine J_if_ne (tgt := 59) d_Mo_has_21 rfl (by omega) (fun h21_4 => ?_) (fun h21_4 => ?_)
    · exact absurd h21_4 (by decide)
    · refine J_iload_n d_Mo_has_24 rfl 2 rfl ?_
      refine J_iconst d_Mo_has_25 ?_
      refine J_icmp_lt (tgt := 59) d_Mo_has_26 rfl (by omega) (by omega) (fun h26_5 => ?_) (fun h26_5 => ?_)
      · refine J_iconst d_Mo_has_59 ?_
        refine J.top (show Value.int (iI 0) = Value.int (iI (bz false)) from rfl) ?_
        refine J_zret rfl d_Mo_has_60 ⟨Nat.le_of_ble_eq_true rfl, Nat.le_of_ble_eq_true rfl⟩ ?_
        refine ⟨_, _, rfl, rfl, Or.inr ⟨hii, rfl, ⟨(fun h => by cases h), fun h => ?_⟩⟩⟩
        first
          | omega
          | (have := of_decide_eq_false ‹decide (0 ≤ o ∧ o ≤ fd) = false›; omega)
      · refine J_iload_n d_Mo_has_29 rfl 2 rfl ?_
        refine J_aload_n d_Mo_has_30 rfl 0 rfl ?_
        refine J_get fs_Mo_73 rfl rfl d_Mo_has_31 ?_
        refine J_icmp_ge (tgt := 59) d_Mo_has_34 rfl (by omega) (by omega) (fun h34_6 => ?_) (fun h34_6 => ?_)
        · refine J_iconst d_Mo_has_59 ?_
          refine J.top (show Value.int (iI 0) = Value.int (iI (bz false)) from rfl) ?_
          refine J_zret rfl d_Mo_has_60 ⟨Nat.le_of_ble_eq_true rfl, Nat.le_of_ble_eq_true rfl⟩ ?_
          refine ⟨_, _, rfl, rfl, Or.inr ⟨hii, rfl, ⟨(fun h => by cases h), fun h => ?_⟩⟩⟩
          first
            | omega
            | (have := of_decide_eq_false ‹decide (0 ≤ o ∧ o ≤ fd) = false›; omega)
        · refine J_iload_n d_Mo_has_37 rfl 3 rfl ?_
          refine J_if_lt (tgt := 59) d_Mo_has_38 rfl (by omega) (fun h38_7 => ?_) (fun h38_7 => ?_)
          · refine J_iconst d_Mo_has_59 ?_
            refine J.top (show Value.int (iI 0) = Value.int (iI (bz false)) from rfl) ?_
            refine J_zret rfl d_Mo_has_60 ⟨Nat.le_of_ble_eq_true rfl, Nat.le_of_ble_eq_true rfl⟩ ?_
            refine ⟨_, _, rfl, rfl, Or.inr ⟨hii, rfl, ⟨(fun h => by cases h), fun h => ?_⟩⟩⟩
            first
              | omega
              | (have := of_decide_eq_false ‹decide (0 ≤ o ∧ o ≤ fd) = false›; omega)
          · refine J_iload_n d_Mo_has_41 rfl 3 rfl ?_
            refine J_aload_n d_Mo_has_42 rfl 0 rfl ?_
            refine J_iload_n d_Mo_has_43 rfl 2 rfl ?_
            refine J_callV (st := [Value.int (iI d)]) [Value.int (iI q)] ms_Mo_57 rfl (c_Mo_lengthOf (by omega)) rfl rfl ⟨Nat.le_of_ble_eq_true rfl, Nat.le_of_ble_eq_true rfl⟩ ⟨Nat.le_of_ble_eq_true rfl, Nat.le_of_ble_eq_true rfl⟩ (Nat.le_of_ble_eq_true rfl) d_Mo_has_44 (fun v w' hp => ?_)
            obtain ⟨rfl, rfl⟩ := hp
            show J l D b Y_Mo_has _ _ (ad, cM ad r lp 0 nr lf ln bd fd tm it wk dv ct nu mt c1 c2 td tt tc) 0 0 47 [(0, Value.ref (ad 0)), (1, Value.int (iI i)), (2, Value.int (iI q)), (3, Value.int (iI d)), (4, Value.int (iI o))] [Value.int (iI (lenOf ln q)), Value.int (iI d)]
            have hl8 := hg.len (q := q) (by omega)
            refine J_icmp_gt (tgt := 59) d_Mo_has_47 rfl (by omega) (by omega) (fun h47_9 => ?_) (fun h47_9 => ?_)
            · refine J_iconst d_Mo_has_59 ?_
              refine J.top (show Value.int (iI 0) = Value.int (iI (bz false)) from rfl) ?_
              refine J_zret rfl d_Mo_has_60 ⟨Nat.le_of_ble_eq_true rfl, Nat.le_of_ble_eq_true rfl⟩ ?_
              refine ⟨_, _, rfl, rfl, Or.inr ⟨hii, rfl, ⟨(fun h => by cases h), fun h => ?_⟩⟩⟩
              first
                | omega
                | (have := of_decide_eq_false ‹decide (0 ≤ o ∧ o ≤ fd) = false›; omega)
            · refine J_aload_n d_Mo_has_50 rfl 0 rfl ?_
              refine J_iload d_Mo_has_51 4 rfl ?_
              refine J_callV (st := []) [Value.int (iI o)] ms_Mo_110 rfl (c_Mo_isSet (by omega) (by omega)) rfl rfl ⟨Nat.le_of_ble_eq_true rfl, Nat.le_of_ble_eq_true rfl⟩ ⟨Nat.le_of_ble_eq_true rfl, Nat.le_of_ble_eq_true rfl⟩ (Nat.le_of_ble_eq_true rfl) d_Mo_has_53 (fun v w' hp => ?_)
              obtain ⟨rfl, rfl⟩ := hp
              show J l D b Y_Mo_has _ _ (ad, cM ad r lp 0 nr lf ln bd fd tm it wk dv ct nu mt c1 c2 td tt tc) 0 0 56 [(0, Value.ref (ad 0)), (1, Value.int (iI i)), (2, Value.int (iI q)), (3, Value.int (iI d)), (4, Value.int (iI o))] [Value.int (iI (bz (decide (0 ≤ o ∧ o ≤ fd))))]
              refine J_ifB_ne (tgt := 61) d_Mo_has_56 rfl (fun h56_11 => ?_) (fun h56_11 => ?_)
              · have hoo := of_decide_eq_true ‹decide (0 ≤ o ∧ o ≤ fd) = true›
                refine J_aload_n d_Mo_has_61 rfl 0 rfl ?_
                refine J_iload_n d_Mo_has_62 rfl 1 rfl ?_
                refine J_iload_n d_Mo_has_63 rfl 2 rfl ?_
                refine J_iload_n d_Mo_has_64 rfl 3 rfl ?_
                refine J_iload d_Mo_has_65 4 rfl ?_
                refine J_callV (st := []) [Value.int (iI i), Value.int (iI q), Value.int (iI d), Value.int (iI o)] ms_Mo_106 rfl (c_Mo_holds (by omega)) rfl rfl ⟨Nat.le_of_ble_eq_true rfl, Nat.le_of_ble_eq_true rfl⟩ ⟨Nat.le_of_ble_eq_true rfl, Nat.le_of_ble_eq_true rfl⟩ (Nat.le_of_ble_eq_true rfl) d_Mo_has_67 (fun v w' hp => ?_)
                obtain ⟨rfl, rfl⟩ := hp
                show J l D b Y_Mo_has _ _ (ad, cM ad r lp 0 nr lf ln bd fd tm it wk dv ct nu mt c1 c2 td tt tc) 0 0 70 [(0, Value.ref (ad 0)), (1, Value.int (iI i)), (2, Value.int (iI q)), (3, Value.int (iI d)), (4, Value.int (iI o))] [Value.int (iI (bz (it (572 * i + 52 * (q + 1) + 13 * d + o))))]
                refine J_zret rfl d_Mo_has_70 ⟨Nat.le_of_ble_eq_true rfl, Nat.le_of_ble_eq_true rfl⟩ ?_
                refine ⟨_, _, rfl, rfl, Or.inr ⟨hii, rfl, ⟨fun h => ⟨by omega, by omega, by omega, by omega, by omega, by omega, h⟩, fun h => h.2.2.2.2.2.2⟩⟩⟩
              · refine J_iconst d_Mo_has_59 ?_
                refine J.top (show Value.int (iI 0) = Value.int (iI (bz false)) from rfl) ?_
                refine J_zret rfl d_Mo_has_60 ⟨Nat.le_of_ble_eq_true rfl, Nat.le_of_ble_eq_true rfl⟩ ?_
                refine ⟨_, _, rfl, rfl, Or.inr ⟨hii, rfl, ⟨(fun h => by cases h), fun h => ?_⟩⟩⟩
                first
                  | omega
                  | (have := of_decide_eq_false ‹decide (0 ≤ o ∧ o ≤ fd) = false›; omega)
set_option maxHeartbeats 4000000 in
theorem c_Mo_leap {i : Int} {x : Int} (hg : gOK nr lf ln bd) (hf : 0 ≤ fd ∧ fd ≤ 12) (hi : -2147483648 ≤ i ∧ i ≤ 2147483647) (hx : -2147483648 ≤ x ∧ x ≤ 2147483647) : Ct l D b Y_Mo_leap { frames := 3, cells := 0, slots := 0, locals := 74 } [Value.ref (ad 0), Value.int (iI i), Value.int (iI x)] (ad, cM ad r lp rf nr lf ln bd fd tm it wk dv ct nu mt c1 c2 td tt tc) (fun v w' => ∃ z rf', v = some (.int (iI z)) ∧ w' = (ad, cM ad r lp rf' nr lf ln bd fd tm it wk dv ct nu mt c1 c2 td tt tc) ∧ ((¬ ((0 ≤ i ∧ i ≤ fd) ∧ ntB x = true) ∧ z = 0 ∧ rf' = 1) ∨ (((0 ≤ i ∧ i ≤ fd) ∧ ntB x = true) ∧ rf' = 0 ∧ z = lpV (if lp = true ∧ i < fd then lpN it lf ln bd i.toNat x (-1) else -1)))) := by
  refine Ct_of (by decide) (Nat.le_of_ble_eq_true rfl) ?_
  show J l D b Y_Mo_leap _ _ (ad, cM ad r lp rf nr lf ln bd fd tm it wk dv ct nu mt c1 c2 td tt tc) 0 0 0 [(0, Value.ref (ad 0)), (1, Value.int (iI i)), (2, Value.int (iI x))] []
  refine J_aload_n d_Mo_leap_0 rfl 0 rfl ?_
  refine J_iconst d_Mo_leap_1 ?_
  refine J_put fs_Mo_53 rfl (Nat.le_of_ble_eq_true rfl) (fun _ h => by cases h; exact Or.inl rfl) rfl rfl uM_obj d_Mo_leap_2 ?_
  refine J_aload_n d_Mo_leap_5 rfl 0 rfl ?_
  refine J_iload_n d_Mo_leap_6 rfl 1 rfl ?_
  refine J_callV (st := []) [Value.int (iI i)] ms_Mo_110 rfl (c_Mo_isSet (by omega) (by omega)) rfl rfl ⟨Nat.le_of_ble_eq_true rfl, Nat.le_of_ble_eq_true rfl⟩ ⟨Nat.le_of_ble_eq_true rfl, Nat.le_of_ble_eq_true rfl⟩ (Nat.le_of_ble_eq_true rfl) d_Mo_leap_7 (fun v w' hp => ?_)
  obtain ⟨rfl, rfl⟩ := hp
  show J l D b Y_Mo_leap _ _ (ad, cM ad r lp 0 nr lf ln bd fd tm it wk dv ct nu mt c1 c2 td tt tc) 0 0 10 [(0, Value.ref (ad 0)), (1, Value.int (iI i)), (2, Value.int (iI x))] [Value.int (iI (bz (decide (0 ≤ i ∧ i ≤ fd))))]
  refine J_ifB_eq (tgt := 20) d_Mo_leap_10 rfl (fun h10_2 => ?_) (fun h10_2 => ?_)
  · refine J_aload_n d_Mo_leap_20 rfl 0 rfl ?_
    refine J_iconst d_Mo_leap_21 ?_
    refine J_callV (st := []) [Value.int (iI 1)] ms_Mo_91 rfl (c_Mo_refuse) rfl rfl ⟨Nat.le_of_ble_eq_true rfl, Nat.le_of_ble_eq_true rfl⟩ ⟨Nat.le_of_ble_eq_true rfl, Nat.le_of_ble_eq_true rfl⟩ (Nat.le_of_ble_eq_true rfl) d_Mo_leap_22 (fun v w' hp => ?_)
    obtain ⟨rfl, rfl⟩ := hp
    show J l D b Y_Mo_leap _ _ (ad, cM ad r lp 1 nr lf ln bd fd tm it wk dv ct nu mt c1 c2 td tt tc) 0 0 25 [(0, Value.ref (ad 0)), (1, Value.int (iI i)), (2, Value.int (iI x))] [Value.int (iI 0)]
    refine J_iret rfl d_Mo_leap_25 ⟨Nat.le_of_ble_eq_true rfl, Nat.le_of_ble_eq_true rfl⟩ ?_
    exact ⟨_, _, rfl, rfl, Or.inl ⟨by rw [Classical.not_and_iff_not_or_not]; first | exact Or.inl (of_decide_eq_false ‹decide (0 ≤ i ∧ i ≤ fd) = false›) | exact Or.inr (by rw [‹ntB x = false›]; decide), rfl, rfl⟩⟩
  · have hii := of_decide_eq_true ‹decide (0 ≤ i ∧ i ≤ fd) = true›
    refine J_iload_n d_Mo_leap_13 rfl 2 rfl ?_
    refine J_callS (st := []) [Value.int (iI x)] ms_Mo_69 (c_Mo_isNonterminal (by omega)) rfl rfl ⟨Nat.le_of_ble_eq_true rfl, Nat.le_of_ble_eq_true rfl⟩ ⟨Nat.le_of_ble_eq_true rfl, Nat.le_of_ble_eq_true rfl⟩ (Nat.le_of_ble_eq_true rfl) d_Mo_leap_14 (fun v w' hp => ?_)
    obtain ⟨rfl, rfl⟩ := hp
    show J l D b Y_Mo_leap _ _ (ad, cM ad r lp 0 nr lf ln bd fd tm it wk dv ct nu mt c1 c2 td tt tc) 0 0 17 [(0, Value.ref (ad 0)), (1, Value.int (iI i)), (2, Value.int (iI x))] [Value.int (iI (bz (ntB x)))]
    refine J_ifB_ne (tgt := 26) d_Mo_leap_17 rfl (fun h17_5 => ?_) (fun h17_5 => ?_)
    · refine J_aload_n d_Mo_leap_26 rfl 0 rfl ?_
      refine J_get fs_Mo_45 rfl rfl d_Mo_leap_27 ?_
      refine J_ifB_eq (tgt := 50) d_Mo_leap_30 rfl (fun h30_6 => ?_) (fun h30_6 => ?_)
      · refine J_iconst d_Mo_leap_50 ?_
        refine J_istore_n d_Mo_leap_51 rfl (by decide) rfl ?_
        refine J_iload_n d_Mo_leap_52 rfl 0 rfl ?_
        refine J_if_ge (tgt := 60) d_Mo_leap_53 rfl (by omega) (fun h53_7 => ?_) (fun h53_7 => ?_)
        · exact absurd h53_7 (by decide)
        · refine J_iconst d_Mo_leap_56 ?_
          refine J_goto (tgt := 84) d_Mo_leap_57 rfl ?_
          refine J_iret rfl d_Mo_leap_84 ⟨Nat.le_of_ble_eq_true rfl, Nat.le_of_ble_eq_true rfl⟩ ?_
          refine ⟨_, _, rfl, rfl, Or.inr ⟨⟨hii, ‹_›⟩, rfl, ?_⟩⟩
          rw [if_neg (by first | omega | (rw [‹lp = false›]; exact fun h => absurd h.1 (by decide)))]
          rfl
      · refine J_iload_n d_Mo_leap_33 rfl 1 rfl ?_
        refine J_aload_n d_Mo_leap_34 rfl 0 rfl ?_
        refine J_get fs_Mo_97 rfl rfl d_Mo_leap_35 ?_
        refine J_icmp_ge (tgt := 50) d_Mo_leap_38 rfl (by omega) (by omega) (fun h38_8 => ?_) (fun h38_8 => ?_)
        · refine J_iconst d_Mo_leap_50 ?_
          refine J_istore_n d_Mo_leap_51 rfl (by decide) rfl ?_
          refine J_iload_n d_Mo_leap_52 rfl 0 rfl ?_
          refine J_if_ge (tgt := 60) d_Mo_leap_53 rfl (by omega) (fun h53_9 => ?_) (fun h53_9 => ?_)
          · exact absurd h53_9 (by decide)
          · refine J_iconst d_Mo_leap_56 ?_
            refine J_goto (tgt := 84) d_Mo_leap_57 rfl ?_
            refine J_iret rfl d_Mo_leap_84 ⟨Nat.le_of_ble_eq_true rfl, Nat.le_of_ble_eq_true rfl⟩ ?_
            refine ⟨_, _, rfl, rfl, Or.inr ⟨⟨hii, ‹_›⟩, rfl, ?_⟩⟩
            rw [if_neg (by first | omega | (rw [‹lp = false›]; exact fun h => absurd h.1 (by decide)))]
            rfl
        · refine J_aload_n d_Mo_leap_41 rfl 0 rfl ?_
          refine J_iload_n d_Mo_leap_42 rfl 1 rfl ?_
          refine J_iload_n d_Mo_leap_43 rfl 2 rfl ?_
          refine J_callV (st := []) [Value.int (iI i), Value.int (iI x)] ms_Mo_79 rfl (c_Mo_leapOf hg (by omega) (by omega)) rfl rfl ⟨Nat.le_of_ble_eq_true rfl, Nat.le_of_ble_eq_true rfl⟩ ⟨Nat.le_of_ble_eq_true rfl, Nat.le_of_ble_eq_true rfl⟩ (Nat.le_of_ble_eq_true rfl) d_Mo_leap_44 (fun v w' hp => ?_)
          obtain ⟨rfl, rfl⟩ := hp
          show J l D b Y_Mo_leap _ _ (ad, cM ad r lp 0 nr lf ln bd fd tm it wk dv ct nu mt c1 c2 td tt tc) 0 0 47 [(0, Value.ref (ad 0)), (1, Value.int (iI i)), (2, Value.int (iI x))] [Value.int (iI (lpN it lf ln bd i.toNat x (-1)))]
          have hn10 := lpN_rng (it := it) hg i.toNat x (-1) (by omega)
          refine J_goto (tgt := 51) d_Mo_leap_47 rfl ?_
          refine J_istore_n d_Mo_leap_51 rfl (by decide) rfl ?_
          refine J_iload_n d_Mo_leap_52 rfl 0 rfl ?_
          refine J_if_ge (tgt := 60) d_Mo_leap_53 rfl (by omega) (fun h53_11 => ?_) (fun h53_11 => ?_)
          · refine J_sipush d_Mo_leap_60 (by decide) ?_
            refine J_iload_n d_Mo_leap_63 rfl 0 rfl ?_
            refine J_bipush d_Mo_leap_64 (by decide) ?_
            refine J_idiv d_Mo_leap_66 (by omega) (by omega) ?_
            refine J_imul d_Mo_leap_67 ?_
            refine J_bipush d_Mo_leap_68 (by decide) ?_
            refine J_iload_n d_Mo_leap_70 rfl 0 rfl ?_
            refine J_bipush d_Mo_leap_71 (by decide) ?_
            refine J_irem d_Mo_leap_73 (by omega) (by omega) ?_
            refine J_bipush d_Mo_leap_74 (by decide) ?_
            refine J_idiv d_Mo_leap_76 (by omega) (by omega) ?_
            refine J_imul d_Mo_leap_77 ?_
            refine J_iadd d_Mo_leap_78 ?_
            refine J_iload_n d_Mo_leap_79 rfl 0 rfl ?_
            refine J_bipush d_Mo_leap_80 (by decide) ?_
            refine J_irem d_Mo_leap_82 (by omega) (by omega) ?_
            refine J_iadd d_Mo_leap_83 ?_
            refine J_iret rfl d_Mo_leap_84 ⟨Nat.le_of_ble_eq_true rfl, Nat.le_of_ble_eq_true rfl⟩ ?_
            refine ⟨_, _, rfl, rfl, Or.inr ⟨⟨hii, ‹_›⟩, rfl, ?_⟩⟩
            rw [if_pos ⟨‹_›, by omega⟩]
            unfold lpV
            rw [if_neg (by omega)]
          · refine J_iconst d_Mo_leap_56 ?_
            refine J_goto (tgt := 84) d_Mo_leap_57 rfl ?_
            refine J_iret rfl d_Mo_leap_84 ⟨Nat.le_of_ble_eq_true rfl, Nat.le_of_ble_eq_true rfl⟩ ?_
            refine ⟨_, _, rfl, rfl, Or.inr ⟨⟨hii, ‹_›⟩, rfl, ?_⟩⟩
            rw [if_pos ⟨‹_›, by omega⟩]
            unfold lpV
            rw [if_pos (by omega)]
    · refine J_aload_n d_Mo_leap_20 rfl 0 rfl ?_
      refine J_iconst d_Mo_leap_21 ?_
      refine J_callV (st := []) [Value.int (iI 1)] ms_Mo_91 rfl (c_Mo_refuse) rfl rfl ⟨Nat.le_of_ble_eq_true rfl, Nat.le_of_ble_eq_true rfl⟩ ⟨Nat.le_of_ble_eq_true rfl, Nat.le_of_ble_eq_true rfl⟩ (Nat.le_of_ble_eq_true rfl) d_Mo_leap_22 (fun v w' hp => ?_)
      obtain ⟨rfl, rfl⟩ := hp
      show J l D b Y_Mo_leap _ _ (ad, cM ad r lp 1 nr lf ln bd fd tm it wk dv ct nu mt c1 c2 td tt tc) 0 0 25 [(0, Value.ref (ad 0)), (1, Value.int (iI i)), (2, Value.int (iI x))] [Value.int (iI 0)]
      refine J_iret rfl d_Mo_leap_25 ⟨Nat.le_of_ble_eq_true rfl, Nat.le_of_ble_eq_true rfl⟩ ?_
      exact ⟨_, _, rfl, rfl, Or.inl ⟨by rw [Classical.not_and_iff_not_or_not]; first | exact Or.inl (of_decide_eq_false ‹decide (0 ≤ i ∧ i ≤ fd) = false›) | exact Or.inr (by rw [‹ntB x = false›]; decide), rfl, rfl⟩⟩
set_option maxHeartbeats 4000000 in
theorem c_Mo_rule {p : Int} {n : Int} {y : Int} (hg : gOK nr lf ln bd) (hf : 0 ≤ fd ∧ fd ≤ 12) (hp : -2147483648 ≤ p ∧ p ≤ 2147483647) (hn : -2147483648 ≤ n ∧ n ≤ 2147483647) (hy : -2147483648 ≤ y ∧ y ≤ 2147483647) : Ct l D b Y_Mo_rule { frames := 6, cells := 0, slots := 0, locals := 149 } [Value.ref (ad 0), Value.int (iI p), Value.int (iI n), Value.int (iI y)] (ad, cM ad r lp rf nr lf ln bd fd tm it wk dv ct nu mt c1 c2 td tt tc) (fun v w' => ∃ z rf' nr' lf' ln' bd' it' wk', v = some (.int (iI z)) ∧ w' = (ad, cM ad r lp rf' nr' lf' ln' bd' fd tm it' wk' dv ct nu mt c1 c2 td tt tc) ∧ ((¬ rOK p n y ∧ z = 0 ∧ rf' = 1 ∧ nr' = nr ∧ lf' = lf ∧ ln' = ln ∧ bd' = bd ∧ it' = it ∧ wk' = wk) ∨ (rOK p n y ∧ (nr = 10 ∨ 0 < fd) ∧ z = 0 ∧ rf' = 2 ∧ nr' = nr ∧ lf' = lf ∧ ln' = ln ∧ bd' = bd ∧ it' = it ∧ wk' = wk) ∨ (rOK p n y ∧ nr < 10 ∧ fd ≤ 0 ∧ z = nr ∧ rf' = 0 ∧ nr' = nr + 1 ∧ lf' = upI lf nr p ∧ ln' = upI ln nr n ∧ bd' = bdW bd nr y n ∧ wk' = false ∧ Mks lp nr' lf' ln' bd' tm 0 it it'))) := by
  refine Ct_of (by decide) (Nat.le_of_ble_eq_true rfl) ?_
  have hg1 := hg.1
  show J l D b Y_Mo_rule _ _ (ad, cM ad r lp rf nr lf ln bd fd tm it wk dv ct nu mt c1 c2 td tt tc) 0 0 0 [(0, Value.ref (ad 0)), (1, Value.int (iI p)), (2, Value.int (iI n)), (3, Value.int (iI y))] []
  refine J_aload_n d_Mo_rule_0 rfl 0 rfl ?_
  refine J_iconst d_Mo_rule_1 ?_
  refine J_put fs_Mo_53 rfl (Nat.le_of_ble_eq_true rfl) (fun _ h => by cases h; exact Or.inl rfl) rfl rfl uM_obj d_Mo_rule_2 ?_
  refine J_iload_n d_Mo_rule_5 rfl 1 rfl ?_
  refine J_callS (st := []) [Value.int (iI p)] ms_Mo_69 (c_Mo_isNonterminal (by omega)) rfl rfl ⟨Nat.le_of_ble_eq_true rfl, Nat.le_of_ble_eq_true rfl⟩ ⟨Nat.le_of_ble_eq_true rfl, Nat.le_of_ble_eq_true rfl⟩ (Nat.le_of_ble_eq_true rfl) d_Mo_rule_6 (fun v w' hp => ?_)
  obtain ⟨rfl, rfl⟩ := hp
  show J l D b Y_Mo_rule _ _ (ad, cM ad r lp 0 nr lf ln bd fd tm it wk dv ct nu mt c1 c2 td tt tc) 0 0 9 [(0, Value.ref (ad 0)), (1, Value.int (iI p)), (2, Value.int (iI n)), (3, Value.int (iI y))] [Value.int (iI (bz (ntB p)))]
  refine J_ifB_eq (tgt := 29) d_Mo_rule_9 rfl (fun h9_2 => ?_) (fun h9_2 => ?_)
  · refine J_aload_n d_Mo_rule_29 rfl 0 rfl ?_
    refine J_iconst d_Mo_rule_30 ?_
    refine J_callV (st := []) [Value.int (iI 1)] ms_Mo_91 rfl (c_Mo_refuse) rfl rfl ⟨Nat.le_of_ble_eq_true rfl, Nat.le_of_ble_eq_true rfl⟩ ⟨Nat.le_of_ble_eq_true rfl, Nat.le_of_ble_eq_true rfl⟩ (Nat.le_of_ble_eq_true rfl) d_Mo_rule_31 (fun v w' hp => ?_)
    obtain ⟨rfl, rfl⟩ := hp
    show J l D b Y_Mo_rule _ _ (ad, cM ad r lp 1 nr lf ln bd fd tm it wk dv ct nu mt c1 c2 td tt tc) 0 0 34 [(0, Value.ref (ad 0)), (1, Value.int (iI p)), (2, Value.int (iI n)), (3, Value.int (iI y))] [Value.int (iI 0)]
    refine J_iret rfl d_Mo_rule_34 ⟨Nat.le_of_ble_eq_true rfl, Nat.le_of_ble_eq_true rfl⟩ ?_
    refine ⟨_, _, _, _, _, _, _, _, rfl, rfl, Or.inl ⟨fun hr => ?_, rfl, rfl, rfl, rfl, rfl, rfl, rfl, rfl⟩⟩
    obtain ⟨r1, r2, r3, r4⟩ := hr
    first
      | (rw [‹ntB p = false›] at r1; cases r1; done)
      | omega
      | (rcases r4 k (by omega) (by omega) with h | h
         · rw [‹ntB (sym y (4 * k)) = false›] at h
           cases h
         · rw [‹tmB (sym y (4 * k)) = false›] at h
           cases h)
  · refine J_iload_n d_Mo_rule_12 rfl 2 rfl ?_
    refine J_if_lt (tgt := 29) d_Mo_rule_13 rfl (by omega) (fun h13_4 => ?_) (fun h13_4 => ?_)
    · refine J_aload_n d_Mo_rule_29 rfl 0 rfl ?_
      refine J_iconst d_Mo_rule_30 ?_
      refine J_callV (st := []) [Value.int (iI 1)] ms_Mo_91 rfl (c_Mo_refuse) rfl rfl ⟨Nat.le_of_ble_eq_true rfl, Nat.le_of_ble_eq_true rfl⟩ ⟨Nat.le_of_ble_eq_true rfl, Nat.le_of_ble_eq_true rfl⟩ (Nat.le_of_ble_eq_true rfl) d_Mo_rule_31 (fun v w' hp => ?_)
      obtain ⟨rfl, rfl⟩ := hp
      show J l D b Y_Mo_rule _ _ (ad, cM ad r lp 1 nr lf ln bd fd tm it wk dv ct nu mt c1 c2 td tt tc) 0 0 34 [(0, Value.ref (ad 0)), (1, Value.int (iI p)), (2, Value.int (iI n)), (3, Value.int (iI y))] [Value.int (iI 0)]
      refine J_iret rfl d_Mo_rule_34 ⟨Nat.le_of_ble_eq_true rfl, Nat.le_of_ble_eq_true rfl⟩ ?_
      refine ⟨_, _, _, _, _, _, _, _, rfl, rfl, Or.inl ⟨fun hr => ?_, rfl, rfl, rfl, rfl, rfl, rfl, rfl, rfl⟩⟩
      obtain ⟨r1, r2, r3, r4⟩ := hr
      first
        | (rw [‹ntB p = false›] at r1; cases r1; done)
        | omega
        | (rcases r4 k (by omega) (by omega) with h | h
           · rw [‹ntB (sym y (4 * k)) = false›] at h
             cases h
           · rw [‹tmB (sym y (4 * k)) = false›] at h
             cases h)
    · refine J_iload_n d_Mo_rule_16 rfl 2 rfl ?_
      refine J_iconst d_Mo_rule_17 ?_
      refine J_icmp_gt (tgt := 29) d_Mo_rule_18 rfl (by omega) (by omega) (fun h18_6 => ?_) (fun h18_6 => ?_)
      · refine J_aload_n d_Mo_rule_29 rfl 0 rfl ?_
        refine J_iconst d_Mo_rule_30 ?_
        refine J_callV (st := []) [Value.int (iI 1)] ms_Mo_91 rfl (c_Mo_refuse) rfl rfl ⟨Nat.le_of_ble_eq_true rfl, Nat.le_of_ble_eq_true rfl⟩ ⟨Nat.le_of_ble_eq_true rfl, Nat.le_of_ble_eq_true rfl⟩ (Nat.le_of_ble_eq_true rfl) d_Mo_rule_31 (fun v w' hp => ?_)
        obtain ⟨rfl, rfl⟩ := hp
        show J l D b Y_Mo_rule _ _ (ad, cM ad r lp 1 nr lf ln bd fd tm it wk dv ct nu mt c1 c2 td tt tc) 0 0 34 [(0, Value.ref (ad 0)), (1, Value.int (iI p)), (2, Value.int (iI n)), (3, Value.int (iI y))] [Value.int (iI 0)]
        refine J_iret rfl d_Mo_rule_34 ⟨Nat.le_of_ble_eq_true rfl, Nat.le_of_ble_eq_true rfl⟩ ?_
        refine ⟨_, _, _, _, _, _, _, _, rfl, rfl, Or.inl ⟨fun hr => ?_, rfl, rfl, rfl, rfl, rfl, rfl, rfl, rfl⟩⟩
        obtain ⟨r1, r2, r3, r4⟩ := hr
        first
          | (rw [‹ntB p = false›] at r1; cases r1; done)
          | omega
          | (rcases r4 k (by omega) (by omega) with h | h
             · rw [‹ntB (sym y (4 * k)) = false›] at h
               cases h
             · rw [‹tmB (sym y (4 * k)) = false›] at h
               cases h)
      · refine J_iload_n d_Mo_rule_21 rfl 3 rfl ?_
        refine J_iconst d_Mo_rule_22 ?_
        refine J_iload_n d_Mo_rule_23 rfl 2 rfl ?_
        refine J_imul d_Mo_rule_24 ?_
        refine J_iushr d_Mo_rule_25 (usr_eq _ _) ?_
        have hu := usr_rng y (4 * n)
        refine J_if_eq (tgt := 35) d_Mo_rule_26 rfl (by omega) (fun h26_8 => ?_) (fun h26_8 => ?_)
        · refine J_iconst d_Mo_rule_35 ?_
          refine J_istore d_Mo_rule_36 (by decide) rfl ?_
          refine J.loop (σ := Int) (fun k => (0 ≤ k ∧ k ≤ n) ∧ (∀ j, 0 ≤ j → j < k → ntB (sym y (4 * j)) = true ∨ tmB (sym y (4 * j)) = true)) (fun k => (n - k).toNat) (ws := fun k => (ad, cM ad r lp 0 nr lf ln bd fd tm it wk dv ct nu mt c1 c2 td tt tc)) (ks := fun _ => 0) (ns := fun _ => 0) (lvs := fun k => [(4, Value.int (iI k)), (0, Value.ref (ad 0)), (1, Value.int (iI p)), (2, Value.int (iI n)), (3, Value.int (iI y))]) (sts := fun _ => []) ?_ 0 ?_
          · rintro k hI ih9
            have hI : (0 ≤ k ∧ k ≤ n) ∧ (∀ j, 0 ≤ j → j < k → ntB (sym y (4 * j)) = true ∨ tmB (sym y (4 * j)) = true) := hI
            obtain ⟨hk, hok⟩ := hI
            show J l D b Y_Mo_rule _ _ (ad, cM ad r lp 0 nr lf ln bd fd tm it wk dv ct nu mt c1 c2 td tt tc) 0 0 38 [(4, Value.int (iI k)), (0, Value.ref (ad 0)), (1, Value.int (iI p)), (2, Value.int (iI n)), (3, Value.int (iI y))] []
            refine J_iload d_Mo_rule_38 0 rfl ?_
            refine J_iload_n d_Mo_rule_40 rfl 3 rfl ?_
            refine J_icmp_ge (tgt := 83) d_Mo_rule_41 rfl (by omega) (by omega) (fun h41_10 => ?_) (fun h41_10 => ?_)
            · have hrok : rOK p n y := ⟨‹_›, by omega, by omega, fun j a1 a2 => hok j a1 (by omega)⟩
              refine J_aload_n d_Mo_rule_83 rfl 1 rfl ?_
              refine J_get fs_Mo_73 rfl rfl d_Mo_rule_84 ?_
              refine J_bipush d_Mo_rule_87 (by decide) ?_
              refine J_icmp_eq (tgt := 99) d_Mo_rule_89 rfl (by omega) (by omega) (fun h89_11 => ?_) (fun h89_11 => ?_)
              · refine J_aload_n d_Mo_rule_99 rfl 1 rfl ?_
                refine J_iconst d_Mo_rule_100 ?_
                refine J_callV (st := []) [Value.int (iI 2)] ms_Mo_91 rfl (c_Mo_refuse) rfl rfl ⟨Nat.le_of_ble_eq_true rfl, Nat.le_of_ble_eq_true rfl⟩ ⟨Nat.le_of_ble_eq_true rfl, Nat.le_of_ble_eq_true rfl⟩ (Nat.le_of_ble_eq_true rfl) d_Mo_rule_101 (fun v w' hp => ?_)
                obtain ⟨rfl, rfl⟩ := hp
                show J l D b Y_Mo_rule _ _ (ad, cM ad r lp 2 nr lf ln bd fd tm it wk dv ct nu mt c1 c2 td tt tc) 0 0 104 [(4, Value.int (iI k)), (0, Value.ref (ad 0)), (1, Value.int (iI p)), (2, Value.int (iI n)), (3, Value.int (iI y))] [Value.int (iI 0)]
                refine J_iret rfl d_Mo_rule_104 ⟨Nat.le_of_ble_eq_true rfl, Nat.le_of_ble_eq_true rfl⟩ ?_
                exact ⟨_, _, _, _, _, _, _, _, rfl, rfl, Or.inr (Or.inl ⟨hrok, by omega, rfl, rfl, rfl, rfl, rfl, rfl, rfl, rfl⟩)⟩
              · refine J_aload_n d_Mo_rule_92 rfl 1 rfl ?_
                refine J_get fs_Mo_97 rfl rfl d_Mo_rule_93 ?_
                refine J_if_le (tgt := 105) d_Mo_rule_96 rfl (by omega) (fun h96_13 => ?_) (fun h96_13 => ?_)
                · refine J_aload_n d_Mo_rule_105 rfl 1 rfl ?_
                  refine J_get fs_Mo_7 rfl rfl d_Mo_rule_106 ?_
                  refine J_aload_n d_Mo_rule_109 rfl 1 rfl ?_
                  refine J_get fs_Mo_73 rfl rfl d_Mo_rule_110 ?_
                  refine J_iload_n d_Mo_rule_113 rfl 2 rfl ?_
                  refine J_iast rfl (by omega) (by decide) uM_lf d_Mo_rule_114 ?_
                  refine J_aload_n d_Mo_rule_115 rfl 1 rfl ?_
                  refine J_get fs_Mo_13 rfl rfl d_Mo_rule_116 ?_
                  refine J_aload_n d_Mo_rule_119 rfl 1 rfl ?_
                  refine J_get fs_Mo_73 rfl rfl d_Mo_rule_120 ?_
                  refine J_iload_n d_Mo_rule_123 rfl 3 rfl ?_
                  refine J_iast rfl (by omega) (by decide) uM_ln d_Mo_rule_124 ?_
                  refine J_iconst d_Mo_rule_125 ?_
                  refine J_istore d_Mo_rule_126 (by decide) rfl ?_
                  refine J.loop (σ := Int × (Int → Int)) (fun xx_ => match xx_ with | (k, bd1) => (0 ≤ k ∧ k ≤ n) ∧ (bd1 = bdW bd nr y k)) (fun xx_ => match xx_ with | (k, bd1) => (n - k).toNat) (ws := fun xx_ => match xx_ with | (k, bd1) => (ad, cM ad r lp 0 nr (upI lf nr p) (upI ln nr n) bd1 fd tm it wk dv ct nu mt c1 c2 td tt tc)) (ks := fun _ => 0) (ns := fun _ => 0) (lvs := fun xx_ => match xx_ with | (k, bd1) => [(4, Value.int (iI k)), (0, Value.ref (ad 0)), (1, Value.int (iI p)), (2, Value.int (iI n)), (3, Value.int (iI y))]) (sts := fun _ => []) ?_ (0, bd) ?_
                  · rintro ⟨k, bd1⟩ hI ih14
                    have hI : (0 ≤ k ∧ k ≤ n) ∧ (bd1 = bdW bd nr y k) := hI
                    obtain ⟨hk, hbd⟩ := hI
                    show J l D b Y_Mo_rule _ _ (ad, cM ad r lp 0 nr (upI lf nr p) (upI ln nr n) bd1 fd tm it wk dv ct nu mt c1 c2 td tt tc) 0 0 128 [(4, Value.int (iI k)), (0, Value.ref (ad 0)), (1, Value.int (iI p)), (2, Value.int (iI n)), (3, Value.int (iI y))] []
                    refine J_iload d_Mo_rule_128 0 rfl ?_
                    refine J_iload_n d_Mo_rule_130 rfl 3 rfl ?_
                    refine J_icmp_ge (tgt := 163) d_Mo_rule_131 rfl (by omega) (by omega) (fun h131_15 => ?_) (fun h131_15 => ?_)
                    · refine J_aload_n d_Mo_rule_163 rfl 1 rfl ?_
                      refine J_dup d_Mo_rule_164 rfl ?_
                      refine J_get fs_Mo_73 rfl rfl d_Mo_rule_165 ?_
                      refine J_iconst d_Mo_rule_168 ?_
                      refine J_iadd d_Mo_rule_169 ?_
                      refine J_put fs_Mo_73 rfl (Nat.le_of_ble_eq_true rfl) (fun _ h => by cases h; exact Or.inl rfl) rfl rfl uM_obj d_Mo_rule_170 ?_
                      have hgg := hg.push (by omega) hrok
                      rw [show n = k by omega, ← hbd] at hgg
                      rw [show k = n by omega] at hgg
                      refine J_aload_n d_Mo_rule_173 rfl 1 rfl ?_
                      refine J_iconst d_Mo_rule_174 ?_
                      refine J_callV (st := []) [Value.int (iI 0)] ms_Mo_49 rfl (c_Mo_makeSet hgg (by omega) (by intro h; omega)) rfl rfl ⟨Nat.le_of_ble_eq_true rfl, Nat.le_of_ble_eq_true rfl⟩ ⟨Nat.le_of_ble_eq_true rfl, Nat.le_of_ble_eq_true rfl⟩ (Nat.le_of_ble_eq_true rfl) d_Mo_rule_175 (fun v w' hp => ?_)
                      obtain ⟨rfl, it16, rfl, hM16⟩ := hp
                      show J l D b Y_Mo_rule _ _ (ad, cM ad r lp 0 (nr + 1) (upI lf nr p) (upI ln nr n) bd1 fd tm it16 false dv ct nu mt c1 c2 td tt tc) 0 0 178 [(4, Value.int (iI k)), (0, Value.ref (ad 0)), (1, Value.int (iI p)), (2, Value.int (iI n)), (3, Value.int (iI y))] []
                      refine J_aload_n d_Mo_rule_178 rfl 1 rfl ?_
                      refine J_get fs_Mo_73 rfl rfl d_Mo_rule_179 ?_
                      refine J_iconst d_Mo_rule_182 ?_
                      refine J_isub d_Mo_rule_183 ?_
                      refine J_iret rfl d_Mo_rule_184 ⟨Nat.le_of_ble_eq_true rfl, Nat.le_of_ble_eq_true rfl⟩ ?_
                      refine ⟨_, _, _, _, _, _, _, _, rfl, rfl, Or.inr (Or.inr ⟨hrok, by omega, by omega, by omega, rfl, rfl, rfl, rfl, ?_, rfl, ‹_›⟩)⟩
                      rw [hbd, show k = n by omega]
                    · refine J_aload_n d_Mo_rule_134 rfl 1 rfl ?_
                      refine J_get fs_Mo_16 rfl rfl d_Mo_rule_135 ?_
                      refine J_iconst d_Mo_rule_138 ?_
                      refine J_aload_n d_Mo_rule_139 rfl 1 rfl ?_
                      refine J_get fs_Mo_73 rfl rfl d_Mo_rule_140 ?_
                      refine J_imul d_Mo_rule_143 ?_
                      refine J_iload d_Mo_rule_144 0 rfl ?_
                      refine J_iadd d_Mo_rule_146 ?_
                      refine J_iload_n d_Mo_rule_147 rfl 4 rfl ?_
                      refine J_iconst d_Mo_rule_148 ?_
                      refine J_iload d_Mo_rule_149 0 rfl ?_
                      refine J_imul d_Mo_rule_151 ?_
                      refine J_ishr d_Mo_rule_152 rfl ?_
                      refine J_bipush d_Mo_rule_153 (by decide) ?_
                      refine J_iand d_Mo_rule_155 (sym_eq _ _) ?_
                      refine J_iast rfl (by omega) (by decide) uM_bd d_Mo_rule_156 ?_
                      refine J_iinc (j := 0) d_Mo_rule_157 rfl (by decide) rfl ?_
                      refine J_goto (tgt := 128) d_Mo_rule_160 rfl ?_
                      exact ih14 (k + 1, upI bd1 ((3 * nr) + k) (sym y (4 * k))) (show (0 ≤ (k + 1) ∧ (k + 1) ≤ n) ∧ ((upI bd1 ((3 * nr) + k) (sym y (4 * k))) = bdW bd nr y (k + 1)) by
                          exact ⟨by omega, by rw [hbd, bdW_s (by omega)]⟩) (show (n - (k + 1)).toNat < (n - k).toNat by
                          omega)
                  · show (0 ≤ (0 : Int) ∧ (0 : Int) ≤ n) ∧ (bd = bdW bd nr y (0 : Int))
                    exact ⟨by omega, (bdW_0 _ _ _).symm⟩
                · refine J_aload_n d_Mo_rule_99 rfl 1 rfl ?_
                  refine J_iconst d_Mo_rule_100 ?_
                  refine J_callV (st := []) [Value.int (iI 2)] ms_Mo_91 rfl (c_Mo_refuse) rfl rfl ⟨Nat.le_of_ble_eq_true rfl, Nat.le_of_ble_eq_true rfl⟩ ⟨Nat.le_of_ble_eq_true rfl, Nat.le_of_ble_eq_true rfl⟩ (Nat.le_of_ble_eq_true rfl) d_Mo_rule_101 (fun v w' hp => ?_)
                  obtain ⟨rfl, rfl⟩ := hp
                  show J l D b Y_Mo_rule _ _ (ad, cM ad r lp 2 nr lf ln bd fd tm it wk dv ct nu mt c1 c2 td tt tc) 0 0 104 [(4, Value.int (iI k)), (0, Value.ref (ad 0)), (1, Value.int (iI p)), (2, Value.int (iI n)), (3, Value.int (iI y))] [Value.int (iI 0)]
                  refine J_iret rfl d_Mo_rule_104 ⟨Nat.le_of_ble_eq_true rfl, Nat.le_of_ble_eq_true rfl⟩ ?_
                  exact ⟨_, _, _, _, _, _, _, _, rfl, rfl, Or.inr (Or.inl ⟨hrok, by omega, rfl, rfl, rfl, rfl, rfl, rfl, rfl, rfl⟩)⟩
            · refine J_iload_n d_Mo_rule_44 rfl 4 rfl ?_
              refine J_iconst d_Mo_rule_45 ?_
              refine J_iload d_Mo_rule_46 0 rfl ?_
              refine J_imul d_Mo_rule_48 ?_
              refine J_ishr d_Mo_rule_49 rfl ?_
              refine J_bipush d_Mo_rule_50 (by decide) ?_
              refine J_iand d_Mo_rule_52 (sym_eq _ _) ?_
              refine J_istore d_Mo_rule_53 (by decide) rfl ?_
              refine J_iload d_Mo_rule_55 0 rfl ?_
              have hs := sym_rng y (4 * k)
              refine J_callS (st := []) [Value.int (iI (sym y (4 * k)))] ms_Mo_69 (c_Mo_isNonterminal (by omega)) rfl rfl ⟨Nat.le_of_ble_eq_true rfl, Nat.le_of_ble_eq_true rfl⟩ ⟨Nat.le_of_ble_eq_true rfl, Nat.le_of_ble_eq_true rfl⟩ (Nat.le_of_ble_eq_true rfl) d_Mo_rule_57 (fun v w' hp => ?_)
              obtain ⟨rfl, rfl⟩ := hp
              show J l D b Y_Mo_rule _ _ (ad, cM ad r lp 0 nr lf ln bd fd tm it wk dv ct nu mt c1 c2 td tt tc) 0 0 60 [(5, Value.int (iI (sym y (4 * k)))), (4, Value.int (iI k)), (0, Value.ref (ad 0)), (1, Value.int (iI p)), (2, Value.int (iI n)), (3, Value.int (iI y))] [Value.int (iI (bz (ntB (sym y (4 * k)))))]
              refine J_ifB_ne (tgt := 77) d_Mo_rule_60 rfl (fun h60_19 => ?_) (fun h60_19 => ?_)
              · refine J_iinc (j := 1) d_Mo_rule_77 rfl (by decide) rfl ?_
                refine J_goto (tgt := 38) d_Mo_rule_80 rfl ?_
                refine J.sub [0, 2, 3, 4, 5] rfl ?_
                exact ih9 (k + 1) (show (0 ≤ (k + 1) ∧ (k + 1) ≤ n) ∧ (∀ j, 0 ≤ j → j < (k + 1) → ntB (sym y (4 * j)) = true ∨ tmB (sym y (4 * j)) = true) by
                    refine ⟨by omega, fun j a1 a2 => ?_⟩
                    by_cases hj : j = k
                    · rw [hj]
                      first
                        | exact Or.inl ‹_›
                        | exact Or.inr ‹_›
                    · exact hok j a1 (by omega)) (show (n - (k + 1)).toNat < (n - k).toNat by
                    omega)
              · refine J_iload d_Mo_rule_63 0 rfl ?_
                refine J_callS (st := []) [Value.int (iI (sym y (4 * k)))] ms_Mo_94 (c_Mo_isTerminal (by omega)) rfl rfl ⟨Nat.le_of_ble_eq_true rfl, Nat.le_of_ble_eq_true rfl⟩ ⟨Nat.le_of_ble_eq_true rfl, Nat.le_of_ble_eq_true rfl⟩ (Nat.le_of_ble_eq_true rfl) d_Mo_rule_65 (fun v w' hp => ?_)
                obtain ⟨rfl, rfl⟩ := hp
                show J l D b Y_Mo_rule _ _ (ad, cM ad r lp 0 nr lf ln bd fd tm it wk dv ct nu mt c1 c2 td tt tc) 0 0 68 [(5, Value.int (iI (sym y (4 * k)))), (4, Value.int (iI k)), (0, Value.ref (ad 0)), (1, Value.int (iI p)), (2, Value.int (iI n)), (3, Value.int (iI y))] [Value.int (iI (bz (tmB (sym y (4 * k)))))]
                refine J_ifB_ne (tgt := 77) d_Mo_rule_68 rfl (fun h68_21 => ?_) (fun h68_21 => ?_)
                · refine J_iinc (j := 1) d_Mo_rule_77 rfl (by decide) rfl ?_
                  refine J_goto (tgt := 38) d_Mo_rule_80 rfl ?_
                  refine J.sub [0, 2, 3, 4, 5] rfl ?_
                  exact ih9 (k + 1) (show (0 ≤ (k + 1) ∧ (k + 1) ≤ n) ∧ (∀ j, 0 ≤ j → j < (k + 1) → ntB (sym y (4 * j)) = true ∨ tmB (sym y (4 * j)) = true) by
                      refine ⟨by omega, fun j a1 a2 => ?_⟩
                      by_cases hj : j = k
                      · rw [hj]
                        first
                          | exact Or.inl ‹_›
                          | exact Or.inr ‹_›
                      · exact hok j a1 (by omega)) (show (n - (k + 1)).toNat < (n - k).toNat by
                      omega)
                · refine J_aload_n d_Mo_rule_71 rfl 2 rfl ?_
                  refine J_iconst d_Mo_rule_72 ?_
                  refine J_callV (st := []) [Value.int (iI 1)] ms_Mo_91 rfl (c_Mo_refuse) rfl rfl ⟨Nat.le_of_ble_eq_true rfl, Nat.le_of_ble_eq_true rfl⟩ ⟨Nat.le_of_ble_eq_true rfl, Nat.le_of_ble_eq_true rfl⟩ (Nat.le_of_ble_eq_true rfl) d_Mo_rule_73 (fun v w' hp => ?_)
                  obtain ⟨rfl, rfl⟩ := hp
                  show J l D b Y_Mo_rule _ _ (ad, cM ad r lp 1 nr lf ln bd fd tm it wk dv ct nu mt c1 c2 td tt tc) 0 0 76 [(5, Value.int (iI (sym y (4 * k)))), (4, Value.int (iI k)), (0, Value.ref (ad 0)), (1, Value.int (iI p)), (2, Value.int (iI n)), (3, Value.int (iI y))] [Value.int (iI 0)]
                  refine J_iret rfl d_Mo_rule_76 ⟨Nat.le_of_ble_eq_true rfl, Nat.le_of_ble_eq_true rfl⟩ ?_
                  refine ⟨_, _, _, _, _, _, _, _, rfl, rfl, Or.inl ⟨fun hr => ?_, rfl, rfl, rfl, rfl, rfl, rfl, rfl, rfl⟩⟩
                  obtain ⟨r1, r2, r3, r4⟩ := hr
                  first
                    | (rw [‹ntB p = false›] at r1; cases r1; done)
                    | omega
                    | (rcases r4 k (by omega) (by omega) with h | h
                       · rw [‹ntB (sym y (4 * k)) = false›] at h
                         cases h
                       · rw [‹tmB (sym y (4 * k)) = false›] at h
                         cases h)
          · show (0 ≤ (0 : Int) ∧ (0 : Int) ≤ n) ∧ (∀ j, 0 ≤ j → j < (0 : Int) → ntB (sym y (4 * j)) = true ∨ tmB (sym y (4 * j)) = true)
            exact ⟨by omega, fun j _ _ => by omega⟩
        · refine J_aload_n d_Mo_rule_29 rfl 0 rfl ?_
          refine J_iconst d_Mo_rule_30 ?_
          refine J_callV (st := []) [Value.int (iI 1)] ms_Mo_91 rfl (c_Mo_refuse) rfl rfl ⟨Nat.le_of_ble_eq_true rfl, Nat.le_of_ble_eq_true rfl⟩ ⟨Nat.le_of_ble_eq_true rfl, Nat.le_of_ble_eq_true rfl⟩ (Nat.le_of_ble_eq_true rfl) d_Mo_rule_31 (fun v w' hp => ?_)
          obtain ⟨rfl, rfl⟩ := hp
          show J l D b Y_Mo_rule _ _ (ad, cM ad r lp 1 nr lf ln bd fd tm it wk dv ct nu mt c1 c2 td tt tc) 0 0 34 [(0, Value.ref (ad 0)), (1, Value.int (iI p)), (2, Value.int (iI n)), (3, Value.int (iI y))] [Value.int (iI 0)]
          refine J_iret rfl d_Mo_rule_34 ⟨Nat.le_of_ble_eq_true rfl, Nat.le_of_ble_eq_true rfl⟩ ?_
          refine ⟨_, _, _, _, _, _, _, _, rfl, rfl, Or.inl ⟨fun hr => ?_, rfl, rfl, rfl, rfl, rfl, rfl, rfl, rfl⟩⟩
          obtain ⟨r1, r2, r3, r4⟩ := hr
          first
            | (rw [‹ntB p = false›] at r1; cases r1; done)
            | omega
            | (rcases r4 k (by omega) (by omega) with h | h
               · rw [‹ntB (sym y (4 * k)) = false›] at h
                 cases h
               · rw [‹tmB (sym y (4 * k)) = false›] at h
                 cases h)
set_option maxHeartbeats 4000000 in
theorem c_Mo_feed {t : Int} (hg : gOK nr lf ln bd) (hf : 0 ≤ fd ∧ fd ≤ 12) (ht : -2147483648 ≤ t ∧ t ≤ 2147483647) : Ct l D b Y_Mo_feed { frames := 6, cells := 0, slots := 0, locals := 149 } [Value.ref (ad 0), Value.int (iI t)] (ad, cM ad r lp rf nr lf ln bd fd tm it wk dv ct nu mt c1 c2 td tt tc) (fun v w' => ∃ z rf' fd' tm' it' wk', v = some (.int (iI z)) ∧ w' = (ad, cM ad r lp rf' nr lf ln bd fd' tm' it' wk' dv ct nu mt c1 c2 td tt tc) ∧ ((tmB t = false ∧ rf' = 1 ∧ z = 0 ∧ fd' = fd ∧ tm' = tm ∧ it' = it ∧ wk' = wk) ∨ (tmB t = true ∧ fd = 12 ∧ rf' = 2 ∧ z = 0 ∧ fd' = fd ∧ tm' = tm ∧ it' = it ∧ wk' = wk) ∨ (tmB t = true ∧ fd < 12 ∧ (∃ e, ExpR it ln bd fd e ∧ bit e (t - 8) = false) ∧ rf' = 3 ∧ z = 0 ∧ fd' = fd ∧ tm' = tm ∧ it' = it ∧ wk' = wk) ∨ (tmB t = true ∧ fd < 12 ∧ (∃ e, ExpR it ln bd fd e ∧ bit e (t - 8) = true) ∧ rf' = 0 ∧ fd' = fd + 1 ∧ tm' = upI tm fd t ∧ wk' = false ∧ z = cntR (fd + 1) it' ∧ Mks lp nr lf ln bd tm' (fd + 1) it it'))) := by
  refine Ct_of (by decide) (Nat.le_of_ble_eq_true rfl) ?_
  show J l D b Y_Mo_feed _ _ (ad, cM ad r lp rf nr lf ln bd fd tm it wk dv ct nu mt c1 c2 td tt tc) 0 0 0 [(0, Value.ref (ad 0)), (1, Value.int (iI t))] []
  refine J_aload_n d_Mo_feed_0 rfl 0 rfl ?_
  refine J_iconst d_Mo_feed_1 ?_
  refine J_put fs_Mo_53 rfl (Nat.le_of_ble_eq_true rfl) (fun _ h => by cases h; exact Or.inl rfl) rfl rfl uM_obj d_Mo_feed_2 ?_
  refine J_iload_n d_Mo_feed_5 rfl 1 rfl ?_
  refine J_callS (st := []) [Value.int (iI t)] ms_Mo_94 (c_Mo_isTerminal (by omega)) rfl rfl ⟨Nat.le_of_ble_eq_true rfl, Nat.le_of_ble_eq_true rfl⟩ ⟨Nat.le_of_ble_eq_true rfl, Nat.le_of_ble_eq_true rfl⟩ (Nat.le_of_ble_eq_true rfl) d_Mo_feed_6 (fun v w' hp => ?_)
  obtain ⟨rfl, rfl⟩ := hp
  show J l D b Y_Mo_feed _ _ (ad, cM ad r lp 0 nr lf ln bd fd tm it wk dv ct nu mt c1 c2 td tt tc) 0 0 9 [(0, Value.ref (ad 0)), (1, Value.int (iI t))] [Value.int (iI (bz (tmB t)))]
  refine J_ifB_ne (tgt := 18) d_Mo_feed_9 rfl (fun h9_2 => ?_) (fun h9_2 => ?_)
  · have htt := tmB_of ‹_›
    refine J_aload_n d_Mo_feed_18 rfl 0 rfl ?_
    refine J_get fs_Mo_97 rfl rfl d_Mo_feed_19 ?_
    refine J_bipush d_Mo_feed_22 (by decide) ?_
    refine J_icmp_ne (tgt := 33) d_Mo_feed_24 rfl (by omega) (by omega) (fun h24_3 => ?_) (fun h24_3 => ?_)
    · refine J_aload_n d_Mo_feed_33 rfl 0 rfl ?_
      refine J_aload_n d_Mo_feed_34 rfl 0 rfl ?_
      refine J_get fs_Mo_97 rfl rfl d_Mo_feed_35 ?_
      refine J_callV (st := []) [Value.int (iI fd)] ms_Mo_100 rfl (c_Mo_expectedIn hg (by omega)) rfl rfl ⟨Nat.le_of_ble_eq_true rfl, Nat.le_of_ble_eq_true rfl⟩ ⟨Nat.le_of_ble_eq_true rfl, Nat.le_of_ble_eq_true rfl⟩ (Nat.le_of_ble_eq_true rfl) d_Mo_feed_38 (fun v w' hp => ?_)
      obtain ⟨e4, rfl, rfl, hE4⟩ := hp
      show J l D b Y_Mo_feed _ _ (ad, cM ad r lp 0 nr lf ln bd fd tm it wk dv ct nu mt c1 c2 td tt tc) 0 0 41 [(0, Value.ref (ad 0)), (1, Value.int (iI t))] [Value.int (iI e4)]
      refine J_iload_n d_Mo_feed_41 rfl 1 rfl ?_
      refine J_bipush d_Mo_feed_42 (by decide) ?_
      refine J_isub d_Mo_feed_44 ?_
      refine J_ishr d_Mo_feed_45 (iI_shr (by have := (‹ExpR it ln bd fd _›).1; omega) (by omega)) ?_
      refine J_iconst d_Mo_feed_46 ?_
      refine J_iand d_Mo_feed_47 (iI_bit (by have := (‹ExpR it ln bd fd _›).1; omega)) ?_
      refine J_ifB_ne (tgt := 57) d_Mo_feed_48 rfl (fun h48_5 => ?_) (fun h48_5 => ?_)
      · refine J_aload_n d_Mo_feed_57 rfl 0 rfl ?_
        refine J_get fs_Mo_19 rfl rfl d_Mo_feed_58 ?_
        refine J_aload_n d_Mo_feed_61 rfl 0 rfl ?_
        refine J_get fs_Mo_97 rfl rfl d_Mo_feed_62 ?_
        refine J_iload_n d_Mo_feed_65 rfl 1 rfl ?_
        refine J_iast rfl (by omega) (by decide) uM_tm d_Mo_feed_66 ?_
        refine J_aload_n d_Mo_feed_67 rfl 0 rfl ?_
        refine J_dup d_Mo_feed_68 rfl ?_
        refine J_get fs_Mo_97 rfl rfl d_Mo_feed_69 ?_
        refine J_iconst d_Mo_feed_72 ?_
        refine J_iadd d_Mo_feed_73 ?_
        refine J_put fs_Mo_97 rfl (Nat.le_of_ble_eq_true rfl) (fun _ h => by cases h; exact Or.inl rfl) rfl rfl uM_obj d_Mo_feed_74 ?_
        refine J_aload_n d_Mo_feed_77 rfl 0 rfl ?_
        refine J_aload_n d_Mo_feed_78 rfl 0 rfl ?_
        refine J_get fs_Mo_97 rfl rfl d_Mo_feed_79 ?_
        refine J_callV (st := []) [Value.int (iI (fd + 1))] ms_Mo_49 rfl (c_Mo_makeSet hg (by omega) (by intro _; rw [show fd + 1 - 1 = fd by omega, upI_self]; omega)) rfl rfl ⟨Nat.le_of_ble_eq_true rfl, Nat.le_of_ble_eq_true rfl⟩ ⟨Nat.le_of_ble_eq_true rfl, Nat.le_of_ble_eq_true rfl⟩ (Nat.le_of_ble_eq_true rfl) d_Mo_feed_82 (fun v w' hp => ?_)
        obtain ⟨rfl, it6, rfl, hM6⟩ := hp
        show J l D b Y_Mo_feed _ _ (ad, cM ad r lp 0 nr lf ln bd (fd + 1) (upI tm fd t) it6 false dv ct nu mt c1 c2 td tt tc) 0 0 85 [(0, Value.ref (ad 0)), (1, Value.int (iI t))] []
        refine J_aload_n d_Mo_feed_85 rfl 0 rfl ?_
        refine J_aload_n d_Mo_feed_86 rfl 0 rfl ?_
        refine J_get fs_Mo_97 rfl rfl d_Mo_feed_87 ?_
        refine J_callV (st := []) [Value.int (iI (fd + 1))] ms_Mo_103 rfl (c_Mo_sizeOf (by omega)) rfl rfl ⟨Nat.le_of_ble_eq_true rfl, Nat.le_of_ble_eq_true rfl⟩ ⟨Nat.le_of_ble_eq_true rfl, Nat.le_of_ble_eq_true rfl⟩ (Nat.le_of_ble_eq_true rfl) d_Mo_feed_90 (fun v w' hp => ?_)
        obtain ⟨rfl, rfl⟩ := hp
        show J l D b Y_Mo_feed _ _ (ad, cM ad r lp 0 nr lf ln bd (fd + 1) (upI tm fd t) it6 false dv ct nu mt c1 c2 td tt tc) 0 0 93 [(0, Value.ref (ad 0)), (1, Value.int (iI t))] [Value.int (iI (cntR (fd + 1) it6))]
        have hc7 := cntR_rng (i := (fd + 1)) (it := it6)
        refine J_iret rfl d_Mo_feed_93 ⟨Nat.le_of_ble_eq_true rfl, Nat.le_of_ble_eq_true rfl⟩ ?_
        exact ⟨_, _, _, _, _, _, rfl, rfl, Or.inr (Or.inr (Or.inr ⟨‹_›, by omega, ⟨_, ‹ExpR it ln bd fd _›, ‹_›⟩, rfl, rfl, rfl, rfl, rfl, ‹_›⟩))⟩
      · refine J_aload_n d_Mo_feed_51 rfl 0 rfl ?_
        refine J_iconst d_Mo_feed_52 ?_
        refine J_callV (st := []) [Value.int (iI 3)] ms_Mo_91 rfl (c_Mo_refuse) rfl rfl ⟨Nat.le_of_ble_eq_true rfl, Nat.le_of_ble_eq_true rfl⟩ ⟨Nat.le_of_ble_eq_true rfl, Nat.le_of_ble_eq_true rfl⟩ (Nat.le_of_ble_eq_true rfl) d_Mo_feed_53 (fun v w' hp => ?_)
        obtain ⟨rfl, rfl⟩ := hp
        show J l D b Y_Mo_feed _ _ (ad, cM ad r lp 3 nr lf ln bd fd tm it wk dv ct nu mt c1 c2 td tt tc) 0 0 56 [(0, Value.ref (ad 0)), (1, Value.int (iI t))] [Value.int (iI 0)]
        refine J_iret rfl d_Mo_feed_56 ⟨Nat.le_of_ble_eq_true rfl, Nat.le_of_ble_eq_true rfl⟩ ?_
        exact ⟨_, _, _, _, _, _, rfl, rfl, Or.inr (Or.inr (Or.inl ⟨‹_›, by omega, ⟨_, ‹ExpR it ln bd fd _›, ‹_›⟩, rfl, rfl, rfl, rfl, rfl, rfl⟩))⟩
    · refine J_aload_n d_Mo_feed_27 rfl 0 rfl ?_
      refine J_iconst d_Mo_feed_28 ?_
      refine J_callV (st := []) [Value.int (iI 2)] ms_Mo_91 rfl (c_Mo_refuse) rfl rfl ⟨Nat.le_of_ble_eq_true rfl, Nat.le_of_ble_eq_true rfl⟩ ⟨Nat.le_of_ble_eq_true rfl, Nat.le_of_ble_eq_true rfl⟩ (Nat.le_of_ble_eq_true rfl) d_Mo_feed_29 (fun v w' hp => ?_)
      obtain ⟨rfl, rfl⟩ := hp
      show J l D b Y_Mo_feed _ _ (ad, cM ad r lp 2 nr lf ln bd fd tm it wk dv ct nu mt c1 c2 td tt tc) 0 0 32 [(0, Value.ref (ad 0)), (1, Value.int (iI t))] [Value.int (iI 0)]
      refine J_iret rfl d_Mo_feed_32 ⟨Nat.le_of_ble_eq_true rfl, Nat.le_of_ble_eq_true rfl⟩ ?_
      exact ⟨_, _, _, _, _, _, rfl, rfl, Or.inr (Or.inl ⟨‹_›, by omega, rfl, rfl, rfl, rfl, rfl, rfl⟩)⟩
  · refine J_aload_n d_Mo_feed_12 rfl 0 rfl ?_
    refine J_iconst d_Mo_feed_13 ?_
    refine J_callV (st := []) [Value.int (iI 1)] ms_Mo_91 rfl (c_Mo_refuse) rfl rfl ⟨Nat.le_of_ble_eq_true rfl, Nat.le_of_ble_eq_true rfl⟩ ⟨Nat.le_of_ble_eq_true rfl, Nat.le_of_ble_eq_true rfl⟩ (Nat.le_of_ble_eq_true rfl) d_Mo_feed_14 (fun v w' hp => ?_)
    obtain ⟨rfl, rfl⟩ := hp
    show J l D b Y_Mo_feed _ _ (ad, cM ad r lp 1 nr lf ln bd fd tm it wk dv ct nu mt c1 c2 td tt tc) 0 0 17 [(0, Value.ref (ad 0)), (1, Value.int (iI t))] [Value.int (iI 0)]
    refine J_iret rfl d_Mo_feed_17 ⟨Nat.le_of_ble_eq_true rfl, Nat.le_of_ble_eq_true rfl⟩ ?_
    exact ⟨_, _, _, _, _, _, rfl, rfl, Or.inl ⟨‹_›, rfl, rfl, rfl, rfl, rfl, rfl⟩⟩
end M4
