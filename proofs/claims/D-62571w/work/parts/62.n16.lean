section AD
variable {ad ad1 ad2 : Nat → Nat} {r : Nat → Option jE} {lp : Bool} {fd : Int} {nr : Int} {nc : Int} {nd : Int} {mc : Int} {lf : Int → Int} {ln : Int → Int} {bd : Int → Int} {tm : Int → Int} {it : Int → Int → Int} {th : Int → Int → Bool} {my : Int → Int} {lps : Int → Int → Int} {em : Int → Int} {mk : Int → Int → Int} {tr : Int → Int → Int → Int} {wg : Bool} {wr : Value} {we : Int} {wc : Int → Int} {wb : Bool} {vg : Bool} {vr : Value} {ve : Int} {vc : Int → Int} {vb : Bool} {sy : Int → Int} {sf : Int → Int} {so : Int → Int} {st : Int → Int} {sn : Int} {ne : Int → Int} {mt : Int → Int → Bool}
/-- the world names addresses only of its own cells -/
theorem cC_ad (h : ∀ x, (x < 200 ∨ 240 ≤ x ∨ (200 ≤ x ∧ x < 200 + nc.toNat) ∨ (220 ≤ x ∧ x < 220 + nc.toNat)) → ad1 x = ad x) (hnd : nd ≤ nc) (hnc : 0 ≤ nc ∧ nc ≤ 10) : cC ad1 r lp fd nr nc nd mc lf ln bd tm it th my lps em mk tr wg wr we wc wb vg vr ve vc vb sy sf so st sn ne mt = cC ad r lp fd nr nc nd mc lf ln bd tm it th my lps em mk tr wg wr we wc wb vg vr ve vc vb sy sf so st sn ne mt := by
  unfold cC
  congr 1
  · funext m
    match m with
    | 0 =>
      show some _ = some _
      rw [h 101 (by omega), h 103 (by omega), h 105 (by omega), h 106 (by omega), h 107 (by omega), h 108 (by omega), h 110 (by omega), h 112 (by omega), h 117 (by omega), h 118 (by omega)]
    | 1 =>
      show some _ = some _
      rw [h 102 (by omega)]
    | 2 => rfl
    | 3 =>
      show some _ = some _
      rw [h 104 (by omega)]
    | 4 =>
      show some _ = some _
      have : (fun j => elD ad1 nd j) = fun j => elD ad nd j := by
        funext j
        unfold elD
        by_cases hj : 0 ≤ j ∧ j < nd
        · rw [if_pos hj, if_pos hj, h (idR j) (by unfold idR; omega)]
        · rw [if_neg hj, if_neg hj]
      rw [this]
    | 5 =>
      show some _ = some _
      have : (fun j => Value.ref (ad1 (idS j))) = fun j => Value.ref (ad (idS j)) := by
        funext j
        rw [h (idS j) (by unfold idS; omega)]
      rw [this]
    | 6 => rfl
    | 7 =>
      show some _ = some _
      have : (fun j => Value.ref (ad1 (idC j))) = fun j => Value.ref (ad (idC j)) := by
        funext j
        rw [h (idC j) (by unfold idC; omega)]
      rw [this]
    | 8 =>
      show some _ = some _
      unfold wf
      rw [h 100 (by omega), h 109 (by omega)]
    | 9 => rfl
    | 10 =>
      show some _ = some _
      unfold wf
      rw [h 100 (by omega), h 111 (by omega)]
    | 11 => rfl
    | 12 =>
      show some _ = some _
      rw [h 113 (by omega), h 114 (by omega), h 115 (by omega), h 116 (by omega)]
    | 13 => rfl
    | 14 => rfl
    | 15 => rfl
    | 16 => rfl
    | 17 => rfl
    | 18 =>
      show some _ = some _
      have : (fun j => Value.ref (ad1 (idM j))) = fun j => Value.ref (ad (idM j)) := by
        funext j
        rw [h (idM j) (by unfold idM; omega)]
      rw [this]
    | m + 19 => rfl
  · unfold cG
    refine gg_congr2 (fun k k1 k2 => ?_) ?_
    · unfold fR
      by_cases hk : k < nc
      · rw [if_pos hk, if_pos hk, h (idB k) (by unfold idB; omega)]
      · rw [if_neg hk, if_neg hk]
    refine gg_congr2 (fun k k1 k2 => ?_) ?_
    · rfl
    refine gg_congr2 (fun k k1 k2 => ?_) ?_
    · unfold fS
      rw [h (idI k) (by unfold idI; omega), h (idT k) (by unfold idT; omega), h (idL k) (by unfold idL; omega)]
    refine gg_congr2 (fun k k1 k2 => ?_) ?_
    · rfl
    refine gg_congr2 (fun k k1 k2 => ?_) ?_
    · rfl
    refine gg_congr2 (fun k k1 k2 => ?_) ?_
    · rfl
    refine gg_congr2 (fun k k1 k2 => ?_) ?_
    · unfold fC
      rw [h (idK k) (by unfold idK; omega), h (idW k) (by unfold idW; omega)]
    refine gg_congr2 (fun k k1 k2 => ?_) ?_
    · rfl
    refine gg_congr2 (fun k k1 k2 => ?_) ?_
    · unfold fW
      have : (fun j => Value.ref (ad1 (idX k j))) = fun j => Value.ref (ad (idX k j)) := by
        funext j
        rw [h (idX k j) (by unfold idX; omega)]
      rw [this]
    refine gg_congr2 (fun k k1 k2 => ?_) ?_
    · rfl
    refine gg_congr2 (fun k k1 k2 => ?_) ?_
    · rfl
    rfl
theorem u_104 (h : 0 ≤ nd) : va_up (cC ad r lp fd nr nc nd mc lf ln bd tm it th my lps em mk tr wg wr we wc wb vg vr ve vc vb sy sf so st sn ne mt) 104 (some (.inl (8, 10, upI (fun j => elD ad nd j) nd (Value.ref (ad (idR nd)))))) = cC ad r lp fd nr nc (nd + 1) mc lf ln bd tm it th my lps em mk tr wg wr we wc wb vg vr ve vc vb sy sf so st sn ne mt := by
  have e : upI (fun j => elD ad nd j) nd (Value.ref (ad (idR nd))) = fun j => elD ad (nd + 1) j := by
    funext j
    unfold upI elD
    by_cases hj : j = nd
    · rw [if_pos hj, if_pos (by omega), hj]
    · rw [if_neg hj]
      show (if 0 ≤ j ∧ j < nd then Value.ref (ad (idR j)) else Value.null) = _
      by_cases hj2 : 0 ≤ j ∧ j < nd
      · rw [if_pos hj2, if_pos (by omega)]
      · rw [if_neg hj2, if_neg (by omega)]
  rw [e]
  unfold cC
  rw [show (104 : Nat) = 100 + 4 from rfl, cK_F (by decide)]
  congr
  funext m
  match m with
  | 0 => rfl
  | 1 => rfl
  | 2 => rfl
  | 3 => rfl
  | 4 => rfl
  | 5 => rfl
  | 6 => rfl
  | 7 => rfl
  | 8 => rfl
  | 9 => rfl
  | 10 => rfl
  | 11 => rfl
  | 12 => rfl
  | 13 => rfl
  | 14 => rfl
  | 15 => rfl
  | 16 => rfl
  | 17 => rfl
  | 18 => rfl
  | m + 19 => rfl
/-- a rule more -/
theorem cC_rule {p n y : Int} (hg : gOK nc lf ln bd) (hnc : 0 ≤ nc ∧ nc < 10) (hn : 0 ≤ n ∧ n ≤ 3) (hnd : nd ≤ nc) (h : ∀ x, x ≠ idB nc → ad2 x = ad1 x) : va_up (va_up (cC ad1 r lp fd nr nc nd mc lf ln bd tm it th my lps em mk tr wg wr we wc wb vg vr ve vc vb sy sf so st sn ne mt) (idR nc) (some (.inr (3, [Value.int (iI nc), Value.int (iI p), Value.ref (ad2 (idB nc))])))) (idB nc) (some (.inl (0, n.toNat, fun j => Value.int (iI (if 0 ≤ j ∧ j < n then sym y (4 * j) else 0))))) = cC ad2 r lp fd nr (nc + 1) nd mc (upI lf nc p) (upI ln nc n) (bdW bd nc y n) tm it th my lps em mk tr wg wr we wc wb vg vr ve vc vb sy sf so st sn ne mt := by
  rw [← cC_ad (ad := ad1) (ad1 := ad2) (fun x hx => h x (by show x ≠ 220 + nc.toNat; omega)) hnd (by omega)]
  show va_up (va_up (cC ad2 r lp fd nr nc nd mc lf ln bd tm it th my lps em mk tr wg wr we wc wb vg vr ve vc vb sy sf so st sn ne mt) (200 + nc.toNat) (some (.inr (3, [Value.int (iI nc), Value.int (iI p), Value.ref (ad2 (idB nc))])))) (220 + nc.toNat) (some (.inl (0, n.toNat, fun j => Value.int (iI (if 0 ≤ j ∧ j < n then sym y (4 * j) else 0))))) = cC ad2 r lp fd nr (nc + 1) nd mc (upI lf nc p) (upI ln nc n) (bdW bd nc y n) tm it th my lps em mk tr wg wr we wc wb vg vr ve vc vb sy sf so st sn ne mt
  unfold cC cG
  rw [cK_G (by omega), cK_G (by omega), gg_up (by omega), gg_skip (by omega), gg_up (by omega)]
  congr 1
  refine gg_congr2 (fun k k1 k2 => ?_) (gg_congr2 (fun k k1 k2 => ?_) rfl)
  · unfold fR
    rw [upI_ap]
    by_cases hk : k = nc
    · rw [if_pos hk, if_pos (by omega), hk, upI_self]
    · rw [if_neg hk, upI_ne _ _ hk]
      by_cases hk2 : k < nc
      · rw [if_pos hk2, if_pos (by omega)]
      · rw [if_neg hk2, if_neg (by omega)]
  · unfold fB
    rw [upI_ap]
    by_cases hk : k = nc
    · rw [if_pos hk, if_pos (by omega), hk, upI_self]
      have e : (fun j => Value.int (iI (if 0 ≤ j ∧ j < n then sym y (4 * j) else 0))) = fun j => Value.int (iI (bq (upI ln nc n) (bdW bd nc y n) nc j)) := by
        funext j
        unfold bq bdW
        rw [upI_self]
        by_cases hj : 0 ≤ j ∧ j < n
        · rw [if_pos hj, if_pos hj, if_pos (by omega), show 3 * nc + j - 3 * nc = j by omega]
        · rw [if_neg hj, if_neg hj]
      rw [e]
    · rw [if_neg hk, upI_ne _ _ hk]
      by_cases hk2 : k < nc
      · rw [if_pos hk2, if_pos (by omega)]
        have e : (fun j => Value.int (iI (bq ln bd k j))) = fun j => Value.int (iI (bq (upI ln nc n) (bdW bd nc y n) k j)) := by
          funext j
          unfold bq bdW
          rw [upI_ne _ _ hk]
          have hl := hg.2.2.1 k k1 (by omega)
          by_cases hj : 0 ≤ j ∧ j < ln k
          · rw [if_pos hj, if_pos hj, if_neg (by omega)]
          · rw [if_neg hj, if_neg hj]
        rw [e]
      · rw [if_neg hk2, if_neg (by omega)]
theorem cC_noR (h : 0 ≤ nc ∧ nc < 10) : cC ad r lp fd nr nc nd mc lf ln bd tm it th my lps em mk tr wg wr we wc wb vg vr ve vc vb sy sf so st sn ne mt (200 + nc.toNat) = none ∧ cC ad r lp fd nr nc nd mc lf ln bd tm it th my lps em mk tr wg wr we wc wb vg vr ve vc vb sy sf so st sn ne mt (220 + nc.toNat) = none := by
  unfold cC cG cK
  refine ⟨?_, ?_⟩
  · rw [if_neg (by omega), if_neg (by omega), gg_in (by omega)]
    exact if_neg (by omega)
  · rw [if_neg (by omega), if_neg (by omega), gg_out (by omega), gg_in (by omega)]
    exact if_neg (by omega)
end AD
section N16
variable {l : Launch} {D : jD} {b : Nat} {w : jW} {ad : Nat → Nat} {r : Nat → Option jE} {lp : Bool} {fd : Int} {nr : Int} {nc : Int} {nd : Int} {mc : Int} {lf : Int → Int} {ln : Int → Int} {bd : Int → Int} {tm : Int → Int} {it : Int → Int → Int} {th : Int → Int → Bool} {my : Int → Int} {lps : Int → Int → Int} {em : Int → Int} {mk : Int → Int → Int} {tr : Int → Int → Int → Int} {wg : Bool} {wr : Value} {we : Int} {wc : Int → Int} {wb : Bool} {vg : Bool} {vr : Value} {ve : Int} {vc : Int → Int} {vb : Bool} {sy : Int → Int} {sf : Int → Int} {so : Int → Int} {st : Int → Int} {sn : Int} {ne : Int → Int} {mt : Int → Int → Bool}
set_option maxHeartbeats 4000000 in
theorem c_Al_add2   (hn : 0 ≤ nr ∧ nr < 10) : Ct l D b Y_Al_add2 { frames := 0, cells := 0, slots := 0, locals := 0 } [Value.ref (ad 103), Value.ref (ad (idR nr)), Value.ref (ad 104), Value.int (iI nr)] (ad, cC ad r lp fd nr (nr + 1) nr mc lf ln bd tm it th my lps em mk tr wg wr we wc wb vg vr ve vc vb sy sf so st sn ne mt) (fun v w' => v = none ∧ w' = (ad, cC ad r lp fd (nr + 1) (nr + 1) (nr + 1) mc lf ln bd tm it th my lps em mk tr wg wr we wc wb vg vr ve vc vb sy sf so st sn ne mt)) := by
  refine Ct_of (by decide) (Nat.le_of_ble_eq_true rfl) ?_
  show J l D b Y_Al_add2 _ _ (ad, cC ad r lp fd nr (nr + 1) nr mc lf ln bd tm it th my lps em mk tr wg wr we wc wb vg vr ve vc vb sy sf so st sn ne mt) 0 0 0 [(0, Value.ref (ad 103)), (1, Value.ref (ad (idR nr))), (2, Value.ref (ad 104)), (3, Value.int (iI nr))] []
  refine J_iload_n d_Al_add2_0 rfl 3 rfl ?_
  refine J_aload_n d_Al_add2_1 rfl 2 rfl ?_
  refine J_alen rfl d_Al_add2_2 ?_
  refine J_icmp_ne (tgt := 11) d_Al_add2_3 rfl (by omega) (by omega) (fun h3_1 => ?_) (fun h3_1 => ?_)
  · refine J_aload_n d_Al_add2_11 rfl 2 rfl ?_
    refine J_iload_n d_Al_add2_12 rfl 3 rfl ?_
    refine J_aload_n d_Al_add2_13 rfl 1 rfl ?_
    refine J_aast rfl rfl (hidR (k := nr) (by omega) (by omega)) rfl (Or.inr ca_RuO) (by omega) (by decide) (u_104 (by omega)) d_Al_add2_14 ?_
    refine J_aload_n d_Al_add2_15 rfl 0 rfl ?_
    refine J_iload_n d_Al_add2_16 rfl 3 rfl ?_
    refine J_iconst d_Al_add2_17 ?_
    refine J_iadd d_Al_add2_18 ?_
    refine J_put fs_Al_48 rfl (Nat.le_of_ble_eq_true rfl) (fun _ h => by cases h; exact Or.inl rfl) rfl rfl u_103 d_Al_add2_19 ?_
    refine J_vret rfl d_Al_add2_22 ⟨Nat.le_of_ble_eq_true rfl, Nat.le_of_ble_eq_true rfl⟩ ?_
    exact ⟨rfl, rfl⟩
  · exact absurd h3_1 (by omega)
set_option maxHeartbeats 4000000 in
theorem c_Al_add   (hn : 0 ≤ nr ∧ nr < 10) : Ct l D b Y_Al_add { frames := 1, cells := 0, slots := 0, locals := 23 } [Value.ref (ad 103), Value.ref (ad (idR nr))] (ad, cC ad r lp fd nr (nr + 1) nr mc lf ln bd tm it th my lps em mk tr wg wr we wc wb vg vr ve vc vb sy sf so st sn ne mt) (fun v w' => v = some (.int (iI (bz true))) ∧ w' = (ad, cC ad r lp fd (nr + 1) (nr + 1) (nr + 1) (mc + 1) lf ln bd tm it th my lps em mk tr wg wr we wc wb vg vr ve vc vb sy sf so st sn ne mt)) := by
  refine Ct_of (by decide) (Nat.le_of_ble_eq_true rfl) ?_
  show J l D b Y_Al_add _ _ (ad, cC ad r lp fd nr (nr + 1) nr mc lf ln bd tm it th my lps em mk tr wg wr we wc wb vg vr ve vc vb sy sf so st sn ne mt) 0 0 0 [(0, Value.ref (ad 103)), (1, Value.ref (ad (idR nr)))] []
  refine J_aload_n d_Al_add_0 rfl 0 rfl ?_
  refine J_dup d_Al_add_1 rfl ?_
  refine J_get fs_Al_63 rfl rfl d_Al_add_2 ?_
  refine J_iconst d_Al_add_5 ?_
  refine J_iadd d_Al_add_6 ?_
  refine J_put fs_Al_63 rfl (Nat.le_of_ble_eq_true rfl) (fun _ h => by cases h; exact Or.inl rfl) rfl rfl u_103 d_Al_add_7 ?_
  refine J_aload_n d_Al_add_10 rfl 0 rfl ?_
  refine J_aload_n d_Al_add_11 rfl 1 rfl ?_
  refine J_aload_n d_Al_add_12 rfl 0 rfl ?_
  refine J_get fs_Al_9 rfl rfl d_Al_add_13 ?_
  refine J_aload_n d_Al_add_16 rfl 0 rfl ?_
  refine J_get fs_Al_48 rfl rfl d_Al_add_17 ?_
  refine J_callV (st := []) [Value.ref (ad (idR nr)), Value.ref (ad 104), Value.int (iI nr)] ms_Al_131 rfl (c_Al_add2 (by omega)) rfl rfl ⟨Nat.le_of_ble_eq_true rfl, Nat.le_of_ble_eq_true rfl⟩ ⟨Nat.le_of_ble_eq_true rfl, Nat.le_of_ble_eq_true rfl⟩ (Nat.le_of_ble_eq_true rfl) d_Al_add_20 (fun v w' hp => ?_)
  obtain ⟨rfl, rfl⟩ := hp
  show J l D b Y_Al_add _ _ (ad, cC ad r lp fd (nr + 1) (nr + 1) (nr + 1) (mc + 1) lf ln bd tm it th my lps em mk tr wg wr we wc wb vg vr ve vc vb sy sf so st sn ne mt) 0 0 23 [(0, Value.ref (ad 103)), (1, Value.ref (ad (idR nr)))] []
  refine J_iconst d_Al_add_23 ?_
  refine J.top (show Value.int (iI 1) = Value.int (iI (bz true)) from rfl) ?_
  refine J_zret rfl d_Al_add_24 ⟨Nat.le_of_ble_eq_true rfl, Nat.le_of_ble_eq_true rfl⟩ ?_
  exact ⟨rfl, rfl⟩
end N16
