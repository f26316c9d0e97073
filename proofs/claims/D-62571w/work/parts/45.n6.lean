theorem cutV_mono {n c1 c2 i j k : Int} (hc : i ≤ c1 ∧ c1 ≤ c2 ∧ c2 ≤ j) (hn : n ≤ 3) (hk : 0 ≤ k ∧ k < n) : cutV n c1 c2 k i j ≤ cutV n c1 c2 (k + 1) i j := by
  unfold cutV
  by_cases k0 : k = 0
  · rw [if_pos k0, if_neg (by omega)]
    split
    · omega
    · split <;> omega
  · rw [if_neg k0, if_neg (by omega), if_neg (show ¬ k + 1 = 0 by omega)]
    by_cases k1 : k = 1
    · rw [if_pos k1]
      split
      · omega
      · rw [if_neg (by omega)]
        omega
    · rw [if_neg k1]
      split
      · omega
      · rw [if_neg (by omega)]
        omega
theorem WS.cuts {n i j : Int} {wb : Bool} {wc : Int → Int} {rest : List (Int × Int)} (h : WS n i j wb wc rest) (hij : i ≤ j) : ∃ c1 c2, WCut n c1 c2 i j wc ∧ (wb = true ∨ (wb = false ∧ c1 = i ∧ c2 = i)) ∧ (i ≤ c1 ∧ c1 ≤ c2 ∧ c2 ≤ j) ∧ ((wb = false ∧ rest = stS n i j) ∨ (wb = true ∧ rest = tlS n j c1 c2)) := by
  rcases h with ⟨h1, h2, h3⟩ | ⟨h1, c1, c2, h2, h3, h4⟩
  · exact ⟨i, i, h2, Or.inr ⟨h1, rfl, rfl⟩, by omega, Or.inl ⟨h1, h3⟩⟩
  · exact ⟨c1, c2, h3, Or.inl h1, h2, Or.inr ⟨h1, h4⟩⟩
theorem ws_step {n i j c1 c2 d1 d2 : Int} {wb m : Bool} {rest : List (Int × Int)} (hn : 0 ≤ n ∧ n ≤ 3) (hij : i ≤ j) (hr : (wb = false ∧ rest = stS n i j) ∨ (wb = true ∧ rest = tlS n j c1 c2)) (hc : i ≤ c1 ∧ c1 ≤ c2 ∧ c2 ≤ j) (h0 : wb = true → n = 0 → i = j) (h : (wb = false ∧ d1 = i ∧ d2 = i ∧ (m = true ↔ (0 < n ∨ i = j))) ∨ (wb = true ∧ Nxt n j c1 c2 m d1 d2)) :
    (m = false → rest = []) ∧ (m = true → rest = (d1, d2) :: tlS n j d1 d2 ∧ (i ≤ d1 ∧ d1 ≤ d2 ∧ d2 ≤ j) ∧ (n = 0 → i = j)) := by
  rcases h with ⟨h1, h2, h3, h4⟩ | ⟨h1, h2⟩
  · rcases hr with ⟨_, hr⟩ | ⟨g, _⟩
    · rw [hr]
      unfold stS
      refine ⟨fun e => ?_, fun e => ?_⟩
      · have : ¬ (0 < n ∨ i = j) := fun z => by
          rw [h4.mpr z] at e
          cases e
        rw [if_pos (by omega)]
      · have := h4.mp e
        rw [if_neg (by omega), h2, h3, sfx_cons]
        exact ⟨rfl, by omega, by omega⟩
    · rw [h1] at g
      cases g
  · rcases hr with ⟨g, _⟩ | ⟨_, hr⟩
    · rw [h1] at g
      cases g
    · rw [hr, tlS_nx h2 (by omega)]
      refine ⟨fun e => by rw [e]; rfl, fun e => ?_⟩
      rw [if_pos e, sfx_cons]
      exact ⟨rfl, nxt_rng h2 hc (by omega), h0 h1⟩
section N6
variable {l : Launch} {D : jD} {b : Nat} {w : jW} {ad : Nat → Nat} {r : Nat → Option jE} {lp : Bool} {fd : Int} {nr : Int} {nc : Int} {nd : Int} {mc : Int} {lf : Int → Int} {ln : Int → Int} {bd : Int → Int} {tm : Int → Int} {it : Int → Int → Int} {th : Int → Int → Bool} {my : Int → Int} {lps : Int → Int → Int} {em : Int → Int} {mk : Int → Int → Int} {tr : Int → Int → Int → Int} {wg : Bool} {wr : Value} {we : Int} {wc : Int → Int} {wb : Bool} {vg : Bool} {vr : Value} {ve : Int} {vc : Int → Int} {vb : Bool} {sy : Int → Int} {sf : Int → Int} {so : Int → Int} {st : Int → Int} {sn : Int} {ne : Int → Int} {mt : Int → Int → Bool}
set_option maxHeartbeats 4000000 in
theorem c_Wa_isWay  {q : Int} {i : Int} {j : Int} {c1 : Int} {c2 : Int} (hg : gOK nr lf ln bd) (htm : ∀ x, 0 ≤ x → x < 12 → -2147483648 ≤ tm x ∧ tm x ≤ 2147483647) (hmk : MkR mk) (hq : 0 ≤ q ∧ q < nr) (hij : 0 ≤ i ∧ i ≤ j ∧ j ≤ 12) (hc : WCut (ln q) c1 c2 i j wc) (hcr : i ≤ c1 ∧ c1 ≤ c2 ∧ c2 ≤ j) (h0 : ln q = 0 → i = j) : Ct l D b Y_Wa_isWay { frames := 1, cells := 0, slots := 0, locals := 23 } [Value.ref (ad 108)] (ad, cC ad r lp fd nr nr nr mc lf ln bd tm it th my lps em mk tr true (Value.ref (ad (idR q))) j wc wb vg vr ve vc vb sy sf so st sn ne mt) (fun v w' => v = some (.int (iI (bz (wayB tm (dvM mk) (ln q) (bsM bd q) c1 c2 i j)))) ∧ w' = (ad, cC ad r lp fd nr nr nr mc lf ln bd tm it th my lps em mk tr true (Value.ref (ad (idR q))) j wc wb vg vr ve vc vb sy sf so st sn ne mt)) := by
  refine Ct_of (by decide) (Nat.le_of_ble_eq_true rfl) ?_
  have hn := hg.1
  have hl := hg.2.2.1 q (by omega) (by omega)
  show J l D b Y_Wa_isWay _ _ (ad, cC ad r lp fd nr nr nr mc lf ln bd tm it th my lps em mk tr true (Value.ref (ad (idR q))) j wc wb vg vr ve vc vb sy sf so st sn ne mt) 0 0 0 [(0, Value.ref (ad 108))] []
  refine J_iconst d_Wa_isWay_0 ?_
  refine J_istore_n d_Wa_isWay_1 rfl (by decide) rfl ?_
  refine J.loop (σ := Int) (fun k => (0 ≤ k ∧ k ≤ ln q) ∧ (∀ y, 0 ≤ y → y < k → dsy tm (dvM mk) (bsM bd q y) (cutV (ln q) c1 c2 y i j) (cutV (ln q) c1 c2 (y + 1) i j) = true)) (fun k => (ln q - k).toNat) (ws := fun k => (ad, cC ad r lp fd nr nr nr mc lf ln bd tm it th my lps em mk tr true (Value.ref (ad (idR q))) j wc wb vg vr ve vc vb sy sf so st sn ne mt)) (ks := fun _ => 0) (ns := fun _ => 0) (lvs := fun k => [(1, Value.int (iI k)), (0, Value.ref (ad 108))]) (sts := fun _ => []) ?_ 0 ?_
  · rintro k hI ih1
    have hI : (0 ≤ k ∧ k ≤ ln q) ∧ (∀ y, 0 ≤ y → y < k → dsy tm (dvM mk) (bsM bd q y) (cutV (ln q) c1 c2 y i j) (cutV (ln q) c1 c2 (y + 1) i j) = true) := hI
    obtain ⟨hk, hall⟩ := hI
    show J l D b Y_Wa_isWay _ _ (ad, cC ad r lp fd nr nr nr mc lf ln bd tm it th my lps em mk tr true (Value.ref (ad (idR q))) j wc wb vg vr ve vc vb sy sf so st sn ne mt) 0 0 2 [(1, Value.int (iI k)), (0, Value.ref (ad 108))] []
    refine J_iload_n d_Wa_isWay_2 rfl 0 rfl ?_
    refine J_aload_n d_Wa_isWay_3 rfl 1 rfl ?_
    refine J_get (v := Value.ref (ad (idR q))) fs_Wa_19 rfl rfl d_Wa_isWay_4 ?_
    refine J_get fs_Wa_31 (hidR (k := q) (by omega) (by omega)) rfl d_Wa_isWay_7 ?_
    refine J_alenE (z := ln q) (hidB (k := q) (by omega) (by omega)) (by omega) d_Wa_isWay_10 ?_
    refine J_icmp_ge (tgt := 55) d_Wa_isWay_11 rfl (by omega) (by omega) (fun h11_2 => ?_) (fun h11_2 => ?_)
    · refine J_iconst d_Wa_isWay_55 ?_
      refine J.top (show Value.int (iI 1) = Value.int (iI (bz true)) from rfl) ?_
      refine J_zret rfl d_Wa_isWay_56 ⟨Nat.le_of_ble_eq_true rfl, Nat.le_of_ble_eq_true rfl⟩ ?_
      exact ⟨by rw [(wayB_n hl.1 hcr h0).mpr (fun y a1 a2 => hall y a1 (by omega))], rfl⟩
    · have hk1 := hc.at (k := k) hl (by omega) (by omega)
      have hk2 := hc.at (k := k + 1) hl (by omega) (by omega)
      have hr1 := cutV_rng (n := ln q) (k := k) hcr
      have hr2 := cutV_rng (n := ln q) (k := k + 1) hcr
      have hr3 := cutV_mono (k := k) hcr hl.2 (by omega)
      rw [← hk1] at hr1 hr3
      rw [← hk2] at hr2 hr3
      have hbk := hg.2.2.2.1 (3 * q + k) (by omega) (by omega)
      refine J_aload_n d_Wa_isWay_14 rfl 1 rfl ?_
      refine J_get (v := Value.ref (ad 100)) fs_Wa_15 rfl rfl d_Wa_isWay_15 ?_
      refine J_aload_n d_Wa_isWay_18 rfl 1 rfl ?_
      refine J_get (v := Value.ref (ad (idR q))) fs_Wa_19 rfl rfl d_Wa_isWay_19 ?_
      refine J_get fs_Wa_31 (hidR (k := q) (by omega) (by omega)) rfl d_Wa_isWay_22 ?_
      refine J_iload_n d_Wa_isWay_25 rfl 0 rfl ?_
      refine J_iald (hidB (k := q) (by omega) (by omega)) (by omega) (by omega) d_Wa_isWay_26 ?_
      refine J.topI (bq_in (by omega)) ?_
      refine J_aload_n d_Wa_isWay_27 rfl 1 rfl ?_
      refine J_get (v := Value.ref (ad 109)) fs_Wa_9 rfl rfl d_Wa_isWay_28 ?_
      refine J_iload_n d_Wa_isWay_31 rfl 0 rfl ?_
      refine J_iald rfl (by omega) (by decide) d_Wa_isWay_32 ?_
      refine J_aload_n d_Wa_isWay_33 rfl 1 rfl ?_
      refine J_get (v := Value.ref (ad 109)) fs_Wa_9 rfl rfl d_Wa_isWay_34 ?_
      refine J_iload_n d_Wa_isWay_37 rfl 0 rfl ?_
      refine J_iconst d_Wa_isWay_38 ?_
      refine J_iadd d_Wa_isWay_39 ?_
      refine J_iald rfl (by omega) (by decide) d_Wa_isWay_40 ?_
      refine J_callV (st := []) [Value.int (iI (bd (3 * q + k))), Value.int (iI (wc k)), Value.int (iI (wc (k + 1)))] ms_Wa_36 rfl (c_CF_derives htm hmk (by omega) (by omega)) rfl rfl ⟨Nat.le_of_ble_eq_true rfl, Nat.le_of_ble_eq_true rfl⟩ ⟨Nat.le_of_ble_eq_true rfl, Nat.le_of_ble_eq_true rfl⟩ (Nat.le_of_ble_eq_true rfl) d_Wa_isWay_41 (fun v w' hp => ?_)
      obtain ⟨rfl, rfl⟩ := hp
      show J l D b Y_Wa_isWay _ _ (ad, cC ad r lp fd nr nr nr mc lf ln bd tm it th my lps em mk tr true (Value.ref (ad (idR q))) j wc wb vg vr ve vc vb sy sf so st sn ne mt) 0 0 44 [(1, Value.int (iI k)), (0, Value.ref (ad 108))] [Value.int (iI (bz (dsy tm (dvM mk) (bd (3 * q + k)) (wc k) (wc (k + 1)))))]
      refine J_ifB_ne (tgt := 49) d_Wa_isWay_44 rfl (fun h44_4 => ?_) (fun h44_4 => ?_)
      · refine J_iinc (j := 0) d_Wa_isWay_49 rfl (by decide) rfl ?_
        refine J_goto (tgt := 2) d_Wa_isWay_52 rfl ?_
        exact ih1 (k + 1) (show (0 ≤ (k + 1) ∧ (k + 1) ≤ ln q) ∧ (∀ y, 0 ≤ y → y < (k + 1) → dsy tm (dvM mk) (bsM bd q y) (cutV (ln q) c1 c2 y i j) (cutV (ln q) c1 c2 (y + 1) i j) = true) by
            refine ⟨by omega, fun y a b => ?_⟩
            by_cases hy : y = k
            · rw [hy, ← hk1, ← hk2]
              assumption
            · exact hall y a (by omega)) (show ((ln q - (k + 1)).toNat) < ((ln q - k).toNat) by
            omega)
      · refine J_iconst d_Wa_isWay_47 ?_
        refine J.top (show Value.int (iI 0) = Value.int (iI (bz false)) from rfl) ?_
        refine J_zret rfl d_Wa_isWay_48 ⟨Nat.le_of_ble_eq_true rfl, Nat.le_of_ble_eq_true rfl⟩ ?_
        refine ⟨?_, rfl⟩
        cases hw : wayB tm (dvM mk) (ln q) (bsM bd q) c1 c2 i j with
        | false => rfl
        | true =>
          have := (wayB_n hl.1 hcr h0).mp hw k (by omega) (by omega)
          rw [← hk1, ← hk2] at this
          have h9 : dsy tm (dvM mk) (bd (3 * q + k)) (wc k) (wc (k + 1)) = false := ‹_›
          rw [show bsM bd q k = bd (3 * q + k) from rfl, h9] at this
          cases this
  · show (0 ≤ (0 : Int) ∧ (0 : Int) ≤ ln q) ∧ (∀ y, 0 ≤ y → y < (0 : Int) → dsy tm (dvM mk) (bsM bd q y) (cutV (ln q) c1 c2 y i j) (cutV (ln q) c1 c2 (y + 1) i j) = true)
    exact ⟨by omega, fun y a b => by omega⟩
set_option maxHeartbeats 4000000 in
theorem c_Wa_next  {q : Int} {i : Int} {j : Int} {rest : List (Int × Int)} (hg : gOK nr lf ln bd) (htm : ∀ x, 0 ≤ x → x < 12 → -2147483648 ≤ tm x ∧ tm x ≤ 2147483647) (hmk : MkR mk) (hq : 0 ≤ q ∧ q < nr) (hij : 0 ≤ i ∧ i ≤ j ∧ j ≤ 12) (hW : WS (ln q) i j wb wc rest) (hz0 : wb = true → ln q = 0 → i = j) : Ct l D b Y_Wa_next { frames := 2, cells := 0, slots := 0, locals := 44 } [Value.ref (ad 108)] (ad, cC ad r lp fd nr nr nr mc lf ln bd tm it th my lps em mk tr true (Value.ref (ad (idR q))) j wc wb vg vr ve vc vb sy sf so st sn ne mt) (fun v w' => ∃ z cu, v = some (.int (iI (bz z))) ∧ w' = (ad, cC ad r lp fd nr nr nr mc lf ln bd tm it th my lps em mk tr true (Value.ref (ad (idR q))) j cu true vg vr ve vc vb sy sf so st sn ne mt) ∧ ((z = false ∧ fwL (fun p => wayB tm (dvM mk) (ln q) (bsM bd q) p.1 p.2 i j) rest = none) ∨ (z = true ∧ ∃ p l, fwL (fun p => wayB tm (dvM mk) (ln q) (bsM bd q) p.1 p.2 i j) rest = some (p, l) ∧ WA (ln q) i j cu p ∧ l = tlS (ln q) j p.1 p.2))) := by
  refine Ct_of (by decide) (Nat.le_of_ble_eq_true rfl) ?_
  have hn := hg.1
  have hl := hg.2.2.1 q (by omega) (by omega)
  show J l D b Y_Wa_next _ _ (ad, cC ad r lp fd nr nr nr mc lf ln bd tm it th my lps em mk tr true (Value.ref (ad (idR q))) j wc wb vg vr ve vc vb sy sf so st sn ne mt) 0 0 0 [(0, Value.ref (ad 108))] []
  refine J.loop (σ := Bool × (Int → Int) × List (Int × Int)) (fun xx_ => match xx_ with | (b1, cu, rs1) => (WS (ln q) i j b1 cu rs1) ∧ (fwL (fun p => wayB tm (dvM mk) (ln q) (bsM bd q) p.1 p.2 i j) rest = fwL (fun p => wayB tm (dvM mk) (ln q) (bsM bd q) p.1 p.2 i j) rs1) ∧ (b1 = true → ln q = 0 → i = j)) (fun xx_ => match xx_ with | (b1, cu, rs1) => rs1.length) (ws := fun xx_ => match xx_ with | (b1, cu, rs1) => (ad, cC ad r lp fd nr nr nr mc lf ln bd tm it th my lps em mk tr true (Value.ref (ad (idR q))) j cu b1 vg vr ve vc vb sy sf so st sn ne mt)) (ks := fun _ => 0) (ns := fun _ => 0) (lvs := fun xx_ => match xx_ with | (b1, cu, rs1) => [(0, Value.ref (ad 108))]) (sts := fun _ => []) ?_ (wb, wc, rest) ?_
  · rintro ⟨b1, cu, rs1⟩ hI ih1
    have hI : (WS (ln q) i j b1 cu rs1) ∧ (fwL (fun p => wayB tm (dvM mk) (ln q) (bsM bd q) p.1 p.2 i j) rest = fwL (fun p => wayB tm (dvM mk) (ln q) (bsM bd q) p.1 p.2 i j) rs1) ∧ (b1 = true → ln q = 0 → i = j) := hI
    obtain ⟨hWS, hfw, hz⟩ := hI
    show J l D b Y_Wa_next _ _ (ad, cC ad r lp fd nr nr nr mc lf ln bd tm it th my lps em mk tr true (Value.ref (ad (idR q))) j cu b1 vg vr ve vc vb sy sf so st sn ne mt) 0 0 0 [(0, Value.ref (ad 108))] []
    obtain ⟨c1, c2, hWc, hWb, hWr, hrr⟩ := hWS.cuts (by omega)
    refine J_aload_n d_Wa_next_0 rfl 0 rfl ?_
    refine J_callV (st := []) [] ms_Wa_40 rfl (c_Wa_step hg (by omega) (by omega) hWc hWb hWr) rfl rfl ⟨Nat.le_of_ble_eq_true rfl, Nat.le_of_ble_eq_true rfl⟩ ⟨Nat.le_of_ble_eq_true rfl, Nat.le_of_ble_eq_true rfl⟩ (Nat.le_of_ble_eq_true rfl) d_Wa_next_1 (fun v w' hp => ?_)
    obtain ⟨m2, d12, d22, cu2, rfl, rfl, hC2, hN2⟩ := hp
    show J l D b Y_Wa_next _ _ (ad, cC ad r lp fd nr nr nr mc lf ln bd tm it th my lps em mk tr true (Value.ref (ad (idR q))) j cu2 true vg vr ve vc vb sy sf so st sn ne mt) 0 0 4 [(0, Value.ref (ad 108))] [Value.int (iI (bz m2))]
    have hst := ws_step hl (by omega) hrr hWr hz hN2
    refine J_ifB_eq (tgt := 16) d_Wa_next_4 rfl (fun h4_3 => ?_) (fun h4_3 => ?_)
    · refine J_iconst d_Wa_next_16 ?_
      refine J.top (show Value.int (iI 0) = Value.int (iI (bz false)) from rfl) ?_
      refine J_zret rfl d_Wa_next_17 ⟨Nat.le_of_ble_eq_true rfl, Nat.le_of_ble_eq_true rfl⟩ ?_
      refine ⟨false, _, rfl, rfl, Or.inl ⟨rfl, ?_⟩⟩
      rw [hfw, hst.1 ‹_›]
      rfl
    · obtain ⟨hre, hWB, hWC⟩ := hst.2 ‹_›
      have hWA := hC2
      refine J_aload_n d_Wa_next_7 rfl 0 rfl ?_
      refine J_callV (st := []) [] ms_Wa_44 rfl (c_Wa_isWay hg htm hmk (by omega) (by omega) hWA hWB hWC) rfl rfl ⟨Nat.le_of_ble_eq_true rfl, Nat.le_of_ble_eq_true rfl⟩ ⟨Nat.le_of_ble_eq_true rfl, Nat.le_of_ble_eq_true rfl⟩ (Nat.le_of_ble_eq_true rfl) d_Wa_next_8 (fun v w' hp => ?_)
      obtain ⟨rfl, rfl⟩ := hp
      show J l D b Y_Wa_next _ _ (ad, cC ad r lp fd nr nr nr mc lf ln bd tm it th my lps em mk tr true (Value.ref (ad (idR q))) j cu2 true vg vr ve vc vb sy sf so st sn ne mt) 0 0 11 [(0, Value.ref (ad 108))] [Value.int (iI (bz (wayB tm (dvM mk) (ln q) (bsM bd q) d12 d22 i j)))]
      refine J_ifB_eq (tgt := 0) d_Wa_next_11 rfl (fun h11_5 => ?_) (fun h11_5 => ?_)
      · exact ih1 (true, cu2, tlS (ln q) j d12 d22) (show (WS (ln q) i j true cu2 (tlS (ln q) j d12 d22)) ∧ (fwL (fun p => wayB tm (dvM mk) (ln q) (bsM bd q) p.1 p.2 i j) rest = fwL (fun p => wayB tm (dvM mk) (ln q) (bsM bd q) p.1 p.2 i j) (tlS (ln q) j d12 d22)) ∧ (true = true → ln q = 0 → i = j) by
            refine ⟨Or.inr ⟨rfl, _, _, hWB, hWA, rfl⟩, ?_, fun _ => hWC⟩
            rw [hfw, hre, fwL_cons, if_neg (by rw [‹wayB _ _ _ _ _ _ _ _ = false›]; decide)]) (show ((tlS (ln q) j d12 d22).length) < (rs1.length) by
            rw [hre, List.length_cons]
            omega)
      · refine J_iconst d_Wa_next_14 ?_
        refine J.top (show Value.int (iI 1) = Value.int (iI (bz true)) from rfl) ?_
        refine J_zret rfl d_Wa_next_15 ⟨Nat.le_of_ble_eq_true rfl, Nat.le_of_ble_eq_true rfl⟩ ?_
        refine ⟨true, _, rfl, rfl, Or.inr ⟨rfl, (d12, d22), tlS (ln q) j d12 d22, ?_, ⟨hWB, hWA, hWC⟩, rfl⟩⟩
        rw [hfw, hre, fwL_cons, if_pos ‹_›]
  · show (WS (ln q) i j wb wc rest) ∧ (fwL (fun p => wayB tm (dvM mk) (ln q) (bsM bd q) p.1 p.2 i j) rest = fwL (fun p => wayB tm (dvM mk) (ln q) (bsM bd q) p.1 p.2 i j) rest) ∧ (wb = true → ln q = 0 → i = j)
    exact ⟨hW, rfl, hz0⟩
set_option maxHeartbeats 4000000 in
theorem c_Wa_isWayV  {q : Int} {i : Int} {j : Int} {c1 : Int} {c2 : Int} (hg : gOK nr lf ln bd) (htm : ∀ x, 0 ≤ x → x < 12 → -2147483648 ≤ tm x ∧ tm x ≤ 2147483647) (hmk : MkR mk) (hq : 0 ≤ q ∧ q < nr) (hij : 0 ≤ i ∧ i ≤ j ∧ j ≤ 12) (hc : WCut (ln q) c1 c2 i j vc) (hcr : i ≤ c1 ∧ c1 ≤ c2 ∧ c2 ≤ j) (h0 : ln q = 0 → i = j) : Ct l D b Y_Wa_isWay { frames := 1, cells := 0, slots := 0, locals := 23 } [Value.ref (ad 110)] (ad, cC ad r lp fd nr nr nr mc lf ln bd tm it th my lps em mk tr wg wr we wc wb true (Value.ref (ad (idR q))) j vc vb sy sf so st sn ne mt) (fun v w' => v = some (.int (iI (bz (wayB tm (dvM mk) (ln q) (bsM bd q) c1 c2 i j)))) ∧ w' = (ad, cC ad r lp fd nr nr nr mc lf ln bd tm it th my lps em mk tr wg wr we wc wb true (Value.ref (ad (idR q))) j vc vb sy sf so st sn ne mt)) := by
  refine Ct_of (by decide) (Nat.le_of_ble_eq_true rfl) ?_
  have hn := hg.1
  have hl := hg.2.2.1 q (by omega) (by omega)
  show J l D b Y_Wa_isWay _ _ (ad, cC ad r lp fd nr nr nr mc lf ln bd tm it th my lps em mk tr wg wr we wc wb true (Value.ref (ad (idR q))) j vc vb sy sf so st sn ne mt) 0 0 0 [(0, Value.ref (ad 110))] []
  refine J_iconst d_Wa_isWay_0 ?_
  refine J_istore_n d_Wa_isWay_1 rfl (by decide) rfl ?_
  refine J.loop (σ := Int) (fun k => (0 ≤ k ∧ k ≤ ln q) ∧ (∀ y, 0 ≤ y → y < k → dsy tm (dvM mk) (bsM bd q y) (cutV (ln q) c1 c2 y i j) (cutV (ln q) c1 c2 (y + 1) i j) = true)) (fun k => (ln q - k).toNat) (ws := fun k => (ad, cC ad r lp fd nr nr nr mc lf ln bd tm it th my lps em mk tr wg wr we wc wb true (Value.ref (ad (idR q))) j vc vb sy sf so st sn ne mt)) (ks := fun _ => 0) (ns := fun _ => 0) (lvs := fun k => [(1, Value.int (iI k)), (0, Value.ref (ad 110))]) (sts := fun _ => []) ?_ 0 ?_
  · rintro k hI ih1
    have hI : (0 ≤ k ∧ k ≤ ln q) ∧ (∀ y, 0 ≤ y → y < k → dsy tm (dvM mk) (bsM bd q y) (cutV (ln q) c1 c2 y i j) (cutV (ln q) c1 c2 (y + 1) i j) = true) := hI
    obtain ⟨hk, hall⟩ := hI
    show J l D b Y_Wa_isWay _ _ (ad, cC ad r lp fd nr nr nr mc lf ln bd tm it th my lps em mk tr wg wr we wc wb true (Value.ref (ad (idR q))) j vc vb sy sf so st sn ne mt) 0 0 2 [(1, Value.int (iI k)), (0, Value.ref (ad 110))] []
    refine J_iload_n d_Wa_isWay_2 rfl 0 rfl ?_
    refine J_aload_n d_Wa_isWay_3 rfl 1 rfl ?_
    refine J_get (v := Value.ref (ad (idR q))) fs_Wa_19 rfl rfl d_Wa_isWay_4 ?_
    refine J_get fs_Wa_31 (hidR (k := q) (by omega) (by omega)) rfl d_Wa_isWay_7 ?_
    refine J_alenE (z := ln q) (hidB (k := q) (by omega) (by omega)) (by omega) d_Wa_isWay_10 ?_
    refine J_icmp_ge (tgt := 55) d_Wa_isWay_11 rfl (by omega) (by omega) (fun h11_2 => ?_) (fun h11_2 => ?_)
    · refine J_iconst d_Wa_isWay_55 ?_
      refine J.top (show Value.int (iI 1) = Value.int (iI (bz true)) from rfl) ?_
      refine J_zret rfl d_Wa_isWay_56 ⟨Nat.le_of_ble_eq_true rfl, Nat.le_of_ble_eq_true rfl⟩ ?_
      exact ⟨by rw [(wayB_n hl.1 hcr h0).mpr (fun y a1 a2 => hall y a1 (by omega))], rfl⟩
    · have hk1 := hc.at (k := k) hl (by omega) (by omega)
      have hk2 := hc.at (k := k + 1) hl (by omega) (by omega)
      have hr1 := cutV_rng (n := ln q) (k := k) hcr
      have hr2 := cutV_rng (n := ln q) (k := k + 1) hcr
      have hr3 := cutV_mono (k := k) hcr hl.2 (by omega)
      rw [← hk1] at hr1 hr3
      rw [← hk2] at hr2 hr3
      have hbk := hg.2.2.2.1 (3 * q + k) (by omega) (by omega)
      refine J_aload_n d_Wa_isWay_14 rfl 1 rfl ?_
      refine J_get (v := Value.ref (ad 100)) fs_Wa_15 rfl rfl d_Wa_isWay_15 ?_
      refine J_aload_n d_Wa_isWay_18 rfl 1 rfl ?_
      refine J_get (v := Value.ref (ad (idR q))) fs_Wa_19 rfl rfl d_Wa_isWay_19 ?_
      refine J_get fs_Wa_31 (hidR (k := q) (by omega) (by omega)) rfl d_Wa_isWay_22 ?_
      refine J_iload_n d_Wa_isWay_25 rfl 0 rfl ?_
      refine J_iald (hidB (k := q) (by omega) (by omega)) (by omega) (by omega) d_Wa_isWay_26 ?_
      refine J.topI (bq_in (by omega)) ?_
      refine J_aload_n d_Wa_isWay_27 rfl 1 rfl ?_
      refine J_get (v := Value.ref (ad 111)) fs_Wa_9 rfl rfl d_Wa_isWay_28 ?_
      refine J_iload_n d_Wa_isWay_31 rfl 0 rfl ?_
      refine J_iald rfl (by omega) (by decide) d_Wa_isWay_32 ?_
      refine J_aload_n d_Wa_isWay_33 rfl 1 rfl ?_
      refine J_get (v := Value.ref (ad 111)) fs_Wa_9 rfl rfl d_Wa_isWay_34 ?_
      refine J_iload_n d_Wa_isWay_37 rfl 0 rfl ?_
      refine J_iconst d_Wa_isWay_38 ?_
      refine J_iadd d_Wa_isWay_39 ?_
      refine J_iald rfl (by omega) (by decide) d_Wa_isWay_40 ?_
      refine J_callV (st := []) [Value.int (iI (bd (3 * q + k))), Value.int (iI (vc k)), Value.int (iI (vc (k + 1)))] ms_Wa_36 rfl (c_CF_derives htm hmk (by omega) (by omega)) rfl rfl ⟨Nat.le_of_ble_eq_true rfl, Nat.le_of_ble_eq_true rfl⟩ ⟨Nat.le_of_ble_eq_true rfl, Nat.le_of_ble_eq_true rfl⟩ (Nat.le_of_ble_eq_true rfl) d_Wa_isWay_41 (fun v w' hp => ?_)
      obtain ⟨rfl, rfl⟩ := hp
      show J l D b Y_Wa_isWay _ _ (ad, cC ad r lp fd nr nr nr mc lf ln bd tm it th my lps em mk tr wg wr we wc wb true (Value.ref (ad (idR q))) j vc vb sy sf so st sn ne mt) 0 0 44 [(1, Value.int (iI k)), (0, Value.ref (ad 110))] [Value.int (iI (bz (dsy tm (dvM mk) (bd (3 * q + k)) (vc k) (vc (k + 1)))))]
      refine J_ifB_ne (tgt := 49) d_Wa_isWay_44 rfl (fun h44_4 => ?_) (fun h44_4 => ?_)
      · refine J_iinc (j := 0) d_Wa_isWay_49 rfl (by decide) rfl ?_
        refine J_goto (tgt := 2) d_Wa_isWay_52 rfl ?_
        exact ih1 (k + 1) (show (0 ≤ (k + 1) ∧ (k + 1) ≤ ln q) ∧ (∀ y, 0 ≤ y → y < (k + 1) → dsy tm (dvM mk) (bsM bd q y) (cutV (ln q) c1 c2 y i j) (cutV (ln q) c1 c2 (y + 1) i j) = true) by
            refine ⟨by omega, fun y a b => ?_⟩
            by_cases hy : y = k
            · rw [hy, ← hk1, ← hk2]
              assumption
            · exact hall y a (by omega)) (show ((ln q - (k + 1)).toNat) < ((ln q - k).toNat) by
            omega)
      · refine J_iconst d_Wa_isWay_47 ?_
        refine J.top (show Value.int (iI 0) = Value.int (iI (bz false)) from rfl) ?_
        refine J_zret rfl d_Wa_isWay_48 ⟨Nat.le_of_ble_eq_true rfl, Nat.le_of_ble_eq_true rfl⟩ ?_
        refine ⟨?_, rfl⟩
        cases hw : wayB tm (dvM mk) (ln q) (bsM bd q) c1 c2 i j with
        | false => rfl
        | true =>
          have := (wayB_n hl.1 hcr h0).mp hw k (by omega) (by omega)
          rw [← hk1, ← hk2] at this
          have h9 : dsy tm (dvM mk) (bd (3 * q + k)) (vc k) (vc (k + 1)) = false := ‹_›
          rw [show bsM bd q k = bd (3 * q + k) from rfl, h9] at this
          cases this
  · show (0 ≤ (0 : Int) ∧ (0 : Int) ≤ ln q) ∧ (∀ y, 0 ≤ y → y < (0 : Int) → dsy tm (dvM mk) (bsM bd q y) (cutV (ln q) c1 c2 y i j) (cutV (ln q) c1 c2 (y + 1) i j) = true)
    exact ⟨by omega, fun y a b => by omega⟩
set_option maxHeartbeats 4000000 in
theorem c_Wa_nextV  {q : Int} {i : Int} {j : Int} {rest : List (Int × Int)} (hg : gOK nr lf ln bd) (htm : ∀ x, 0 ≤ x → x < 12 → -2147483648 ≤ tm x ∧ tm x ≤ 2147483647) (hmk : MkR mk) (hq : 0 ≤ q ∧ q < nr) (hij : 0 ≤ i ∧ i ≤ j ∧ j ≤ 12) (hW : WS (ln q) i j vb vc rest) (hz0 : vb = true → ln q = 0 → i = j) : Ct l D b Y_Wa_next { frames := 2, cells := 0, slots := 0, locals := 44 } [Value.ref (ad 110)] (ad, cC ad r lp fd nr nr nr mc lf ln bd tm it th my lps em mk tr wg wr we wc wb true (Value.ref (ad (idR q))) j vc vb sy sf so st sn ne mt) (fun v w' => ∃ z cu, v = some (.int (iI (bz z))) ∧ w' = (ad, cC ad r lp fd nr nr nr mc lf ln bd tm it th my lps em mk tr wg wr we wc wb true (Value.ref (ad (idR q))) j cu true sy sf so st sn ne mt) ∧ ((z = false ∧ fwL (fun p => wayB tm (dvM mk) (ln q) (bsM bd q) p.1 p.2 i j) rest = none) ∨ (z = true ∧ ∃ p l, fwL (fun p => wayB tm (dvM mk) (ln q) (bsM bd q) p.1 p.2 i j) rest = some (p, l) ∧ WA (ln q) i j cu p ∧ l = tlS (ln q) j p.1 p.2))) := by
  refine Ct_of (by decide) (Nat.le_of_ble_eq_true rfl) ?_
  have hn := hg.1
  have hl := hg.2.2.1 q (by omega) (by omega)
  show J l D b Y_Wa_next _ _ (ad, cC ad r lp fd nr nr nr mc lf ln bd tm it th my lps em mk tr wg wr we wc wb true (Value.ref (ad (idR q))) j vc vb sy sf so st sn ne mt) 0 0 0 [(0, Value.ref (ad 110))] []
  refine J.loop (σ := Bool × (Int → Int) × List (Int × Int)) (fun xx_ => match xx_ with | (b1, cu, rs1) => (WS (ln q) i j b1 cu rs1) ∧ (fwL (fun p => wayB tm (dvM mk) (ln q) (bsM bd q) p.1 p.2 i j) rest = fwL (fun p => wayB tm (dvM mk) (ln q) (bsM bd q) p.1 p.2 i j) rs1) ∧ (b1 = true → ln q = 0 → i = j)) (fun xx_ => match xx_ with | (b1, cu, rs1) => rs1.length) (ws := fun xx_ => match xx_ with | (b1, cu, rs1) => (ad, cC ad r lp fd nr nr nr mc lf ln bd tm it th my lps em mk tr wg wr we wc wb true (Value.ref (ad (idR q))) j cu b1 sy sf so st sn ne mt)) (ks := fun _ => 0) (ns := fun _ => 0) (lvs := fun xx_ => match xx_ with | (b1, cu, rs1) => [(0, Value.ref (ad 110))]) (sts := fun _ => []) ?_ (vb, vc, rest) ?_
  · rintro ⟨b1, cu, rs1⟩ hI ih1
    have hI : (WS (ln q) i j b1 cu rs1) ∧ (fwL (fun p => wayB tm (dvM mk) (ln q) (bsM bd q) p.1 p.2 i j) rest = fwL (fun p => wayB tm (dvM mk) (ln q) (bsM bd q) p.1 p.2 i j) rs1) ∧ (b1 = true → ln q = 0 → i = j) := hI
    obtain ⟨hWS, hfw, hz⟩ := hI
    show J l D b Y_Wa_next _ _ (ad, cC ad r lp fd nr nr nr mc lf ln bd tm it th my lps em mk tr wg wr we wc wb true (Value.ref (ad (idR q))) j cu b1 sy sf so st sn ne mt) 0 0 0 [(0, Value.ref (ad 110))] []
    obtain ⟨c1, c2, hWc, hWb, hWr, hrr⟩ := hWS.cuts (by omega)
    refine J_aload_n d_Wa_next_0 rfl 0 rfl ?_
    refine J_callV (st := []) [] ms_Wa_40 rfl (c_Wa_stepV hg (by omega) (by omega) hWc hWb hWr) rfl rfl ⟨Nat.le_of_ble_eq_true rfl, Nat.le_of_ble_eq_true rfl⟩ ⟨Nat.le_of_ble_eq_true rfl, Nat.le_of_ble_eq_true rfl⟩ (Nat.le_of_ble_eq_true rfl) d_Wa_next_1 (fun v w' hp => ?_)
    obtain ⟨m2, d12, d22, cu2, rfl, rfl, hC2, hN2⟩ := hp
    show J l D b Y_Wa_next _ _ (ad, cC ad r lp fd nr nr nr mc lf ln bd tm it th my lps em mk tr wg wr we wc wb true (Value.ref (ad (idR q))) j cu2 true sy sf so st sn ne mt) 0 0 4 [(0, Value.ref (ad 110))] [Value.int (iI (bz m2))]
    have hst := ws_step hl (by omega) hrr hWr hz hN2
    refine J_ifB_eq (tgt := 16) d_Wa_next_4 rfl (fun h4_3 => ?_) (fun h4_3 => ?_)
    · refine J_iconst d_Wa_next_16 ?_
      refine J.top (show Value.int (iI 0) = Value.int (iI (bz false)) from rfl) ?_
      refine J_zret rfl d_Wa_next_17 ⟨Nat.le_of_ble_eq_true rfl, Nat.le_of_ble_eq_true rfl⟩ ?_
      refine ⟨false, _, rfl, rfl, Or.inl ⟨rfl, ?_⟩⟩
      rw [hfw, hst.1 ‹_›]
      rfl
    · obtain ⟨hre, hWB, hWC⟩ := hst.2 ‹_›
      have hWA := hC2
      refine J_aload_n d_Wa_next_7 rfl 0 rfl ?_
      refine J_callV (st := []) [] ms_Wa_44 rfl (c_Wa_isWayV hg htm hmk (by omega) (by omega) hWA hWB hWC) rfl rfl ⟨Nat.le_of_ble_eq_true rfl, Nat.le_of_ble_eq_true rfl⟩ ⟨Nat.le_of_ble_eq_true rfl, Nat.le_of_ble_eq_true rfl⟩ (Nat.le_of_ble_eq_true rfl) d_Wa_next_8 (fun v w' hp => ?_)
      obtain ⟨rfl, rfl⟩ := hp
      show J l D b Y_Wa_next _ _ (ad, cC ad r lp fd nr nr nr mc lf ln bd tm it th my lps em mk tr wg wr we wc wb true (Value.ref (ad (idR q))) j cu2 true sy sf so st sn ne mt) 0 0 11 [(0, Value.ref (ad 110))] [Value.int (iI (bz (wayB tm (dvM mk) (ln q) (bsM bd q) d12 d22 i j)))]
      refine J_ifB_eq (tgt := 0) d_Wa_next_11 rfl (fun h11_5 => ?_) (fun h11_5 => ?_)
      · exact ih1 (true, cu2, tlS (ln q) j d12 d22) (show (WS (ln q) i j true cu2 (tlS (ln q) j d12 d22)) ∧ (fwL (fun p => wayB tm (dvM mk) (ln q) (bsM bd q) p.1 p.2 i j) rest = fwL (fun p => wayB tm (dvM mk) (ln q) (bsM bd q) p.1 p.2 i j) (tlS (ln q) j d12 d22)) ∧ (true = true → ln q = 0 → i = j) by
            refine ⟨Or.inr ⟨rfl, _, _, hWB, hWA, rfl⟩, ?_, fun _ => hWC⟩
            rw [hfw, hre, fwL_cons, if_neg (by rw [‹wayB _ _ _ _ _ _ _ _ = false›]; decide)]) (show ((tlS (ln q) j d12 d22).length) < (rs1.length) by
            rw [hre, List.length_cons]
            omega)
      · refine J_iconst d_Wa_next_14 ?_
        refine J.top (show Value.int (iI 1) = Value.int (iI (bz true)) from rfl) ?_
        refine J_zret rfl d_Wa_next_15 ⟨Nat.le_of_ble_eq_true rfl, Nat.le_of_ble_eq_true rfl⟩ ?_
        refine ⟨true, _, rfl, rfl, Or.inr ⟨rfl, (d12, d22), tlS (ln q) j d12 d22, ?_, ⟨hWB, hWA, hWC⟩, rfl⟩⟩
        rw [hfw, hre, fwL_cons, if_pos ‹_›]
  · show (WS (ln q) i j vb vc rest) ∧ (fwL (fun p => wayB tm (dvM mk) (ln q) (bsM bd q) p.1 p.2 i j) rest = fwL (fun p => wayB tm (dvM mk) (ln q) (bsM bd q) p.1 p.2 i j) rest) ∧ (vb = true → ln q = 0 → i = j)
    exact ⟨hW, rfl, hz0⟩
end N6
