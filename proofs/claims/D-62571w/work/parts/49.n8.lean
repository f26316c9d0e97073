section N8
variable {l : Launch} {D : jD} {b : Nat} {w : jW} {ad : Nat → Nat} {r : Nat → Option jE} {lp : Bool} {fd : Int} {nr : Int} {nc : Int} {nd : Int} {mc : Int} {lf : Int → Int} {ln : Int → Int} {bd : Int → Int} {tm : Int → Int} {it : Int → Int → Int} {th : Int → Int → Bool} {my : Int → Int} {lps : Int → Int → Int} {em : Int → Int} {mk : Int → Int → Int} {tr : Int → Int → Int → Int} {wg : Bool} {wr : Value} {we : Int} {wc : Int → Int} {wb : Bool} {vg : Bool} {vr : Value} {ve : Int} {vc : Int → Int} {vb : Bool} {sy : Int → Int} {sf : Int → Int} {so : Int → Int} {st : Int → Int} {sn : Int} {ne : Int → Int} {mt : Int → Int → Bool}
set_option maxHeartbeats 4000000 in
theorem c_CF_ways {s : Int} {i : Int} {j : Int}  (hg : gOK nr lf ln bd) (htm : ∀ x, 0 ≤ x → x < 12 → -2147483648 ≤ tm x ∧ tm x ≤ 2147483647) (hmk : MkR mk) (hf : 0 ≤ fd ∧ fd ≤ 12) (hs : 0 ≤ s ∧ s ≤ 4) (hij : 0 ≤ i ∧ i ≤ j ∧ j ≤ fd) : Ct l D b Y_CF_ways { frames := 3, cells := 0, slots := 0, locals := 64 } [Value.ref (ad 100), Value.int (iI s), Value.int (iI i), Value.int (iI j)] (ad, cC ad r lp fd nr nr nr mc lf ln bd tm it th my lps em mk tr wg wr we wc wb vg vr ve vc vb sy sf so st sn ne mt) (fun v w' => ∃ g' r' e' cu' b', v = some (.int (iI (cntW (wayT tm (dvM mk) ln (bsM bd) i j) (wl nr lf ln s i j 0)))) ∧ w' = (ad, cC ad r lp fd nr nr nr mc lf ln bd tm it th my lps em mk tr g' r' e' cu' b' vg vr ve vc vb sy sf so st sn ne mt)) := by
  refine Ct_of (by decide) (Nat.le_of_ble_eq_true rfl) ?_
  have hn := hg.1
  show J l D b Y_CF_ways _ _ (ad, cC ad r lp fd nr nr nr mc lf ln bd tm it th my lps em mk tr wg wr we wc wb vg vr ve vc vb sy sf so st sn ne mt) 0 0 0 [(0, Value.ref (ad 100)), (1, Value.int (iI s)), (2, Value.int (iI i)), (3, Value.int (iI j))] []
  refine J_aload_n d_CF_ways_0 rfl 0 rfl ?_
  refine J_iload_n d_CF_ways_1 rfl 1 rfl ?_
  refine J_iload_n d_CF_ways_2 rfl 2 rfl ?_
  refine J_iload_n d_CF_ways_3 rfl 3 rfl ?_
  refine J_callV (st := []) [Value.int (iI s), Value.int (iI i), Value.int (iI j)] ms_CF_247 rfl (c_CF_checkStretch (by omega) (by omega) (by omega)) rfl rfl ⟨Nat.le_of_ble_eq_true rfl, Nat.le_of_ble_eq_true rfl⟩ ⟨Nat.le_of_ble_eq_true rfl, Nat.le_of_ble_eq_true rfl⟩ (Nat.le_of_ble_eq_true rfl) d_CF_ways_4 (fun v w' hp => ?_)
  obtain ⟨rfl, rfl⟩ := hp
  show J l D b Y_CF_ways _ _ (ad, cC ad r lp fd nr nr nr mc lf ln bd tm it th my lps em mk tr wg wr we wc wb vg vr ve vc vb sy sf so st sn ne mt) 0 0 7 [(0, Value.ref (ad 100)), (1, Value.int (iI s)), (2, Value.int (iI i)), (3, Value.int (iI j))] []
  refine J_iconst d_CF_ways_7 ?_
  refine J_istore d_CF_ways_8 (by decide) rfl ?_
  refine J_iconst d_CF_ways_10 ?_
  refine J_istore d_CF_ways_11 (by decide) rfl ?_
  refine J.loop (σ := Int × Int × Bool × Value × Int × (Int → Int) × Bool) (fun xx_ => match xx_ with | (p, n, g1, r1, e1, cu1, b1) => (0 ≤ p ∧ p ≤ nr) ∧ (n + cntW (wayT tm (dvM mk) ln (bsM bd) i j) (wl nr lf ln s i j p) = cntW (wayT tm (dvM mk) ln (bsM bd) i j) (wl nr lf ln s i j 0))) (fun xx_ => match xx_ with | (p, n, g1, r1, e1, cu1, b1) => (nr - p).toNat) (ws := fun xx_ => match xx_ with | (p, n, g1, r1, e1, cu1, b1) => (ad, cC ad r lp fd nr nr nr mc lf ln bd tm it th my lps em mk tr g1 r1 e1 cu1 b1 vg vr ve vc vb sy sf so st sn ne mt)) (ks := fun _ => 0) (ns := fun _ => 0) (lvs := fun xx_ => match xx_ with | (p, n, g1, r1, e1, cu1, b1) => [(5, Value.int (iI p)), (4, Value.int (iI n)), (0, Value.ref (ad 100)), (1, Value.int (iI s)), (2, Value.int (iI i)), (3, Value.int (iI j))]) (sts := fun _ => []) ?_ (0, 0, wg, wr, we, wc, wb) ?_
  · rintro ⟨p, n, g1, r1, e1, cu1, b1⟩ hI ih2
    have hI : (0 ≤ p ∧ p ≤ nr) ∧ (n + cntW (wayT tm (dvM mk) ln (bsM bd) i j) (wl nr lf ln s i j p) = cntW (wayT tm (dvM mk) ln (bsM bd) i j) (wl nr lf ln s i j 0)) := hI
    obtain ⟨hp, hP⟩ := hI
    show J l D b Y_CF_ways _ _ (ad, cC ad r lp fd nr nr nr mc lf ln bd tm it th my lps em mk tr g1 r1 e1 cu1 b1 vg vr ve vc vb sy sf so st sn ne mt) 0 0 13 [(5, Value.int (iI p)), (4, Value.int (iI n)), (0, Value.ref (ad 100)), (1, Value.int (iI s)), (2, Value.int (iI i)), (3, Value.int (iI j))] []
    refine J_iload d_CF_ways_13 0 rfl ?_
    refine J_aload_n d_CF_ways_15 rfl 2 rfl ?_
    refine J_get fs_CF_23 rfl rfl d_CF_ways_16 ?_
    refine J_callV (st := [Value.int (iI p)]) [] ms_CF_105 rfl (c_Al_size) rfl rfl ⟨Nat.le_of_ble_eq_true rfl, Nat.le_of_ble_eq_true rfl⟩ ⟨Nat.le_of_ble_eq_true rfl, Nat.le_of_ble_eq_true rfl⟩ (Nat.le_of_ble_eq_true rfl) d_CF_ways_19 (fun v w' hp => ?_)
    obtain ⟨rfl, rfl⟩ := hp
    show J l D b Y_CF_ways _ _ (ad, cC ad r lp fd nr nr nr mc lf ln bd tm it th my lps em mk tr g1 r1 e1 cu1 b1 vg vr ve vc vb sy sf so st sn ne mt) 0 0 22 [(5, Value.int (iI p)), (4, Value.int (iI n)), (0, Value.ref (ad 100)), (1, Value.int (iI s)), (2, Value.int (iI i)), (3, Value.int (iI j))] [Value.int (iI nr), Value.int (iI p)]
    refine J_icmp_ge (tgt := 88) d_CF_ways_22 rfl (by omega) (by omega) (fun h22_4 => ?_) (fun h22_4 => ?_)
    · refine J_iload d_CF_ways_88 1 rfl ?_
      refine J_iret rfl d_CF_ways_90 ⟨Nat.le_of_ble_eq_true rfl, Nat.le_of_ble_eq_true rfl⟩ ?_
      rw [wl_end (r := p) (by omega)] at hP
      have hP' : n + 0 = _ := hP
      exact ⟨_, _, _, _, _, by rw [← hP', Int.add_zero], rfl⟩
    · have hlf := hg.2.1 p (by omega) (by omega)
      refine J_aload_n d_CF_ways_25 rfl 2 rfl ?_
      refine J_get fs_CF_23 rfl rfl d_CF_ways_26 ?_
      refine J_iload d_CF_ways_29 0 rfl ?_
      refine J_callV (st := []) [Value.int (iI p)] ms_CF_87 rfl (c_Al_get (by omega)) rfl rfl ⟨Nat.le_of_ble_eq_true rfl, Nat.le_of_ble_eq_true rfl⟩ ⟨Nat.le_of_ble_eq_true rfl, Nat.le_of_ble_eq_true rfl⟩ (Nat.le_of_ble_eq_true rfl) d_CF_ways_31 (fun v w' hp => ?_)
      obtain ⟨rfl, rfl⟩ := hp
      show J l D b Y_CF_ways _ _ (ad, cC ad r lp fd nr nr nr mc lf ln bd tm it th my lps em mk tr g1 r1 e1 cu1 b1 vg vr ve vc vb sy sf so st sn ne mt) 0 0 34 [(5, Value.int (iI p)), (4, Value.int (iI n)), (0, Value.ref (ad 100)), (1, Value.int (iI s)), (2, Value.int (iI i)), (3, Value.int (iI j))] [Value.ref (ad (idR p))]
      refine J_cast (hidR (k := p) (by omega) (by omega)) rfl cl_CF_9 ca_Ru d_CF_ways_34 ?_
      refine J_get fs_CF_144 (hidR (k := p) (by omega) (by omega)) rfl d_CF_ways_37 ?_
      refine J_iload_n d_CF_ways_40 rfl 3 rfl ?_
      refine J_icmp_ne (tgt := 82) d_CF_ways_41 rfl (by omega) (by omega) (fun h41_6 => ?_) (fun h41_6 => ?_)
      · refine J_iinc (j := 0) d_CF_ways_82 rfl (by decide) rfl ?_
        refine J_goto (tgt := 13) d_CF_ways_85 rfl ?_
        exact ih2 (p + 1, n, g1, r1, e1, cu1, b1) (show (0 ≤ (p + 1) ∧ (p + 1) ≤ nr) ∧ (n + cntW (wayT tm (dvM mk) ln (bsM bd) i j) (wl nr lf ln s i j (p + 1)) = cntW (wayT tm (dvM mk) ln (bsM bd) i j) (wl nr lf ln s i j 0)) by
            exact ⟨by omega, drop_skip (P := fun L => n + cntW (wayT tm (dvM mk) ln (bsM bd) i j) L = cntW (wayT tm (dvM mk) ln (bsM bd) i j) (wl nr lf ln s i j 0)) (by omega) ‹lf p ≠ s› hP⟩) (show ((nr - (p + 1)).toNat) < ((nr - p).toNat) by
            omega)
      · refine J_aload_n d_CF_ways_44 rfl 2 rfl ?_
        refine J_get fs_CF_46 rfl rfl d_CF_ways_45 ?_
        refine J_aload_n d_CF_ways_48 rfl 2 rfl ?_
        refine J_aload_n d_CF_ways_49 rfl 2 rfl ?_
        refine J_get fs_CF_23 rfl rfl d_CF_ways_50 ?_
        refine J_iload d_CF_ways_53 0 rfl ?_
        refine J_callV (st := [Value.ref (ad 100), Value.ref (ad 108)]) [Value.int (iI p)] ms_CF_87 rfl (c_Al_get (by omega)) rfl rfl ⟨Nat.le_of_ble_eq_true rfl, Nat.le_of_ble_eq_true rfl⟩ ⟨Nat.le_of_ble_eq_true rfl, Nat.le_of_ble_eq_true rfl⟩ (Nat.le_of_ble_eq_true rfl) d_CF_ways_55 (fun v w' hp => ?_)
        obtain ⟨rfl, rfl⟩ := hp
        show J l D b Y_CF_ways _ _ (ad, cC ad r lp fd nr nr nr mc lf ln bd tm it th my lps em mk tr g1 r1 e1 cu1 b1 vg vr ve vc vb sy sf so st sn ne mt) 0 0 58 [(5, Value.int (iI p)), (4, Value.int (iI n)), (0, Value.ref (ad 100)), (1, Value.int (iI s)), (2, Value.int (iI i)), (3, Value.int (iI j))] [Value.ref (ad (idR p)), Value.ref (ad 100), Value.ref (ad 108)]
        refine J_cast (hidR (k := p) (by omega) (by omega)) rfl cl_CF_9 ca_Ru d_CF_ways_58 ?_
        refine J_iload_n d_CF_ways_61 rfl 4 rfl ?_
        refine J_iload_n d_CF_ways_62 rfl 5 rfl ?_
        refine J_callV (st := []) [Value.ref (ad 100), Value.ref (ad (idR p)), Value.int (iI i), Value.int (iI j)] ms_CF_181 rfl (c_Wa_begin hg (by omega) (by omega)) rfl rfl ⟨Nat.le_of_ble_eq_true rfl, Nat.le_of_ble_eq_true rfl⟩ ⟨Nat.le_of_ble_eq_true rfl, Nat.le_of_ble_eq_true rfl⟩ (Nat.le_of_ble_eq_true rfl) d_CF_ways_63 (fun v w' hp => ?_)
        obtain ⟨rfl, cu8, rfl, hW8⟩ := hp
        show J l D b Y_CF_ways _ _ (ad, cC ad r lp fd nr nr nr mc lf ln bd tm it th my lps em mk tr true (Value.ref (ad (idR p))) j cu8 false vg vr ve vc vb sy sf so st sn ne mt) 0 0 66 [(5, Value.int (iI p)), (4, Value.int (iI n)), (0, Value.ref (ad 100)), (1, Value.int (iI s)), (2, Value.int (iI i)), (3, Value.int (iI j))] []
        have hW := hW8
        have hz0 : false = true → ln p = 0 → i = j := fun h => by cases h
        have hPs := drop_start (P := fun L => n + cntW (wayT tm (dvM mk) ln (bsM bd) i j) L = cntW (wayT tm (dvM mk) ln (bsM bd) i j) (wl nr lf ln s i j 0)) cntW_drop (show p < nr by omega) ‹lf p = s› hP
        refine J.loop (σ := Int × Bool × (Int → Int) × List (Int × Int)) (fun xx_ => match xx_ with | (n2, b2, cu, rs1) => (WS (ln p) i j b2 cu rs1) ∧ (b2 = true → ln p = 0 → i = j) ∧ (n2 + cntW (wayT tm (dvM mk) ln (bsM bd) i j) (rsW nr lf ln s i j p rs1) = cntW (wayT tm (dvM mk) ln (bsM bd) i j) (wl nr lf ln s i j 0))) (fun xx_ => match xx_ with | (n2, b2, cu, rs1) => rs1.length) (ws := fun xx_ => match xx_ with | (n2, b2, cu, rs1) => (ad, cC ad r lp fd nr nr nr mc lf ln bd tm it th my lps em mk tr true (Value.ref (ad (idR p))) j cu b2 vg vr ve vc vb sy sf so st sn ne mt)) (ks := fun _ => 0) (ns := fun _ => 0) (lvs := fun xx_ => match xx_ with | (n2, b2, cu, rs1) => [(5, Value.int (iI p)), (4, Value.int (iI n2)), (0, Value.ref (ad 100)), (1, Value.int (iI s)), (2, Value.int (iI i)), (3, Value.int (iI j))]) (sts := fun _ => []) ?_ (n, false, cu8, stS (ln p) i j) ?_
        · rintro ⟨n2, b2, cu, rs1⟩ hI ih9
          have hI : (WS (ln p) i j b2 cu rs1) ∧ (b2 = true → ln p = 0 → i = j) ∧ (n2 + cntW (wayT tm (dvM mk) ln (bsM bd) i j) (rsW nr lf ln s i j p rs1) = cntW (wayT tm (dvM mk) ln (bsM bd) i j) (wl nr lf ln s i j 0)) := hI
          obtain ⟨hWS, hz, hPs⟩ := hI
          show J l D b Y_CF_ways _ _ (ad, cC ad r lp fd nr nr nr mc lf ln bd tm it th my lps em mk tr true (Value.ref (ad (idR p))) j cu b2 vg vr ve vc vb sy sf so st sn ne mt) 0 0 66 [(5, Value.int (iI p)), (4, Value.int (iI n2)), (0, Value.ref (ad 100)), (1, Value.int (iI s)), (2, Value.int (iI i)), (3, Value.int (iI j))] []
          have hW := hWS
          have hz0 := hz
          refine J_aload_n d_CF_ways_66 rfl 2 rfl ?_
          refine J_get fs_CF_46 rfl rfl d_CF_ways_67 ?_
          refine J_callV (st := []) [] ms_CF_185 rfl (c_Wa_next hg htm hmk (by omega) (by omega) hW hz0) rfl rfl ⟨Nat.le_of_ble_eq_true rfl, Nat.le_of_ble_eq_true rfl⟩ ⟨Nat.le_of_ble_eq_true rfl, Nat.le_of_ble_eq_true rfl⟩ (Nat.le_of_ble_eq_true rfl) d_CF_ways_70 (fun v w' hp => ?_)
          obtain ⟨z10, cu10, rfl, rfl, hX10⟩ := hp
          show J l D b Y_CF_ways _ _ (ad, cC ad r lp fd nr nr nr mc lf ln bd tm it th my lps em mk tr true (Value.ref (ad (idR p))) j cu10 true vg vr ve vc vb sy sf so st sn ne mt) 0 0 73 [(5, Value.int (iI p)), (4, Value.int (iI n2)), (0, Value.ref (ad 100)), (1, Value.int (iI s)), (2, Value.int (iI i)), (3, Value.int (iI j))] [Value.int (iI (bz z10))]
          refine J_ifB_eq (tgt := 82) d_CF_ways_73 rfl (fun h73_11 => ?_) (fun h73_11 => ?_)
          · refine J_iinc (j := 0) d_CF_ways_82 rfl (by decide) rfl ?_
            refine J_goto (tgt := 13) d_CF_ways_85 rfl ?_
            exact ih2 (p + 1, n2, true, Value.ref (ad (idR p)), j, cu10, true) (show (0 ≤ (p + 1) ∧ (p + 1) ≤ nr) ∧ (n2 + cntW (wayT tm (dvM mk) ln (bsM bd) i j) (wl nr lf ln s i j (p + 1)) = cntW (wayT tm (dvM mk) ln (bsM bd) i j) (wl nr lf ln s i j 0)) by
                exact ⟨by omega, (drop_next (P := fun L => n2 + cntW (wayT tm (dvM mk) ln (bsM bd) i j) L = cntW (wayT tm (dvM mk) ln (bsM bd) i j) (wl nr lf ln s i j 0)) cntW_drop hPs).1 (by
                    rcases hX10 with ⟨-, h9⟩ | ⟨h9, -⟩
                    · exact h9
                    · rw [‹z10 = false›] at h9
                      cases h9)⟩) (show ((nr - (p + 1)).toNat) < ((nr - p).toNat) by
                omega)
          · obtain ⟨p9_, l9_, hf9, hWA, hl9⟩ : ∃ pp ll, fwL (fun y => wayB tm (dvM mk) (ln p) (bsM bd p) y.1 y.2 i j) rs1 = some (pp, ll) ∧ WA (ln p) i j cu10 pp ∧ ll = tlS (ln p) j pp.1 pp.2 := by
              rcases hX10 with ⟨h9, -⟩ | ⟨-, h9⟩
              · rw [‹z10 = true›] at h9
                cases h9
              · exact h9
            obtain ⟨hfw, hPn⟩ := (drop_next (P := fun L => n2 + cntW (wayT tm (dvM mk) ln (bsM bd) i j) L = cntW (wayT tm (dvM mk) ln (bsM bd) i j) (wl nr lf ln s i j 0)) cntW_drop hPs).2 p9_ l9_ hf9
            refine J_iinc (j := 1) d_CF_ways_76 rfl (by decide) rfl ?_
            refine J_goto (tgt := 66) d_CF_ways_79 rfl ?_
            refine J.sub [1, 0, 2, 3, 4, 5] rfl ?_
            exact ih9 (n2 + 1, true, cu10, l9_) (show (WS (ln p) i j true cu10 l9_) ∧ (true = true → ln p = 0 → i = j) ∧ ((n2 + 1) + cntW (wayT tm (dvM mk) ln (bsM bd) i j) (rsW nr lf ln s i j p l9_) = cntW (wayT tm (dvM mk) ln (bsM bd) i j) (wl nr lf ln s i j 0)) by
                exact ⟨Or.inr ⟨rfl, p9_.1, p9_.2, hWA.1, hWA.2.1, hl9⟩, fun _ => hWA.2.2, cntW_way hfw hPn⟩) (show (l9_.length) < (rs1.length) by
                have := fwL_len hf9
                omega)
        · show (WS (ln p) i j false cu8 (stS (ln p) i j)) ∧ (false = true → ln p = 0 → i = j) ∧ (n + cntW (wayT tm (dvM mk) ln (bsM bd) i j) (rsW nr lf ln s i j p (stS (ln p) i j)) = cntW (wayT tm (dvM mk) ln (bsM bd) i j) (wl nr lf ln s i j 0))
          exact ⟨hW, (fun h => by cases h), hPs⟩
  · show (0 ≤ (0 : Int) ∧ (0 : Int) ≤ nr) ∧ ((0 : Int) + cntW (wayT tm (dvM mk) ln (bsM bd) i j) (wl nr lf ln s i j (0 : Int)) = cntW (wayT tm (dvM mk) ln (bsM bd) i j) (wl nr lf ln s i j 0))
    exact ⟨by omega, Int.zero_add _⟩
set_option maxHeartbeats 4000000 in
theorem c_CF_nearOf {s : Int} {i : Int} {j : Int}  (hg : gOK nr lf ln bd) (htm : ∀ x, 0 ≤ x → x < 12 → -2147483648 ≤ tm x ∧ tm x ≤ 2147483647) (hmk : MkR mk) (htr : TrR tr) (hs : 0 ≤ s ∧ s ≤ 4) (hij : 0 ≤ i ∧ i ≤ j ∧ j ≤ 12) : Ct l D b Y_CF_nearOf { frames := 3, cells := 0, slots := 0, locals := 64 } [Value.ref (ad 100), Value.int (iI s), Value.int (iI i), Value.int (iI j)] (ad, cC ad r lp fd nr nr nr mc lf ln bd tm it th my lps em mk tr wg wr we wc wb vg vr ve vc vb sy sf so st sn ne mt) (fun v w' => ∃ m g' r' e' cu' b', v = some (.int (iI m)) ∧ w' = (ad, cC ad r lp fd nr nr nr mc lf ln bd tm it th my lps em mk tr g' r' e' cu' b' vg vr ve vc vb sy sf so st sn ne mt) ∧ (0 ≤ m ∧ m ≤ 2147483647) ∧ ∀ y, bS m y ↔ ∃ q ∈ (wl nr lf ln s i j 0), (wayT tm (dvM mk) ln (bsM bd) i j) q = true ∧ ∃ k, NB ln bd tr i j q k y) := by
  refine Ct_of (by decide) (Nat.le_of_ble_eq_true rfl) ?_
  have hn := hg.1
  show J l D b Y_CF_nearOf _ _ (ad, cC ad r lp fd nr nr nr mc lf ln bd tm it th my lps em mk tr wg wr we wc wb vg vr ve vc vb sy sf so st sn ne mt) 0 0 0 [(0, Value.ref (ad 100)), (1, Value.int (iI s)), (2, Value.int (iI i)), (3, Value.int (iI j))] []
  refine J_iconst d_CF_nearOf_0 ?_
  refine J_istore d_CF_nearOf_1 (by decide) rfl ?_
  refine J_iconst d_CF_nearOf_3 ?_
  refine J_istore d_CF_nearOf_4 (by decide) rfl ?_
  refine J.loop (σ := Int × Int × Bool × Value × Int × (Int → Int) × Bool) (fun xx_ => match xx_ with | (p, m, g1, r1, e1, cu1, b1) => ((0 ≤ p ∧ p ≤ nr) ∧ (0 ≤ m ∧ m ≤ 2147483647)) ∧ (GP (NB ln bd tr i j) (wayT tm (dvM mk) ln (bsM bd) i j) (wl nr lf ln s i j 0) (fun _ => False) (bS m) (wl nr lf ln s i j p))) (fun xx_ => match xx_ with | (p, m, g1, r1, e1, cu1, b1) => (nr - p).toNat) (ws := fun xx_ => match xx_ with | (p, m, g1, r1, e1, cu1, b1) => (ad, cC ad r lp fd nr nr nr mc lf ln bd tm it th my lps em mk tr g1 r1 e1 cu1 b1 vg vr ve vc vb sy sf so st sn ne mt)) (ks := fun _ => 0) (ns := fun _ => 0) (lvs := fun xx_ => match xx_ with | (p, m, g1, r1, e1, cu1, b1) => [(5, Value.int (iI p)), (4, Value.int (iI m)), (0, Value.ref (ad 100)), (1, Value.int (iI s)), (2, Value.int (iI i)), (3, Value.int (iI j))]) (sts := fun _ => []) ?_ (0, 0, wg, wr, we, wc, wb) ?_
  · rintro ⟨p, m, g1, r1, e1, cu1, b1⟩ hI ih1
    have hI : ((0 ≤ p ∧ p ≤ nr) ∧ (0 ≤ m ∧ m ≤ 2147483647)) ∧ (GP (NB ln bd tr i j) (wayT tm (dvM mk) ln (bsM bd) i j) (wl nr lf ln s i j 0) (fun _ => False) (bS m) (wl nr lf ln s i j p)) := hI
    obtain ⟨hp, hP⟩ := hI
    show J l D b Y_CF_nearOf _ _ (ad, cC ad r lp fd nr nr nr mc lf ln bd tm it th my lps em mk tr g1 r1 e1 cu1 b1 vg vr ve vc vb sy sf so st sn ne mt) 0 0 6 [(5, Value.int (iI p)), (4, Value.int (iI m)), (0, Value.ref (ad 100)), (1, Value.int (iI s)), (2, Value.int (iI i)), (3, Value.int (iI j))] []
    refine J_iload d_CF_nearOf_6 0 rfl ?_
    refine J_aload_n d_CF_nearOf_8 rfl 2 rfl ?_
    refine J_get fs_CF_23 rfl rfl d_CF_nearOf_9 ?_
    refine J_callV (st := [Value.int (iI p)]) [] ms_CF_105 rfl (c_Al_size) rfl rfl ⟨Nat.le_of_ble_eq_true rfl, Nat.le_of_ble_eq_true rfl⟩ ⟨Nat.le_of_ble_eq_true rfl, Nat.le_of_ble_eq_true rfl⟩ (Nat.le_of_ble_eq_true rfl) d_CF_nearOf_12 (fun v w' hp => ?_)
    obtain ⟨rfl, rfl⟩ := hp
    show J l D b Y_CF_nearOf _ _ (ad, cC ad r lp fd nr nr nr mc lf ln bd tm it th my lps em mk tr g1 r1 e1 cu1 b1 vg vr ve vc vb sy sf so st sn ne mt) 0 0 15 [(5, Value.int (iI p)), (4, Value.int (iI m)), (0, Value.ref (ad 100)), (1, Value.int (iI s)), (2, Value.int (iI i)), (3, Value.int (iI j))] [Value.int (iI nr), Value.int (iI p)]
    refine J_icmp_ge (tgt := 196) d_CF_nearOf_15 rfl (by omega) (by omega) (fun h15_3 => ?_) (fun h15_3 => ?_)
    · refine J_iload d_CF_nearOf_196 1 rfl ?_
      refine J_iret rfl d_CF_nearOf_198 ⟨Nat.le_of_ble_eq_true rfl, Nat.le_of_ble_eq_true rfl⟩ ?_
      rw [wl_end (r := p) (by omega)] at hP
      exact ⟨m, _, _, _, _, _, rfl, rfl, hp.2, fun y => (hP.end y).trans ⟨fun e => e.resolve_left id, Or.inr⟩⟩
    · have hlf := hg.2.1 p (by omega) (by omega)
      have hl := hg.2.2.1 p (by omega) (by omega)
      refine J_aload_n d_CF_nearOf_18 rfl 2 rfl ?_
      refine J_get fs_CF_23 rfl rfl d_CF_nearOf_19 ?_
      refine J_iload d_CF_nearOf_22 0 rfl ?_
      refine J_callV (st := []) [Value.int (iI p)] ms_CF_87 rfl (c_Al_get (by omega)) rfl rfl ⟨Nat.le_of_ble_eq_true rfl, Nat.le_of_ble_eq_true rfl⟩ ⟨Nat.le_of_ble_eq_true rfl, Nat.le_of_ble_eq_true rfl⟩ (Nat.le_of_ble_eq_true rfl) d_CF_nearOf_24 (fun v w' hp => ?_)
      obtain ⟨rfl, rfl⟩ := hp
      show J l D b Y_CF_nearOf _ _ (ad, cC ad r lp fd nr nr nr mc lf ln bd tm it th my lps em mk tr g1 r1 e1 cu1 b1 vg vr ve vc vb sy sf so st sn ne mt) 0 0 27 [(5, Value.int (iI p)), (4, Value.int (iI m)), (0, Value.ref (ad 100)), (1, Value.int (iI s)), (2, Value.int (iI i)), (3, Value.int (iI j))] [Value.ref (ad (idR p))]
      refine J_cast (hidR (k := p) (by omega) (by omega)) rfl cl_CF_9 ca_Ru d_CF_nearOf_27 ?_
      refine J_astore d_CF_nearOf_30 (by decide) rfl ?_
      refine J_aload d_CF_nearOf_32 0 rfl ?_
      refine J_get fs_CF_144 (hidR (k := p) (by omega) (by omega)) rfl d_CF_nearOf_34 ?_
      refine J_iload_n d_CF_nearOf_37 rfl 4 rfl ?_
      refine J_icmp_eq (tgt := 44) d_CF_nearOf_38 rfl (by omega) (by omega) (fun h38_5 => ?_) (fun h38_5 => ?_)
      · refine J_aload_n d_CF_nearOf_44 rfl 3 rfl ?_
        refine J_get fs_CF_46 rfl rfl d_CF_nearOf_45 ?_
        refine J_aload_n d_CF_nearOf_48 rfl 3 rfl ?_
        refine J_aload d_CF_nearOf_49 0 rfl ?_
        refine J_iload_n d_CF_nearOf_51 rfl 5 rfl ?_
        refine J_iload_n d_CF_nearOf_52 rfl 6 rfl ?_
        refine J_callV (st := []) [Value.ref (ad 100), Value.ref (ad (idR p)), Value.int (iI i), Value.int (iI j)] ms_CF_181 rfl (c_Wa_begin hg (by omega) (by omega)) rfl rfl ⟨Nat.le_of_ble_eq_true rfl, Nat.le_of_ble_eq_true rfl⟩ ⟨Nat.le_of_ble_eq_true rfl, Nat.le_of_ble_eq_true rfl⟩ (Nat.le_of_ble_eq_true rfl) d_CF_nearOf_53 (fun v w' hp => ?_)
        obtain ⟨rfl, cu6, rfl, hW6⟩ := hp
        show J l D b Y_CF_nearOf _ _ (ad, cC ad r lp fd nr nr nr mc lf ln bd tm it th my lps em mk tr true (Value.ref (ad (idR p))) j cu6 false vg vr ve vc vb sy sf so st sn ne mt) 0 0 56 [(6, Value.ref (ad (idR p))), (5, Value.int (iI p)), (4, Value.int (iI m)), (0, Value.ref (ad 100)), (1, Value.int (iI s)), (2, Value.int (iI i)), (3, Value.int (iI j))] []
        have hW := hW6
        have hz0 : false = true → ln p = 0 → i = j := fun h => by cases h
        have hPs := drop_start (P := fun L => GP (NB ln bd tr i j) (wayT tm (dvM mk) ln (bsM bd) i j) (wl nr lf ln s i j 0) (fun _ => False) (bS m) L) GP.drop (show p < nr by omega) ‹lf p = s› hP
        refine J.loop (σ := Int × Bool × (Int → Int) × List (Int × Int)) (fun xx_ => match xx_ with | (m2, b2, cu, rs1) => (WS (ln p) i j b2 cu rs1) ∧ (b2 = true → ln p = 0 → i = j) ∧ (GP (NB ln bd tr i j) (wayT tm (dvM mk) ln (bsM bd) i j) (wl nr lf ln s i j 0) (fun _ => False) (bS m2) (rsW nr lf ln s i j p rs1)) ∧ (0 ≤ m2 ∧ m2 ≤ 2147483647)) (fun xx_ => match xx_ with | (m2, b2, cu, rs1) => rs1.length) (ws := fun xx_ => match xx_ with | (m2, b2, cu, rs1) => (ad, cC ad r lp fd nr nr nr mc lf ln bd tm it th my lps em mk tr true (Value.ref (ad (idR p))) j cu b2 vg vr ve vc vb sy sf so st sn ne mt)) (ks := fun _ => 0) (ns := fun _ => 0) (lvs := fun xx_ => match xx_ with | (m2, b2, cu, rs1) => [(6, Value.ref (ad (idR p))), (5, Value.int (iI p)), (4, Value.int (iI m2)), (0, Value.ref (ad 100)), (1, Value.int (iI s)), (2, Value.int (iI i)), (3, Value.int (iI j))]) (sts := fun _ => []) ?_ (m, false, cu6, stS (ln p) i j) ?_
        · rintro ⟨m2, b2, cu, rs1⟩ hI ih7
          have hI : (WS (ln p) i j b2 cu rs1) ∧ (b2 = true → ln p = 0 → i = j) ∧ (GP (NB ln bd tr i j) (wayT tm (dvM mk) ln (bsM bd) i j) (wl nr lf ln s i j 0) (fun _ => False) (bS m2) (rsW nr lf ln s i j p rs1)) ∧ (0 ≤ m2 ∧ m2 ≤ 2147483647) := hI
          obtain ⟨hWS, hz, hPs, hm2⟩ := hI
          show J l D b Y_CF_nearOf _ _ (ad, cC ad r lp fd nr nr nr mc lf ln bd tm it th my lps em mk tr true (Value.ref (ad (idR p))) j cu b2 vg vr ve vc vb sy sf so st sn ne mt) 0 0 56 [(6, Value.ref (ad (idR p))), (5, Value.int (iI p)), (4, Value.int (iI m2)), (0, Value.ref (ad 100)), (1, Value.int (iI s)), (2, Value.int (iI i)), (3, Value.int (iI j))] []
          have hW := hWS
          have hz0 := hz
          refine J_aload_n d_CF_nearOf_56 rfl 3 rfl ?_
          refine J_get fs_CF_46 rfl rfl d_CF_nearOf_57 ?_
          refine J_callV (st := []) [] ms_CF_185 rfl (c_Wa_next hg htm hmk (by omega) (by omega) hW hz0) rfl rfl ⟨Nat.le_of_ble_eq_true rfl, Nat.le_of_ble_eq_true rfl⟩ ⟨Nat.le_of_ble_eq_true rfl, Nat.le_of_ble_eq_true rfl⟩ (Nat.le_of_ble_eq_true rfl) d_CF_nearOf_60 (fun v w' hp => ?_)
          obtain ⟨z8, cu8, rfl, rfl, hX8⟩ := hp
          show J l D b Y_CF_nearOf _ _ (ad, cC ad r lp fd nr nr nr mc lf ln bd tm it th my lps em mk tr true (Value.ref (ad (idR p))) j cu8 true vg vr ve vc vb sy sf so st sn ne mt) 0 0 63 [(6, Value.ref (ad (idR p))), (5, Value.int (iI p)), (4, Value.int (iI m2)), (0, Value.ref (ad 100)), (1, Value.int (iI s)), (2, Value.int (iI i)), (3, Value.int (iI j))] [Value.int (iI (bz z8))]
          refine J_ifB_eq (tgt := 190) d_CF_nearOf_63 rfl (fun h63_9 => ?_) (fun h63_9 => ?_)
          · refine J_iinc (j := 1) d_CF_nearOf_190 rfl (by decide) rfl ?_
            refine J_goto (tgt := 6) d_CF_nearOf_193 rfl ?_
            refine J.sub [0, 2, 3, 4, 5, 6] rfl ?_
            exact ih1 (p + 1, m2, true, Value.ref (ad (idR p)), j, cu8, true) (show ((0 ≤ (p + 1) ∧ (p + 1) ≤ nr) ∧ (0 ≤ m2 ∧ m2 ≤ 2147483647)) ∧ (GP (NB ln bd tr i j) (wayT tm (dvM mk) ln (bsM bd) i j) (wl nr lf ln s i j 0) (fun _ => False) (bS m2) (wl nr lf ln s i j (p + 1))) by
                exact ⟨by omega, (drop_next (P := fun L => GP (NB ln bd tr i j) (wayT tm (dvM mk) ln (bsM bd) i j) (wl nr lf ln s i j 0) (fun _ => False) (bS m2) L) GP.drop hPs).1 (by
                    rcases hX8 with ⟨-, h9⟩ | ⟨h9, -⟩
                    · exact h9
                    · rw [‹z8 = false›] at h9
                      cases h9)⟩) (show ((nr - (p + 1)).toNat) < ((nr - p).toNat) by
                omega)
          · obtain ⟨p9_, l9_, hf9, hWA, hl9⟩ : ∃ pp ll, fwL (fun y => wayB tm (dvM mk) (ln p) (bsM bd p) y.1 y.2 i j) rs1 = some (pp, ll) ∧ WA (ln p) i j cu8 pp ∧ ll = tlS (ln p) j pp.1 pp.2 := by
              rcases hX8 with ⟨h9, -⟩ | ⟨-, h9⟩
              · rw [‹z8 = true›] at h9
                cases h9
              · exact h9
            obtain ⟨hfw, hPn⟩ := (drop_next (P := fun L => GP (NB ln bd tr i j) (wayT tm (dvM mk) ln (bsM bd) i j) (wl nr lf ln s i j 0) (fun _ => False) (bS m2) L) GP.drop hPs).2 p9_ l9_ hf9
            refine J_iconst d_CF_nearOf_66 ?_
            refine J_istore d_CF_nearOf_67 (by decide) rfl ?_
            refine J.sub [0, 1, 2, 3, 4, 5, 6, 7] (lv' := [(7, Value.int (iI 0)), (6, Value.ref (ad (idR p))), (5, Value.int (iI p)), (4, Value.int (iI m2)), (0, Value.ref (ad 100)), (1, Value.int (iI s)), (2, Value.int (iI i)), (3, Value.int (iI j))]) rfl ?_
            refine J.loop (σ := Int × Int) (fun xx_ => match xx_ with | (k, m3) => (0 ≤ k ∧ k ≤ ln p) ∧ ((0 ≤ m3 ∧ m3 ≤ 2147483647) ∧ GK (NB ln bd tr i j) (wayT tm (dvM mk) ln (bsM bd) i j) (wl nr lf ln s i j 0) (fun _ => False) (bS m3) (p, p9_) k (rsW nr lf ln s i j p l9_))) (fun xx_ => match xx_ with | (k, m3) => (ln p - k).toNat) (ws := fun xx_ => match xx_ with | (k, m3) => (ad, cC ad r lp fd nr nr nr mc lf ln bd tm it th my lps em mk tr true (Value.ref (ad (idR p))) j cu8 true vg vr ve vc vb sy sf so st sn ne mt)) (ks := fun _ => 0) (ns := fun _ => 0) (lvs := fun xx_ => match xx_ with | (k, m3) => [(7, Value.int (iI k)), (6, Value.ref (ad (idR p))), (5, Value.int (iI p)), (4, Value.int (iI m3)), (0, Value.ref (ad 100)), (1, Value.int (iI s)), (2, Value.int (iI i)), (3, Value.int (iI j))]) (sts := fun _ => []) ?_ (0, m2) ?_
            · rintro ⟨k, m3⟩ hI ih10
              have hI : (0 ≤ k ∧ k ≤ ln p) ∧ ((0 ≤ m3 ∧ m3 ≤ 2147483647) ∧ GK (NB ln bd tr i j) (wayT tm (dvM mk) ln (bsM bd) i j) (wl nr lf ln s i j 0) (fun _ => False) (bS m3) (p, p9_) k (rsW nr lf ln s i j p l9_)) := hI
              obtain ⟨hk, hK⟩ := hI
              show J l D b Y_CF_nearOf _ _ (ad, cC ad r lp fd nr nr nr mc lf ln bd tm it th my lps em mk tr true (Value.ref (ad (idR p))) j cu8 true vg vr ve vc vb sy sf so st sn ne mt) 0 0 69 [(7, Value.int (iI k)), (6, Value.ref (ad (idR p))), (5, Value.int (iI p)), (4, Value.int (iI m3)), (0, Value.ref (ad 100)), (1, Value.int (iI s)), (2, Value.int (iI i)), (3, Value.int (iI j))] []
              refine J_iload d_CF_nearOf_69 0 rfl ?_
              refine J_aload d_CF_nearOf_71 1 rfl ?_
              refine J_get fs_CF_189 (hidR (k := p) (by omega) (by omega)) rfl d_CF_nearOf_73 ?_
              refine J_alenE (z := ln p) (hidB (k := p) (by omega) (by omega)) (by omega) d_CF_nearOf_76 ?_
              refine J_icmp_ge (tgt := 187) d_CF_nearOf_77 rfl (by omega) (by omega) (fun h77_11 => ?_) (fun h77_11 => ?_)
              · refine J_goto (tgt := 56) d_CF_nearOf_187 rfl ?_
                refine J.sub [1, 2, 3, 4, 5, 6, 7] rfl ?_
                exact ih7 (m3, true, cu8, l9_) (show (WS (ln p) i j true cu8 l9_) ∧ (true = true → ln p = 0 → i = j) ∧ (GP (NB ln bd tr i j) (wayT tm (dvM mk) ln (bsM bd) i j) (wl nr lf ln s i j 0) (fun _ => False) (bS m3) (rsW nr lf ln s i j p l9_)) ∧ (0 ≤ m3 ∧ m3 ≤ 2147483647) by
                    exact ⟨Or.inr ⟨rfl, p9_.1, p9_.2, hWA.1, hWA.2.1, hl9⟩, fun _ => hWA.2.2, hK.2.close (fun k' z e => by have h9 : k' < ln p := e.1.2; omega), hK.1⟩) (show (l9_.length) < (rs1.length) by
                    have := fwL_len hf9
                    omega)
              · have hk1 := hWA.2.1.at (k := k) hl (by omega) (by omega)
                have hk2 := hWA.2.1.at (k := k + 1) hl (by omega) (by omega)
                have hr1 := cutV_rng (n := ln p) (k := k) hWA.1
                have hr2 := cutV_rng (n := ln p) (k := k + 1) hWA.1
                have hr3 := cutV_mono (k := k) hWA.1 hl.2 (by omega)
                rw [← hk1] at hr1 hr3
                rw [← hk2] at hr2 hr3
                have hbk := hg.2.2.2.1 (3 * p + k) (by omega) (by omega)
                have hb9 := hg.2.2.2.2 p k (by omega) (by omega) (by omega) (by omega)
                refine J_aload d_CF_nearOf_80 1 rfl ?_
                refine J_get fs_CF_189 (hidR (k := p) (by omega) (by omega)) rfl d_CF_nearOf_82 ?_
                refine J_iload d_CF_nearOf_85 0 rfl ?_
                refine J_iald (hidB (k := p) (by omega) (by omega)) (by omega) (by omega) d_CF_nearOf_87 ?_
                refine J.topI (bq_in (by omega)) ?_
                refine J_istore d_CF_nearOf_88 (by decide) rfl ?_
                refine J_aload_n d_CF_nearOf_90 rfl 5 rfl ?_
                refine J_get fs_CF_46 rfl rfl d_CF_nearOf_91 ?_
                refine J_get (v := Value.ref (ad 109)) fs_CF_192 rfl rfl d_CF_nearOf_94 ?_
                refine J_iload d_CF_nearOf_97 1 rfl ?_
                refine J_iald rfl (by omega) (by decide) d_CF_nearOf_99 ?_
                refine J_istore d_CF_nearOf_100 (by decide) rfl ?_
                refine J_aload_n d_CF_nearOf_102 rfl 6 rfl ?_
                refine J_get fs_CF_46 rfl rfl d_CF_nearOf_103 ?_
                refine J_get (v := Value.ref (ad 109)) fs_CF_192 rfl rfl d_CF_nearOf_106 ?_
                refine J_iload d_CF_nearOf_109 2 rfl ?_
                refine J_iconst d_CF_nearOf_111 ?_
                refine J_iadd d_CF_nearOf_112 ?_
                refine J_iald rfl (by omega) (by decide) d_CF_nearOf_113 ?_
                refine J_istore d_CF_nearOf_114 (by decide) rfl ?_
                refine J_iload d_CF_nearOf_116 2 rfl ?_
                refine J_callS (st := []) [Value.int (iI (bd (3 * p + k)))] ms_CF_95 (c_CF_isNonterminal (by omega)) rfl rfl ⟨Nat.le_of_ble_eq_true rfl, Nat.le_of_ble_eq_true rfl⟩ ⟨Nat.le_of_ble_eq_true rfl, Nat.le_of_ble_eq_true rfl⟩ (Nat.le_of_ble_eq_true rfl) d_CF_nearOf_118 (fun v w' hp => ?_)
                obtain ⟨rfl, rfl⟩ := hp
                show J l D b Y_CF_nearOf _ _ (ad, cC ad r lp fd nr nr nr mc lf ln bd tm it th my lps em mk tr true (Value.ref (ad (idR p))) j cu8 true vg vr ve vc vb sy sf so st sn ne mt) 0 0 121 [(10, Value.int (iI (cu8 (k + 1)))), (9, Value.int (iI (cu8 k))), (8, Value.int (iI (bd (3 * p + k)))), (7, Value.int (iI k)), (6, Value.ref (ad (idR p))), (5, Value.int (iI p)), (4, Value.int (iI m3)), (0, Value.ref (ad 100)), (1, Value.int (iI s)), (2, Value.int (iI i)), (3, Value.int (iI j))] [Value.int (iI (bz (ntB (bd (3 * p + k)))))]
                refine J_ifB_ne (tgt := 127) d_CF_nearOf_121 rfl (fun h121_13 => ?_) (fun h121_13 => ?_)
                · have hnt := ntB_of ‹ntB (bd (3 * p + k)) = true›
                  refine J_iload d_CF_nearOf_127 1 rfl ?_
                  refine J_iload_n d_CF_nearOf_129 rfl 9 rfl ?_
                  refine J_icmp_ne (tgt := 151) d_CF_nearOf_130 rfl (by omega) (by omega) (fun h130_14 => ?_) (fun h130_14 => ?_)
                  · have ht9 := htr (cu8 (k + 1)) (cu8 k) (bd (3 * p + k)) (by omega) (by omega) (by omega) (by omega) (by omega)
                    refine J_aload_n d_CF_nearOf_151 rfl 7 rfl ?_
                    refine J_get fs_CF_39 rfl rfl d_CF_nearOf_152 ?_
                    refine J_iload d_CF_nearOf_155 0 rfl ?_
                    refine J_aald (v := Value.ref (ad (idC (cu8 (k + 1))))) rfl rfl (by omega) (by decide) rfl d_CF_nearOf_157 ?_
                    refine J_get fs_CF_195 (hidC (k := (cu8 (k + 1))) (by omega)) rfl d_CF_nearOf_158 ?_
                    refine J_iload d_CF_nearOf_161 1 rfl ?_
                    refine J_aald (v := Value.ref (ad (idX (cu8 (k + 1)) (cu8 k)))) (hidW (k := (cu8 (k + 1))) (by omega)) rfl (by omega) (by omega) rfl d_CF_nearOf_163 ?_
                    refine J_iload d_CF_nearOf_164 2 rfl ?_
                    refine J_lald (hidX (k := (cu8 (k + 1))) (j := (cu8 k)) (by omega) (by omega)) (by omega) (by decide) d_CF_nearOf_166 ?_
                    refine J_ldc2 (z := -1) d_CF_nearOf_167 cst_CF_199 rfl ?_
                    refine J_lcmp_ne (tgt := 181) d_CF_nearOf_170 d_CF_nearOf_171 rfl (by omega) (by omega) (fun h170_15 => ?_) (fun h170_15 => ?_)
                    · refine J_iinc (j := 3) d_CF_nearOf_181 rfl (by decide) rfl ?_
                      refine J_goto (tgt := 69) d_CF_nearOf_184 rfl ?_
                      refine J.sub [0, 4, 5, 6, 7, 8, 9, 10] rfl ?_
                      exact ih10 (k + 1, m3) (show (0 ≤ (k + 1) ∧ (k + 1) ≤ ln p) ∧ ((0 ≤ m3 ∧ m3 ≤ 2147483647) ∧ GK (NB ln bd tr i j) (wayT tm (dvM mk) ln (bsM bd) i j) (wl nr lf ln s i j 0) (fun _ => False) (bS m3) (p, p9_) (k + 1) (rsW nr lf ln s i j p l9_)) by
                          have hbx : bsM bd p k = bd (3 * p + k) := rfl
                          refine ⟨by omega, hK.1, hK.2.no (fun z hz => ?_)⟩
                          obtain ⟨-, z2, z3⟩ := hz
                          have z2' : bd (3 * p + k) ≤ 4 := z2
                          rw [← hk1, ← hk2] at z3
                          first
                            | (have := ntB_no ‹ntB (bd (3 * p + k)) = false›; omega)
                            | (rcases z3 with ⟨a1, a2, -⟩ | ⟨a1, a2, -⟩
                               · first | contradiction | exact absurd a1 ‹_› | exact absurd a2 ‹_›
                               · exact absurd a2 ‹_›)) (show ((ln p - (k + 1)).toNat) < ((ln p - k).toNat) by
                          omega)
                    · refine J_iload d_CF_nearOf_174 6 rfl ?_
                      refine J_ldc (z := 1073741824) d_CF_nearOf_176 cst_CF_201 rfl ?_
                      refine J_ior d_CF_nearOf_178 (iI_or hK.1 (by omega)) ?_
                      refine J_istore d_CF_nearOf_179 (by decide) rfl ?_
                      refine J_iinc (j := 4) d_CF_nearOf_181 rfl (by decide) rfl ?_
                      refine J_goto (tgt := 69) d_CF_nearOf_184 rfl ?_
                      refine J.sub [0, 5, 6, 1, 7, 8, 9, 10] rfl ?_
                      exact ih10 (k + 1, orI m3 1073741824) (show (0 ≤ (k + 1) ∧ (k + 1) ≤ ln p) ∧ ((0 ≤ (orI m3 1073741824) ∧ (orI m3 1073741824) ≤ 2147483647) ∧ GK (NB ln bd tr i j) (wayT tm (dvM mk) ln (bsM bd) i j) (wl nr lf ln s i j 0) (fun _ => False) (bS (orI m3 1073741824)) (p, p9_) (k + 1) (rsW nr lf ln s i j p l9_)) by
                          have hbx : bsM bd p k = bd (3 * p + k) := rfl
                          refine ⟨by omega, orI_rng hK.1 (by omega), hK.2.step (S' := bS (orI m3 1073741824)) (bS_or (x := 30) (by omega)) (fun z => ⟨fun e => ⟨⟨by omega, by omega⟩, (show bd (3 * p + k) ≤ 4 by omega), Or.inr ⟨?_, by rw [← hk1, ← hk2]; assumption, e⟩⟩, fun ⟨_, _, e⟩ => ?_⟩)⟩
                          · rw [← hk1, ← hk2]
                            rintro ⟨a1, a2⟩
                            first | contradiction | exact absurd a1 ‹_› | exact absurd a2 ‹_›
                          · rcases e with ⟨a1, a2, e⟩ | ⟨-, -, e⟩
                            · rw [← hk1] at a1
                              rw [← hk2] at a2
                              first | contradiction | exact absurd a1 ‹_› | exact absurd a2 ‹_›
                            · exact e) (show ((ln p - (k + 1)).toNat) < ((ln p - k).toNat) by
                          omega)
                  · refine J_iload d_CF_nearOf_133 0 rfl ?_
                    refine J_iload_n d_CF_nearOf_135 rfl 10 rfl ?_
                    refine J_icmp_ne (tgt := 151) d_CF_nearOf_136 rfl (by omega) (by omega) (fun h136_16 => ?_) (fun h136_16 => ?_)
                    · have ht9 := htr (cu8 (k + 1)) (cu8 k) (bd (3 * p + k)) (by omega) (by omega) (by omega) (by omega) (by omega)
                      refine J_aload_n d_CF_nearOf_151 rfl 7 rfl ?_
                      refine J_get fs_CF_39 rfl rfl d_CF_nearOf_152 ?_
                      refine J_iload d_CF_nearOf_155 0 rfl ?_
                      refine J_aald (v := Value.ref (ad (idC (cu8 (k + 1))))) rfl rfl (by omega) (by decide) rfl d_CF_nearOf_157 ?_
                      refine J_get fs_CF_195 (hidC (k := (cu8 (k + 1))) (by omega)) rfl d_CF_nearOf_158 ?_
                      refine J_iload d_CF_nearOf_161 1 rfl ?_
                      refine J_aald (v := Value.ref (ad (idX (cu8 (k + 1)) (cu8 k)))) (hidW (k := (cu8 (k + 1))) (by omega)) rfl (by omega) (by omega) rfl d_CF_nearOf_163 ?_
                      refine J_iload d_CF_nearOf_164 2 rfl ?_
                      refine J_lald (hidX (k := (cu8 (k + 1))) (j := (cu8 k)) (by omega) (by omega)) (by omega) (by decide) d_CF_nearOf_166 ?_
                      refine J_ldc2 (z := -1) d_CF_nearOf_167 cst_CF_199 rfl ?_
                      refine J_lcmp_ne (tgt := 181) d_CF_nearOf_170 d_CF_nearOf_171 rfl (by omega) (by omega) (fun h170_17 => ?_) (fun h170_17 => ?_)
                      · refine J_iinc (j := 3) d_CF_nearOf_181 rfl (by decide) rfl ?_
                        refine J_goto (tgt := 69) d_CF_nearOf_184 rfl ?_
                        refine J.sub [0, 4, 5, 6, 7, 8, 9, 10] rfl ?_
                        exact ih10 (k + 1, m3) (show (0 ≤ (k + 1) ∧ (k + 1) ≤ ln p) ∧ ((0 ≤ m3 ∧ m3 ≤ 2147483647) ∧ GK (NB ln bd tr i j) (wayT tm (dvM mk) ln (bsM bd) i j) (wl nr lf ln s i j 0) (fun _ => False) (bS m3) (p, p9_) (k + 1) (rsW nr lf ln s i j p l9_)) by
                            have hbx : bsM bd p k = bd (3 * p + k) := rfl
                            refine ⟨by omega, hK.1, hK.2.no (fun z hz => ?_)⟩
                            obtain ⟨-, z2, z3⟩ := hz
                            have z2' : bd (3 * p + k) ≤ 4 := z2
                            rw [← hk1, ← hk2] at z3
                            first
                              | (have := ntB_no ‹ntB (bd (3 * p + k)) = false›; omega)
                              | (rcases z3 with ⟨a1, a2, -⟩ | ⟨a1, a2, -⟩
                                 · first | contradiction | exact absurd a1 ‹_› | exact absurd a2 ‹_›
                                 · exact absurd a2 ‹_›)) (show ((ln p - (k + 1)).toNat) < ((ln p - k).toNat) by
                            omega)
                      · refine J_iload d_CF_nearOf_174 6 rfl ?_
                        refine J_ldc (z := 1073741824) d_CF_nearOf_176 cst_CF_201 rfl ?_
                        refine J_ior d_CF_nearOf_178 (iI_or hK.1 (by omega)) ?_
                        refine J_istore d_CF_nearOf_179 (by decide) rfl ?_
                        refine J_iinc (j := 4) d_CF_nearOf_181 rfl (by decide) rfl ?_
                        refine J_goto (tgt := 69) d_CF_nearOf_184 rfl ?_
                        refine J.sub [0, 5, 6, 1, 7, 8, 9, 10] rfl ?_
                        exact ih10 (k + 1, orI m3 1073741824) (show (0 ≤ (k + 1) ∧ (k + 1) ≤ ln p) ∧ ((0 ≤ (orI m3 1073741824) ∧ (orI m3 1073741824) ≤ 2147483647) ∧ GK (NB ln bd tr i j) (wayT tm (dvM mk) ln (bsM bd) i j) (wl nr lf ln s i j 0) (fun _ => False) (bS (orI m3 1073741824)) (p, p9_) (k + 1) (rsW nr lf ln s i j p l9_)) by
                            have hbx : bsM bd p k = bd (3 * p + k) := rfl
                            refine ⟨by omega, orI_rng hK.1 (by omega), hK.2.step (S' := bS (orI m3 1073741824)) (bS_or (x := 30) (by omega)) (fun z => ⟨fun e => ⟨⟨by omega, by omega⟩, (show bd (3 * p + k) ≤ 4 by omega), Or.inr ⟨?_, by rw [← hk1, ← hk2]; assumption, e⟩⟩, fun ⟨_, _, e⟩ => ?_⟩)⟩
                            · rw [← hk1, ← hk2]
                              rintro ⟨a1, a2⟩
                              first | contradiction | exact absurd a1 ‹_› | exact absurd a2 ‹_›
                            · rcases e with ⟨a1, a2, e⟩ | ⟨-, -, e⟩
                              · rw [← hk1] at a1
                                rw [← hk2] at a2
                                first | contradiction | exact absurd a1 ‹_› | exact absurd a2 ‹_›
                              · exact e) (show ((ln p - (k + 1)).toNat) < ((ln p - k).toNat) by
                            omega)
                    · refine J_iload d_CF_nearOf_139 6 rfl ?_
                      refine J_iconst d_CF_nearOf_141 ?_
                      refine J_iload d_CF_nearOf_142 2 rfl ?_
                      refine J_ishl d_CF_nearOf_144 (iI_shl1 (by omega)) ?_
                      refine J_ior d_CF_nearOf_145 (iI_or hK.1 (by have := p2_rng (s := bd (3 * p + k)) (by omega); omega)) ?_
                      refine J_istore d_CF_nearOf_146 (by decide) rfl ?_
                      refine J_goto (tgt := 181) d_CF_nearOf_148 rfl ?_
                      refine J_iinc (j := 4) d_CF_nearOf_181 rfl (by decide) rfl ?_
                      refine J_goto (tgt := 69) d_CF_nearOf_184 rfl ?_
                      refine J.sub [0, 5, 6, 1, 7, 8, 9, 10] rfl ?_
                      exact ih10 (k + 1, orI m3 (p2 (bd (3 * p + k)))) (show (0 ≤ (k + 1) ∧ (k + 1) ≤ ln p) ∧ ((0 ≤ (orI m3 (p2 (bd (3 * p + k)))) ∧ (orI m3 (p2 (bd (3 * p + k)))) ≤ 2147483647) ∧ GK (NB ln bd tr i j) (wayT tm (dvM mk) ln (bsM bd) i j) (wl nr lf ln s i j 0) (fun _ => False) (bS (orI m3 (p2 (bd (3 * p + k))))) (p, p9_) (k + 1) (rsW nr lf ln s i j p l9_)) by
                          have hbx : bsM bd p k = bd (3 * p + k) := rfl
                          have hp9 := p2_rng (s := bd (3 * p + k)) (by omega)
                          refine ⟨by omega, orI_rng hK.1 (by omega), hK.2.step (bS_or (by omega)) (fun z => ⟨fun e => ⟨⟨by omega, by omega⟩, (show bd (3 * p + k) ≤ 4 by omega), Or.inl ⟨by rw [← hk1]; assumption, by rw [← hk2]; assumption, e⟩⟩, fun ⟨_, _, e⟩ => ?_⟩)⟩
                          rcases e with ⟨-, -, e⟩ | ⟨e, -⟩
                          · exact e
                          · exact absurd ⟨by rw [← hk1]; assumption, by rw [← hk2]; assumption⟩ e) (show ((ln p - (k + 1)).toNat) < ((ln p - k).toNat) by
                          omega)
                · refine J_goto (tgt := 181) d_CF_nearOf_124 rfl ?_
                  refine J_iinc (j := 3) d_CF_nearOf_181 rfl (by decide) rfl ?_
                  refine J_goto (tgt := 69) d_CF_nearOf_184 rfl ?_
                  refine J.sub [0, 4, 5, 6, 7, 8, 9, 10] rfl ?_
                  exact ih10 (k + 1, m3) (show (0 ≤ (k + 1) ∧ (k + 1) ≤ ln p) ∧ ((0 ≤ m3 ∧ m3 ≤ 2147483647) ∧ GK (NB ln bd tr i j) (wayT tm (dvM mk) ln (bsM bd) i j) (wl nr lf ln s i j 0) (fun _ => False) (bS m3) (p, p9_) (k + 1) (rsW nr lf ln s i j p l9_)) by
                      have hbx : bsM bd p k = bd (3 * p + k) := rfl
                      refine ⟨by omega, hK.1, hK.2.no (fun z hz => ?_)⟩
                      obtain ⟨-, z2, z3⟩ := hz
                      have z2' : bd (3 * p + k) ≤ 4 := z2
                      rw [← hk1, ← hk2] at z3
                      first
                        | (have := ntB_no ‹ntB (bd (3 * p + k)) = false›; omega)
                        | (rcases z3 with ⟨a1, a2, -⟩ | ⟨a1, a2, -⟩
                           · first | contradiction | exact absurd a1 ‹_› | exact absurd a2 ‹_›
                           · exact absurd a2 ‹_›)) (show ((ln p - (k + 1)).toNat) < ((ln p - k).toNat) by
                      omega)
            · show (0 ≤ (0 : Int) ∧ (0 : Int) ≤ ln p) ∧ ((0 ≤ m2 ∧ m2 ≤ 2147483647) ∧ GK (NB ln bd tr i j) (wayT tm (dvM mk) ln (bsM bd) i j) (wl nr lf ln s i j 0) (fun _ => False) (bS m2) (p, p9_) (0 : Int) (rsW nr lf ln s i j p l9_))
              exact ⟨by omega, hm2, hPn.opn hfw (fun k z e => e.1.1)⟩
        · show (WS (ln p) i j false cu6 (stS (ln p) i j)) ∧ (false = true → ln p = 0 → i = j) ∧ (GP (NB ln bd tr i j) (wayT tm (dvM mk) ln (bsM bd) i j) (wl nr lf ln s i j 0) (fun _ => False) (bS m) (rsW nr lf ln s i j p (stS (ln p) i j))) ∧ (0 ≤ m ∧ m ≤ 2147483647)
          exact ⟨hW, (fun h => by cases h), hPs, by omega⟩
      · refine J_goto (tgt := 190) d_CF_nearOf_41 rfl ?_
        refine J_iinc (j := 1) d_CF_nearOf_190 rfl (by decide) rfl ?_
        refine J_goto (tgt := 6) d_CF_nearOf_193 rfl ?_
        refine J.sub [0, 2, 3, 4, 5, 6] rfl ?_
        exact ih1 (p + 1, m, g1, r1, e1, cu1, b1) (show ((0 ≤ (p + 1) ∧ (p + 1) ≤ nr) ∧ (0 ≤ m ∧ m ≤ 2147483647)) ∧ (GP (NB ln bd tr i j) (wayT tm (dvM mk) ln (bsM bd) i j) (wl nr lf ln s i j 0) (fun _ => False) (bS m) (wl nr lf ln s i j (p + 1))) by
            exact ⟨by omega, drop_skip (P := fun L => GP (NB ln bd tr i j) (wayT tm (dvM mk) ln (bsM bd) i j) (wl nr lf ln s i j 0) (fun _ => False) (bS m) L) (by omega) ‹lf p ≠ s› hP⟩) (show ((nr - (p + 1)).toNat) < ((nr - p).toNat) by
            omega)
  · show ((0 ≤ (0 : Int) ∧ (0 : Int) ≤ nr) ∧ (0 ≤ (0 : Int) ∧ (0 : Int) ≤ 2147483647)) ∧ (GP (NB ln bd tr i j) (wayT tm (dvM mk) ln (bsM bd) i j) (wl nr lf ln s i j 0) (fun _ => False) (bS (0 : Int)) (wl nr lf ln s i j (0 : Int)))
    refine ⟨by omega, ?_⟩
    have : bS 0 = fun _ => False := by
      funext y
      unfold bS
      rw [bit_0]
      simp
    rw [this]
    exact GP.rf
set_option maxHeartbeats 4000000 in
theorem c_CF_markBelow {s : Int} {i : Int} {j : Int}  (hg : gOK nr lf ln bd) (htm : ∀ x, 0 ≤ x → x < 12 → -2147483648 ≤ tm x ∧ tm x ≤ 2147483647) (hmk : MkR mk) (hs : 0 ≤ s ∧ s ≤ 4) (hij : 0 ≤ i ∧ i ≤ j ∧ j ≤ 12) : Ct l D b Y_CF_markBelow { frames := 3, cells := 0, slots := 0, locals := 64 } [Value.ref (ad 100), Value.int (iI s), Value.int (iI i), Value.int (iI j)] (ad, cC ad r lp fd nr nr nr mc lf ln bd tm it th my lps em mk tr wg wr we wc wb vg vr ve vc vb sy sf so st sn ne mt) (fun v w' => ∃ mt' g' r' e' cu' b', v = none ∧ w' = (ad, cC ad r lp fd nr nr nr mc lf ln bd tm it th my lps em mk tr g' r' e' cu' b' vg vr ve vc vb sy sf so st sn ne mt') ∧ ∀ z, mS mt' z ↔ mS mt z ∨ ∃ q ∈ (wl nr lf ln s i j 0), (wayT tm (dvM mk) ln (bsM bd) i j) q = true ∧ ∃ k, MB ln bd i j q k z) := by
  refine Ct_of (by decide) (Nat.le_of_ble_eq_true rfl) ?_
  have hn := hg.1
  show J l D b Y_CF_markBelow _ _ (ad, cC ad r lp fd nr nr nr mc lf ln bd tm it th my lps em mk tr wg wr we wc wb vg vr ve vc vb sy sf so st sn ne mt) 0 0 0 [(0, Value.ref (ad 100)), (1, Value.int (iI s)), (2, Value.int (iI i)), (3, Value.int (iI j))] []
  refine J_iconst d_CF_markBelow_0 ?_
  refine J_istore d_CF_markBelow_1 (by decide) rfl ?_
  refine J.loop (σ := Int × (Int → Int → Bool) × Bool × Value × Int × (Int → Int) × Bool) (fun xx_ => match xx_ with | (p, mt1, g1, r1, e1, cu1, b1) => (0 ≤ p ∧ p ≤ nr) ∧ (GP (MB ln bd i j) (wayT tm (dvM mk) ln (bsM bd) i j) (wl nr lf ln s i j 0) (mS mt) (mS mt1) (wl nr lf ln s i j p))) (fun xx_ => match xx_ with | (p, mt1, g1, r1, e1, cu1, b1) => (nr - p).toNat) (ws := fun xx_ => match xx_ with | (p, mt1, g1, r1, e1, cu1, b1) => (ad, cC ad r lp fd nr nr nr mc lf ln bd tm it th my lps em mk tr g1 r1 e1 cu1 b1 vg vr ve vc vb sy sf so st sn ne mt1)) (ks := fun _ => 0) (ns := fun _ => 0) (lvs := fun xx_ => match xx_ with | (p, mt1, g1, r1, e1, cu1, b1) => [(4, Value.int (iI p)), (0, Value.ref (ad 100)), (1, Value.int (iI s)), (2, Value.int (iI i)), (3, Value.int (iI j))]) (sts := fun _ => []) ?_ (0, mt, wg, wr, we, wc, wb) ?_
  · rintro ⟨p, mt1, g1, r1, e1, cu1, b1⟩ hI ih1
    have hI : (0 ≤ p ∧ p ≤ nr) ∧ (GP (MB ln bd i j) (wayT tm (dvM mk) ln (bsM bd) i j) (wl nr lf ln s i j 0) (mS mt) (mS mt1) (wl nr lf ln s i j p)) := hI
    obtain ⟨hp, hP⟩ := hI
    show J l D b Y_CF_markBelow _ _ (ad, cC ad r lp fd nr nr nr mc lf ln bd tm it th my lps em mk tr g1 r1 e1 cu1 b1 vg vr ve vc vb sy sf so st sn ne mt1) 0 0 3 [(4, Value.int (iI p)), (0, Value.ref (ad 100)), (1, Value.int (iI s)), (2, Value.int (iI i)), (3, Value.int (iI j))] []
    refine J_iload d_CF_markBelow_3 0 rfl ?_
    refine J_aload_n d_CF_markBelow_5 rfl 1 rfl ?_
    refine J_get fs_CF_23 rfl rfl d_CF_markBelow_6 ?_
    refine J_callV (st := [Value.int (iI p)]) [] ms_CF_105 rfl (c_Al_size) rfl rfl ⟨Nat.le_of_ble_eq_true rfl, Nat.le_of_ble_eq_true rfl⟩ ⟨Nat.le_of_ble_eq_true rfl, Nat.le_of_ble_eq_true rfl⟩ (Nat.le_of_ble_eq_true rfl) d_CF_markBelow_9 (fun v w' hp => ?_)
    obtain ⟨rfl, rfl⟩ := hp
    show J l D b Y_CF_markBelow _ _ (ad, cC ad r lp fd nr nr nr mc lf ln bd tm it th my lps em mk tr g1 r1 e1 cu1 b1 vg vr ve vc vb sy sf so st sn ne mt1) 0 0 12 [(4, Value.int (iI p)), (0, Value.ref (ad 100)), (1, Value.int (iI s)), (2, Value.int (iI i)), (3, Value.int (iI j))] [Value.int (iI nr), Value.int (iI p)]
    refine J_icmp_ge (tgt := 146) d_CF_markBelow_12 rfl (by omega) (by omega) (fun h12_3 => ?_) (fun h12_3 => ?_)
    · refine J_vret rfl d_CF_markBelow_146 ⟨Nat.le_of_ble_eq_true rfl, Nat.le_of_ble_eq_true rfl⟩ ?_
      rw [wl_end (r := p) (by omega)] at hP
      exact ⟨mt1, _, _, _, _, _, rfl, rfl, hP.end⟩
    · have hlf := hg.2.1 p (by omega) (by omega)
      have hl := hg.2.2.1 p (by omega) (by omega)
      refine J_aload_n d_CF_markBelow_15 rfl 1 rfl ?_
      refine J_get fs_CF_23 rfl rfl d_CF_markBelow_16 ?_
      refine J_iload d_CF_markBelow_19 0 rfl ?_
      refine J_callV (st := []) [Value.int (iI p)] ms_CF_87 rfl (c_Al_get (by omega)) rfl rfl ⟨Nat.le_of_ble_eq_true rfl, Nat.le_of_ble_eq_true rfl⟩ ⟨Nat.le_of_ble_eq_true rfl, Nat.le_of_ble_eq_true rfl⟩ (Nat.le_of_ble_eq_true rfl) d_CF_markBelow_21 (fun v w' hp => ?_)
      obtain ⟨rfl, rfl⟩ := hp
      show J l D b Y_CF_markBelow _ _ (ad, cC ad r lp fd nr nr nr mc lf ln bd tm it th my lps em mk tr g1 r1 e1 cu1 b1 vg vr ve vc vb sy sf so st sn ne mt1) 0 0 24 [(4, Value.int (iI p)), (0, Value.ref (ad 100)), (1, Value.int (iI s)), (2, Value.int (iI i)), (3, Value.int (iI j))] [Value.ref (ad (idR p))]
      refine J_cast (hidR (k := p) (by omega) (by omega)) rfl cl_CF_9 ca_Ru d_CF_markBelow_24 ?_
      refine J_astore d_CF_markBelow_27 (by decide) rfl ?_
      refine J_aload d_CF_markBelow_29 0 rfl ?_
      refine J_get fs_CF_144 (hidR (k := p) (by omega) (by omega)) rfl d_CF_markBelow_31 ?_
      refine J_iload_n d_CF_markBelow_34 rfl 3 rfl ?_
      refine J_icmp_eq (tgt := 41) d_CF_markBelow_35 rfl (by omega) (by omega) (fun h35_5 => ?_) (fun h35_5 => ?_)
      · refine J_aload_n d_CF_markBelow_41 rfl 2 rfl ?_
        refine J_get fs_CF_46 rfl rfl d_CF_markBelow_42 ?_
        refine J_aload_n d_CF_markBelow_45 rfl 2 rfl ?_
        refine J_aload d_CF_markBelow_46 0 rfl ?_
        refine J_iload_n d_CF_markBelow_48 rfl 4 rfl ?_
        refine J_iload_n d_CF_markBelow_49 rfl 5 rfl ?_
        refine J_callV (st := []) [Value.ref (ad 100), Value.ref (ad (idR p)), Value.int (iI i), Value.int (iI j)] ms_CF_181 rfl (c_Wa_begin hg (by omega) (by omega)) rfl rfl ⟨Nat.le_of_ble_eq_true rfl, Nat.le_of_ble_eq_true rfl⟩ ⟨Nat.le_of_ble_eq_true rfl, Nat.le_of_ble_eq_true rfl⟩ (Nat.le_of_ble_eq_true rfl) d_CF_markBelow_50 (fun v w' hp => ?_)
        obtain ⟨rfl, cu6, rfl, hW6⟩ := hp
        show J l D b Y_CF_markBelow _ _ (ad, cC ad r lp fd nr nr nr mc lf ln bd tm it th my lps em mk tr true (Value.ref (ad (idR p))) j cu6 false vg vr ve vc vb sy sf so st sn ne mt1) 0 0 53 [(5, Value.ref (ad (idR p))), (4, Value.int (iI p)), (0, Value.ref (ad 100)), (1, Value.int (iI s)), (2, Value.int (iI i)), (3, Value.int (iI j))] []
        have hW := hW6
        have hz0 : false = true → ln p = 0 → i = j := fun h => by cases h
        have hPs := drop_start (P := fun L => GP (MB ln bd i j) (wayT tm (dvM mk) ln (bsM bd) i j) (wl nr lf ln s i j 0) (mS mt) (mS mt1) L) GP.drop (show p < nr by omega) ‹lf p = s› hP
        refine J.loop (σ := (Int → Int → Bool) × Bool × (Int → Int) × List (Int × Int)) (fun xx_ => match xx_ with | (mt2, b2, cu, rs1) => (WS (ln p) i j b2 cu rs1) ∧ (b2 = true → ln p = 0 → i = j) ∧ (GP (MB ln bd i j) (wayT tm (dvM mk) ln (bsM bd) i j) (wl nr lf ln s i j 0) (mS mt) (mS mt2) (rsW nr lf ln s i j p rs1))) (fun xx_ => match xx_ with | (mt2, b2, cu, rs1) => rs1.length) (ws := fun xx_ => match xx_ with | (mt2, b2, cu, rs1) => (ad, cC ad r lp fd nr nr nr mc lf ln bd tm it th my lps em mk tr true (Value.ref (ad (idR p))) j cu b2 vg vr ve vc vb sy sf so st sn ne mt2)) (ks := fun _ => 0) (ns := fun _ => 0) (lvs := fun xx_ => match xx_ with | (mt2, b2, cu, rs1) => [(5, Value.ref (ad (idR p))), (4, Value.int (iI p)), (0, Value.ref (ad 100)), (1, Value.int (iI s)), (2, Value.int (iI i)), (3, Value.int (iI j))]) (sts := fun _ => []) ?_ (mt1, false, cu6, stS (ln p) i j) ?_
        · rintro ⟨mt2, b2, cu, rs1⟩ hI ih7
          have hI : (WS (ln p) i j b2 cu rs1) ∧ (b2 = true → ln p = 0 → i = j) ∧ (GP (MB ln bd i j) (wayT tm (dvM mk) ln (bsM bd) i j) (wl nr lf ln s i j 0) (mS mt) (mS mt2) (rsW nr lf ln s i j p rs1)) := hI
          obtain ⟨hWS, hz, hPs⟩ := hI
          show J l D b Y_CF_markBelow _ _ (ad, cC ad r lp fd nr nr nr mc lf ln bd tm it th my lps em mk tr true (Value.ref (ad (idR p))) j cu b2 vg vr ve vc vb sy sf so st sn ne mt2) 0 0 53 [(5, Value.ref (ad (idR p))), (4, Value.int (iI p)), (0, Value.ref (ad 100)), (1, Value.int (iI s)), (2, Value.int (iI i)), (3, Value.int (iI j))] []
          have hW := hWS
          have hz0 := hz
          refine J_aload_n d_CF_markBelow_53 rfl 2 rfl ?_
          refine J_get fs_CF_46 rfl rfl d_CF_markBelow_54 ?_
          refine J_callV (st := []) [] ms_CF_185 rfl (c_Wa_next hg htm hmk (by omega) (by omega) hW hz0) rfl rfl ⟨Nat.le_of_ble_eq_true rfl, Nat.le_of_ble_eq_true rfl⟩ ⟨Nat.le_of_ble_eq_true rfl, Nat.le_of_ble_eq_true rfl⟩ (Nat.le_of_ble_eq_true rfl) d_CF_markBelow_57 (fun v w' hp => ?_)
          obtain ⟨z8, cu8, rfl, rfl, hX8⟩ := hp
          show J l D b Y_CF_markBelow _ _ (ad, cC ad r lp fd nr nr nr mc lf ln bd tm it th my lps em mk tr true (Value.ref (ad (idR p))) j cu8 true vg vr ve vc vb sy sf so st sn ne mt2) 0 0 60 [(5, Value.ref (ad (idR p))), (4, Value.int (iI p)), (0, Value.ref (ad 100)), (1, Value.int (iI s)), (2, Value.int (iI i)), (3, Value.int (iI j))] [Value.int (iI (bz z8))]
          refine J_ifB_eq (tgt := 140) d_CF_markBelow_60 rfl (fun h60_9 => ?_) (fun h60_9 => ?_)
          · refine J_iinc (j := 1) d_CF_markBelow_140 rfl (by decide) rfl ?_
            refine J_goto (tgt := 3) d_CF_markBelow_143 rfl ?_
            refine J.sub [0, 2, 3, 4, 5] rfl ?_
            exact ih1 (p + 1, mt2, true, Value.ref (ad (idR p)), j, cu8, true) (show (0 ≤ (p + 1) ∧ (p + 1) ≤ nr) ∧ (GP (MB ln bd i j) (wayT tm (dvM mk) ln (bsM bd) i j) (wl nr lf ln s i j 0) (mS mt) (mS mt2) (wl nr lf ln s i j (p + 1))) by
                exact ⟨by omega, (drop_next (P := fun L => GP (MB ln bd i j) (wayT tm (dvM mk) ln (bsM bd) i j) (wl nr lf ln s i j 0) (mS mt) (mS mt2) L) GP.drop hPs).1 (by
                    rcases hX8 with ⟨-, h9⟩ | ⟨h9, -⟩
                    · exact h9
                    · rw [‹z8 = false›] at h9
                      cases h9)⟩) (show ((nr - (p + 1)).toNat) < ((nr - p).toNat) by
                omega)
          · obtain ⟨p9_, l9_, hf9, hWA, hl9⟩ : ∃ pp ll, fwL (fun y => wayB tm (dvM mk) (ln p) (bsM bd p) y.1 y.2 i j) rs1 = some (pp, ll) ∧ WA (ln p) i j cu8 pp ∧ ll = tlS (ln p) j pp.1 pp.2 := by
              rcases hX8 with ⟨h9, -⟩ | ⟨-, h9⟩
              · rw [‹z8 = true›] at h9
                cases h9
              · exact h9
            obtain ⟨hfw, hPn⟩ := (drop_next (P := fun L => GP (MB ln bd i j) (wayT tm (dvM mk) ln (bsM bd) i j) (wl nr lf ln s i j 0) (mS mt) (mS mt2) L) GP.drop hPs).2 p9_ l9_ hf9
            refine J_iconst d_CF_markBelow_63 ?_
            refine J_istore d_CF_markBelow_64 (by decide) rfl ?_
            refine J.loop (σ := Int × (Int → Int → Bool)) (fun xx_ => match xx_ with | (k, mt3) => (0 ≤ k ∧ k ≤ ln p) ∧ (GK (MB ln bd i j) (wayT tm (dvM mk) ln (bsM bd) i j) (wl nr lf ln s i j 0) (mS mt) (mS mt3) (p, p9_) k (rsW nr lf ln s i j p l9_))) (fun xx_ => match xx_ with | (k, mt3) => (ln p - k).toNat) (ws := fun xx_ => match xx_ with | (k, mt3) => (ad, cC ad r lp fd nr nr nr mc lf ln bd tm it th my lps em mk tr true (Value.ref (ad (idR p))) j cu8 true vg vr ve vc vb sy sf so st sn ne mt3)) (ks := fun _ => 0) (ns := fun _ => 0) (lvs := fun xx_ => match xx_ with | (k, mt3) => [(6, Value.int (iI k)), (5, Value.ref (ad (idR p))), (4, Value.int (iI p)), (0, Value.ref (ad 100)), (1, Value.int (iI s)), (2, Value.int (iI i)), (3, Value.int (iI j))]) (sts := fun _ => []) ?_ (0, mt2) ?_
            · rintro ⟨k, mt3⟩ hI ih10
              have hI : (0 ≤ k ∧ k ≤ ln p) ∧ (GK (MB ln bd i j) (wayT tm (dvM mk) ln (bsM bd) i j) (wl nr lf ln s i j 0) (mS mt) (mS mt3) (p, p9_) k (rsW nr lf ln s i j p l9_)) := hI
              obtain ⟨hk, hK⟩ := hI
              show J l D b Y_CF_markBelow _ _ (ad, cC ad r lp fd nr nr nr mc lf ln bd tm it th my lps em mk tr true (Value.ref (ad (idR p))) j cu8 true vg vr ve vc vb sy sf so st sn ne mt3) 0 0 66 [(6, Value.int (iI k)), (5, Value.ref (ad (idR p))), (4, Value.int (iI p)), (0, Value.ref (ad 100)), (1, Value.int (iI s)), (2, Value.int (iI i)), (3, Value.int (iI j))] []
              refine J_iload d_CF_markBelow_66 0 rfl ?_
              refine J_aload d_CF_markBelow_68 1 rfl ?_
              refine J_get fs_CF_189 (hidR (k := p) (by omega) (by omega)) rfl d_CF_markBelow_70 ?_
              refine J_alenE (z := ln p) (hidB (k := p) (by omega) (by omega)) (by omega) d_CF_markBelow_73 ?_
              refine J_icmp_ge (tgt := 137) d_CF_markBelow_74 rfl (by omega) (by omega) (fun h74_11 => ?_) (fun h74_11 => ?_)
              · refine J_goto (tgt := 53) d_CF_markBelow_137 rfl ?_
                refine J.sub [1, 2, 3, 4, 5, 6] rfl ?_
                exact ih7 (mt3, true, cu8, l9_) (show (WS (ln p) i j true cu8 l9_) ∧ (true = true → ln p = 0 → i = j) ∧ (GP (MB ln bd i j) (wayT tm (dvM mk) ln (bsM bd) i j) (wl nr lf ln s i j 0) (mS mt) (mS mt3) (rsW nr lf ln s i j p l9_)) by
                    exact ⟨Or.inr ⟨rfl, p9_.1, p9_.2, hWA.1, hWA.2.1, hl9⟩, fun _ => hWA.2.2, hK.close (fun k' z e => by have h9 : k' < ln p := e.1.2; omega)⟩) (show (l9_.length) < (rs1.length) by
                    have := fwL_len hf9
                    omega)
              · have hk1 := hWA.2.1.at (k := k) hl (by omega) (by omega)
                have hk2 := hWA.2.1.at (k := k + 1) hl (by omega) (by omega)
                have hr1 := cutV_rng (n := ln p) (k := k) hWA.1
                have hr2 := cutV_rng (n := ln p) (k := k + 1) hWA.1
                have hr3 := cutV_mono (k := k) hWA.1 hl.2 (by omega)
                rw [← hk1] at hr1 hr3
                rw [← hk2] at hr2 hr3
                have hbk := hg.2.2.2.1 (3 * p + k) (by omega) (by omega)
                have hb9 := hg.2.2.2.2 p k (by omega) (by omega) (by omega) (by omega)
                refine J_aload d_CF_markBelow_77 1 rfl ?_
                refine J_get fs_CF_189 (hidR (k := p) (by omega) (by omega)) rfl d_CF_markBelow_79 ?_
                refine J_iload d_CF_markBelow_82 0 rfl ?_
                refine J_iald (hidB (k := p) (by omega) (by omega)) (by omega) (by omega) d_CF_markBelow_84 ?_
                refine J.topI (bq_in (by omega)) ?_
                refine J_callS (st := []) [Value.int (iI (bd (3 * p + k)))] ms_CF_95 (c_CF_isNonterminal (by omega)) rfl rfl ⟨Nat.le_of_ble_eq_true rfl, Nat.le_of_ble_eq_true rfl⟩ ⟨Nat.le_of_ble_eq_true rfl, Nat.le_of_ble_eq_true rfl⟩ (Nat.le_of_ble_eq_true rfl) d_CF_markBelow_85 (fun v w' hp => ?_)
                obtain ⟨rfl, rfl⟩ := hp
                show J l D b Y_CF_markBelow _ _ (ad, cC ad r lp fd nr nr nr mc lf ln bd tm it th my lps em mk tr true (Value.ref (ad (idR p))) j cu8 true vg vr ve vc vb sy sf so st sn ne mt3) 0 0 88 [(6, Value.int (iI k)), (5, Value.ref (ad (idR p))), (4, Value.int (iI p)), (0, Value.ref (ad 100)), (1, Value.int (iI s)), (2, Value.int (iI i)), (3, Value.int (iI j))] [Value.int (iI (bz (ntB (bd (3 * p + k)))))]
                refine J_ifB_eq (tgt := 131) d_CF_markBelow_88 rfl (fun h88_13 => ?_) (fun h88_13 => ?_)
                · refine J_iinc (j := 0) d_CF_markBelow_131 rfl (by decide) rfl ?_
                  refine J_goto (tgt := 66) d_CF_markBelow_134 rfl ?_
                  exact ih10 (k + 1, mt3) (show (0 ≤ (k + 1) ∧ (k + 1) ≤ ln p) ∧ (GK (MB ln bd i j) (wayT tm (dvM mk) ln (bsM bd) i j) (wl nr lf ln s i j 0) (mS mt) (mS mt3) (p, p9_) (k + 1) (rsW nr lf ln s i j p l9_)) by
                      refine ⟨by omega, hK.no (fun z hz => ?_)⟩
                      obtain ⟨-, z2, z3⟩ := hz
                      have z2' : bd (3 * p + k) ≤ 4 := z2
                      have := ntB_no ‹ntB (bd (3 * p + k)) = false›
                      omega) (show ((ln p - (k + 1)).toNat) < ((ln p - k).toNat) by
                      omega)
                · have hnt := ntB_of ‹ntB (bd (3 * p + k)) = true›
                  refine J_aload_n d_CF_markBelow_91 rfl 3 rfl ?_
                  refine J_get fs_CF_65 rfl rfl d_CF_markBelow_92 ?_
                  refine J_iconst d_CF_markBelow_95 ?_
                  refine J_aload_n d_CF_markBelow_96 rfl 3 rfl ?_
                  refine J_get fs_CF_46 rfl rfl d_CF_markBelow_97 ?_
                  refine J_get (v := Value.ref (ad 109)) fs_CF_192 rfl rfl d_CF_markBelow_100 ?_
                  refine J_iload d_CF_markBelow_103 0 rfl ?_
                  refine J_iconst d_CF_markBelow_105 ?_
                  refine J_iadd d_CF_markBelow_106 ?_
                  refine J_iald rfl (by omega) (by decide) d_CF_markBelow_107 ?_
                  refine J_imul d_CF_markBelow_108 ?_
                  refine J_aload d_CF_markBelow_109 1 rfl ?_
                  refine J_get fs_CF_189 (hidR (k := p) (by omega) (by omega)) rfl d_CF_markBelow_111 ?_
                  refine J_iload d_CF_markBelow_114 0 rfl ?_
                  refine J_iald (hidB (k := p) (by omega) (by omega)) (by omega) (by omega) d_CF_markBelow_116 ?_
                  refine J.topI (bq_in (by omega)) ?_
                  refine J_iadd d_CF_markBelow_117 ?_
                  refine J_aald (v := Value.ref (ad (idM ((5 * (cu8 (k + 1))) + (bd (3 * p + k)))))) rfl rfl (by omega) (by decide) rfl d_CF_markBelow_118 ?_
                  refine J_aload_n d_CF_markBelow_119 rfl 3 rfl ?_
                  refine J_get fs_CF_46 rfl rfl d_CF_markBelow_120 ?_
                  refine J_get (v := Value.ref (ad 109)) fs_CF_192 rfl rfl d_CF_markBelow_123 ?_
                  refine J_iload d_CF_markBelow_126 0 rfl ?_
                  refine J_iald rfl (by omega) (by decide) d_CF_markBelow_128 ?_
                  refine J_iconst d_CF_markBelow_129 ?_
                  refine J.top (show Value.int (iI 1) = Value.int (iI (bz true)) from rfl) ?_
                  refine J_zast (hidM (k := ((5 * (cu8 (k + 1))) + (bd (3 * p + k)))) (by omega)) (by omega) (by decide) (uidM_mt (k := ((5 * (cu8 (k + 1))) + (bd (3 * p + k)))) (by omega)) d_CF_markBelow_130 ?_
                  refine J_iinc (j := 0) d_CF_markBelow_131 rfl (by decide) rfl ?_
                  refine J_goto (tgt := 66) d_CF_markBelow_134 rfl ?_
                  exact ih10 (k + 1, upI mt3 ((5 * (cu8 (k + 1))) + (bd (3 * p + k))) (upI (mt3 ((5 * (cu8 (k + 1))) + (bd (3 * p + k)))) (cu8 k) true)) (show (0 ≤ (k + 1) ∧ (k + 1) ≤ ln p) ∧ (GK (MB ln bd i j) (wayT tm (dvM mk) ln (bsM bd) i j) (wl nr lf ln s i j 0) (mS mt) (mS (upI mt3 ((5 * (cu8 (k + 1))) + (bd (3 * p + k))) (upI (mt3 ((5 * (cu8 (k + 1))) + (bd (3 * p + k)))) (cu8 k) true))) (p, p9_) (k + 1) (rsW nr lf ln s i j p l9_)) by
                      refine ⟨by omega, hK.step mS_up (fun z => ⟨fun e => ⟨⟨by omega, by omega⟩, (show bd (3 * p + k) ≤ 4 by omega), by rw [← hk1, ← hk2]; exact e⟩, fun ⟨_, _, e⟩ => by rw [← hk1, ← hk2] at e; exact e⟩)⟩) (show ((ln p - (k + 1)).toNat) < ((ln p - k).toNat) by
                      omega)
            · show (0 ≤ (0 : Int) ∧ (0 : Int) ≤ ln p) ∧ (GK (MB ln bd i j) (wayT tm (dvM mk) ln (bsM bd) i j) (wl nr lf ln s i j 0) (mS mt) (mS mt2) (p, p9_) (0 : Int) (rsW nr lf ln s i j p l9_))
              exact ⟨by omega, hPn.opn hfw (fun k z e => e.1.1)⟩
        · show (WS (ln p) i j false cu6 (stS (ln p) i j)) ∧ (false = true → ln p = 0 → i = j) ∧ (GP (MB ln bd i j) (wayT tm (dvM mk) ln (bsM bd) i j) (wl nr lf ln s i j 0) (mS mt) (mS mt1) (rsW nr lf ln s i j p (stS (ln p) i j)))
          exact ⟨hW, (fun h => by cases h), hPs⟩
      · refine J_goto (tgt := 140) d_CF_markBelow_38 rfl ?_
        refine J_iinc (j := 1) d_CF_markBelow_140 rfl (by decide) rfl ?_
        refine J_goto (tgt := 3) d_CF_markBelow_143 rfl ?_
        refine J.sub [0, 2, 3, 4, 5] rfl ?_
        exact ih1 (p + 1, mt1, g1, r1, e1, cu1, b1) (show (0 ≤ (p + 1) ∧ (p + 1) ≤ nr) ∧ (GP (MB ln bd i j) (wayT tm (dvM mk) ln (bsM bd) i j) (wl nr lf ln s i j 0) (mS mt) (mS mt1) (wl nr lf ln s i j (p + 1))) by
            exact ⟨by omega, drop_skip (P := fun L => GP (MB ln bd i j) (wayT tm (dvM mk) ln (bsM bd) i j) (wl nr lf ln s i j 0) (mS mt) (mS mt1) L) (by omega) ‹lf p ≠ s› hP⟩) (show ((nr - (p + 1)).toNat) < ((nr - p).toNat) by
            omega)
  · show (0 ≤ (0 : Int) ∧ (0 : Int) ≤ nr) ∧ (GP (MB ln bd i j) (wayT tm (dvM mk) ln (bsM bd) i j) (wl nr lf ln s i j 0) (mS mt) (mS mt) (wl nr lf ln s i j (0 : Int)))
    exact ⟨by omega, GP.rf⟩
set_option maxHeartbeats 4000000 in
theorem c_Co_clear  {j : Int} (hj : 0 ≤ j ∧ j ≤ 12) : Ct l D b Y_Co_clear { frames := 0, cells := 0, slots := 0, locals := 0 } [Value.ref (ad (idC j))] (ad, cC ad r lp fd nr nr nr mc lf ln bd tm it th my lps em mk tr wg wr we wc wb vg vr ve vc vb sy sf so st sn ne mt) (fun v w' => ∃ mk' tr', v = none ∧ w' = (ad, cC ad r lp fd nr nr nr mc lf ln bd tm it th my lps em mk' tr' wg wr we wc wb vg vr ve vc vb sy sf so st sn ne mt) ∧ (∀ b, b ≠ j → mk' b = mk b ∧ tr' b = tr b) ∧ ∀ i, 0 ≤ i → i ≤ j → mk' j i = 0 ∧ ∀ s, 0 ≤ s → s ≤ 4 → tr' j i s = 0) := by
  refine Ct_of (by decide) (Nat.le_of_ble_eq_true rfl) ?_
  show J l D b Y_Co_clear _ _ (ad, cC ad r lp fd nr nr nr mc lf ln bd tm it th my lps em mk tr wg wr we wc wb vg vr ve vc vb sy sf so st sn ne mt) 0 0 0 [(0, Value.ref (ad (idC j)))] []
  refine J_iconst d_Co_clear_0 ?_
  refine J_istore_n d_Co_clear_1 rfl (by decide) rfl ?_
  refine J.sub [0, 1] (lv' := [(1, Value.int (iI 0)), (0, Value.ref (ad (idC j)))]) rfl ?_
  refine J.loop (σ := Int × (Int → Int → Int) × (Int → Int → Int → Int)) (fun xx_ => match xx_ with | (i, mk1, tr1) => (0 ≤ i ∧ i ≤ j + 1) ∧ ((∀ b, b ≠ j → mk1 b = mk b ∧ tr1 b = tr b) ∧ ∀ i', 0 ≤ i' → i' < i → mk1 j i' = 0 ∧ ∀ s, 0 ≤ s → s ≤ 4 → tr1 j i' s = 0)) (fun xx_ => match xx_ with | (i, mk1, tr1) => (j + 1 - i).toNat) (ws := fun xx_ => match xx_ with | (i, mk1, tr1) => (ad, cC ad r lp fd nr nr nr mc lf ln bd tm it th my lps em mk1 tr1 wg wr we wc wb vg vr ve vc vb sy sf so st sn ne mt)) (ks := fun _ => 0) (ns := fun _ => 0) (lvs := fun xx_ => match xx_ with | (i, mk1, tr1) => [(1, Value.int (iI i)), (0, Value.ref (ad (idC j)))]) (sts := fun _ => []) ?_ (0, mk, tr) ?_
  · rintro ⟨i, mk1, tr1⟩ hI ih1
    have hI : (0 ≤ i ∧ i ≤ j + 1) ∧ ((∀ b, b ≠ j → mk1 b = mk b ∧ tr1 b = tr b) ∧ ∀ i', 0 ≤ i' → i' < i → mk1 j i' = 0 ∧ ∀ s, 0 ≤ s → s ≤ 4 → tr1 j i' s = 0) := hI
    obtain ⟨hi, hA⟩ := hI
    show J l D b Y_Co_clear _ _ (ad, cC ad r lp fd nr nr nr mc lf ln bd tm it th my lps em mk1 tr1 wg wr we wc wb vg vr ve vc vb sy sf so st sn ne mt) 0 0 2 [(1, Value.int (iI i)), (0, Value.ref (ad (idC j)))] []
    refine J_iload_n d_Co_clear_2 rfl 0 rfl ?_
    refine J_aload_n d_Co_clear_3 rfl 1 rfl ?_
    refine J_get fs_Co_9 (hidC (k := j) (by omega)) rfl d_Co_clear_4 ?_
    refine J_alenE (z := j + 1) (hidK (k := j) (by omega)) (by omega) d_Co_clear_7 ?_
    refine J_icmp_ge (tgt := 46) d_Co_clear_8 rfl (by omega) (by omega) (fun h8_2 => ?_) (fun h8_2 => ?_)
    · refine J_vret rfl d_Co_clear_46 ⟨Nat.le_of_ble_eq_true rfl, Nat.le_of_ble_eq_true rfl⟩ ?_
      exact ⟨mk1, tr1, rfl, rfl, hA.1, fun i' a1 a2 => hA.2 i' a1 (by omega)⟩
    · refine J_aload_n d_Co_clear_11 rfl 1 rfl ?_
      refine J_get fs_Co_9 (hidC (k := j) (by omega)) rfl d_Co_clear_12 ?_
      refine J_iload_n d_Co_clear_15 rfl 0 rfl ?_
      refine J_iconst d_Co_clear_16 ?_
      refine J_iast (hidK (k := j) (by omega)) (by omega) (by omega) (uidK_mk (k := j) (by omega)) d_Co_clear_17 ?_
      refine J_iconst d_Co_clear_18 ?_
      refine J_istore_n d_Co_clear_19 rfl (by decide) rfl ?_
      refine J.loop (σ := Int × (Int → Int → Int → Int)) (fun xx_ => match xx_ with | (s, tr2) => (0 ≤ s ∧ s ≤ 5) ∧ ((∀ b, b ≠ j → tr2 b = tr b) ∧ (∀ i', 0 ≤ i' → i' < i → ∀ y, 0 ≤ y → y ≤ 4 → tr2 j i' y = 0) ∧ ∀ s', 0 ≤ s' → s' < s → tr2 j i s' = 0)) (fun xx_ => match xx_ with | (s, tr2) => (5 - s).toNat) (ws := fun xx_ => match xx_ with | (s, tr2) => (ad, cC ad r lp fd nr nr nr mc lf ln bd tm it th my lps em (upI mk1 j (upI (mk1 j) i 0)) tr2 wg wr we wc wb vg vr ve vc vb sy sf so st sn ne mt)) (ks := fun _ => 0) (ns := fun _ => 0) (lvs := fun xx_ => match xx_ with | (s, tr2) => [(2, Value.int (iI s)), (1, Value.int (iI i)), (0, Value.ref (ad (idC j)))]) (sts := fun _ => []) ?_ (0, tr1) ?_
      · rintro ⟨s, tr2⟩ hI ih3
        have hI : (0 ≤ s ∧ s ≤ 5) ∧ ((∀ b, b ≠ j → tr2 b = tr b) ∧ (∀ i', 0 ≤ i' → i' < i → ∀ y, 0 ≤ y → y ≤ 4 → tr2 j i' y = 0) ∧ ∀ s', 0 ≤ s' → s' < s → tr2 j i s' = 0) := hI
        obtain ⟨hs, hB⟩ := hI
        show J l D b Y_Co_clear _ _ (ad, cC ad r lp fd nr nr nr mc lf ln bd tm it th my lps em (upI mk1 j (upI (mk1 j) i 0)) tr2 wg wr we wc wb vg vr ve vc vb sy sf so st sn ne mt) 0 0 20 [(2, Value.int (iI s)), (1, Value.int (iI i)), (0, Value.ref (ad (idC j)))] []
        refine J_iload_n d_Co_clear_20 rfl 0 rfl ?_
        refine J_iconst d_Co_clear_21 ?_
        refine J_icmp_ge (tgt := 40) d_Co_clear_22 rfl (by omega) (by omega) (fun h22_4 => ?_) (fun h22_4 => ?_)
        · refine J_iinc (j := 1) d_Co_clear_40 rfl (by decide) rfl ?_
          refine J_goto (tgt := 2) d_Co_clear_43 rfl ?_
          refine J.sub [0, 2] rfl ?_
          exact ih1 (i + 1, upI mk1 j (upI (mk1 j) i 0), tr2) (show (0 ≤ (i + 1) ∧ (i + 1) ≤ j + 1) ∧ ((∀ b, b ≠ j → (upI mk1 j (upI (mk1 j) i 0)) b = mk b ∧ tr2 b = tr b) ∧ ∀ i', 0 ≤ i' → i' < (i + 1) → (upI mk1 j (upI (mk1 j) i 0)) j i' = 0 ∧ ∀ s, 0 ≤ s → s ≤ 4 → tr2 j i' s = 0) by
              refine ⟨by omega, fun b hb => ⟨by rw [upI_ne _ _ hb]; exact (hA.1 b hb).1, hB.1 b hb⟩, fun i' a1 a2 => ?_⟩
              rw [upI_self, upI_ap]
              by_cases e : i' = i
              · rw [if_pos e, e]
                exact ⟨rfl, fun s b1 b2 => hB.2.2 s b1 (by omega)⟩
              · rw [if_neg e]
                exact ⟨(hA.2 i' a1 (by omega)).1, hB.2.1 i' a1 (by omega)⟩) (show ((j + 1 - (i + 1)).toNat) < ((j + 1 - i).toNat) by
              omega)
        · refine J_aload_n d_Co_clear_25 rfl 2 rfl ?_
          refine J_get fs_Co_17 (hidC (k := j) (by omega)) rfl d_Co_clear_26 ?_
          refine J_iload_n d_Co_clear_29 rfl 1 rfl ?_
          refine J_aald (v := Value.ref (ad (idX j i))) (hidW (k := j) (by omega)) rfl (by omega) (by omega) rfl d_Co_clear_30 ?_
          refine J_iload_n d_Co_clear_31 rfl 0 rfl ?_
          refine J_lconst (z := 0) d_Co_clear_32 rfl ?_
          refine J_last (hidX (k := j) (j := i) (by omega) (by omega)) (by omega) (by decide) (uidX_tr (k := j) (j := i) (by omega) (by omega)) d_Co_clear_33 ?_
          refine J_iinc (j := 0) d_Co_clear_34 rfl (by decide) rfl ?_
          refine J_goto (tgt := 20) d_Co_clear_37 rfl ?_
          exact ih3 (s + 1, upI tr2 j (upI (tr2 j) i (upI (tr2 j i) s 0))) (show (0 ≤ (s + 1) ∧ (s + 1) ≤ 5) ∧ ((∀ b, b ≠ j → (upI tr2 j (upI (tr2 j) i (upI (tr2 j i) s 0))) b = tr b) ∧ (∀ i', 0 ≤ i' → i' < i → ∀ y, 0 ≤ y → y ≤ 4 → (upI tr2 j (upI (tr2 j) i (upI (tr2 j i) s 0))) j i' y = 0) ∧ ∀ s', 0 ≤ s' → s' < (s + 1) → (upI tr2 j (upI (tr2 j) i (upI (tr2 j i) s 0))) j i s' = 0) by
              refine ⟨by omega, fun b hb => by rw [upI_ne _ _ hb]; exact hB.1 b hb, fun i' a1 a2 s' b1 b2 => ?_, fun s' a1 a2 => ?_⟩
              · rw [upI_self, upI_ne _ _ (by omega)]
                exact hB.2.1 i' a1 a2 s' b1 b2
              · rw [upI_self, upI_self, upI_ap]
                split
                · rfl
                · exact hB.2.2 s' a1 (by omega)) (show ((5 - (s + 1)).toNat) < ((5 - s).toNat) by
              omega)
      · show (0 ≤ (0 : Int) ∧ (0 : Int) ≤ 5) ∧ ((∀ b, b ≠ j → tr1 b = tr b) ∧ (∀ i', 0 ≤ i' → i' < i → ∀ y, 0 ≤ y → y ≤ 4 → tr1 j i' y = 0) ∧ ∀ s', 0 ≤ s' → s' < (0 : Int) → tr1 j i s' = 0)
        exact ⟨by omega, fun b hb => (hA.1 b hb).2, fun i' a b => (hA.2 i' a b).2, fun s' a b => by omega⟩
  · show (0 ≤ (0 : Int) ∧ (0 : Int) ≤ j + 1) ∧ ((∀ b, b ≠ j → mk b = mk b ∧ tr b = tr b) ∧ ∀ i', 0 ≤ i' → i' < (0 : Int) → mk j i' = 0 ∧ ∀ s, 0 ≤ s → s ≤ 4 → tr j i' s = 0)
    exact ⟨by omega, fun _ _ => ⟨rfl, rfl⟩, fun i' a b => by omega⟩
end N8
