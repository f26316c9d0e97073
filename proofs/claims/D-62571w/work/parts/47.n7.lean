theorem fwL_len {f : Int × Int → Bool} : ∀ {l : List (Int × Int)} {p : Int × Int} {l' : List (Int × Int)}, fwL f l = some (p, l') → l'.length < l.length
  | [], p, l', h => by cases h
  | q :: l, p, l', h => by
    rw [fwL_cons] at h
    split at h
    · cases h
      exact Nat.lt_succ_self _
    · have := fwL_len h
      rw [List.length_cons]
      omega
section N7
variable {l : Launch} {D : jD} {b : Nat} {w : jW} {ad : Nat → Nat} {r : Nat → Option jE} {lp : Bool} {fd : Int} {nr : Int} {nc : Int} {nd : Int} {mc : Int} {lf : Int → Int} {ln : Int → Int} {bd : Int → Int} {tm : Int → Int} {it : Int → Int → Int} {th : Int → Int → Bool} {my : Int → Int} {lps : Int → Int → Int} {em : Int → Int} {mk : Int → Int → Int} {tr : Int → Int → Int → Int} {wg : Bool} {wr : Value} {we : Int} {wc : Int → Int} {wb : Bool} {vg : Bool} {vr : Value} {ve : Int} {vc : Int → Int} {vb : Bool} {sy : Int → Int} {sf : Int → Int} {so : Int → Int} {st : Int → Int} {sn : Int} {ne : Int → Int} {mt : Int → Int → Bool}
set_option maxHeartbeats 4000000 in
theorem c_CF_hasWay {s : Int} {i : Int} {j : Int}  (hg : gOK nr lf ln bd) (htm : ∀ x, 0 ≤ x → x < 12 → -2147483648 ≤ tm x ∧ tm x ≤ 2147483647) (hmk : MkR mk) (hs : 0 ≤ s ∧ s ≤ 4) (hij : 0 ≤ i ∧ i ≤ j ∧ j ≤ 12) : Ct l D b Y_CF_hasWay { frames := 3, cells := 0, slots := 0, locals := 64 } [Value.ref (ad 100), Value.int (iI s), Value.int (iI i), Value.int (iI j)] (ad, cC ad r lp fd nr nr nr mc lf ln bd tm it th my lps em mk tr wg wr we wc wb vg vr ve vc vb sy sf so st sn ne mt) (fun v w' => ∃ z g' r' e' cu' b', v = some (.int (iI (bz z))) ∧ w' = (ad, cC ad r lp fd nr nr nr mc lf ln bd tm it th my lps em mk tr g' r' e' cu' b' vg vr ve vc vb sy sf so st sn ne mt) ∧ (z = true ↔ ∃ q ∈ (wl nr lf ln s i j 0), (wayT tm (dvM mk) ln (bsM bd) i j) q = true)) := by
  refine Ct_of (by decide) (Nat.le_of_ble_eq_true rfl) ?_
  have hn := hg.1
  show J l D b Y_CF_hasWay _ _ (ad, cC ad r lp fd nr nr nr mc lf ln bd tm it th my lps em mk tr wg wr we wc wb vg vr ve vc vb sy sf so st sn ne mt) 0 0 0 [(0, Value.ref (ad 100)), (1, Value.int (iI s)), (2, Value.int (iI i)), (3, Value.int (iI j))] []
  refine J_iconst d_CF_hasWay_0 ?_
  refine J_istore d_CF_hasWay_1 (by decide) rfl ?_
  refine J.loop (σ := Int × Bool × Value × Int × (Int → Int) × Bool) (fun xx_ => match xx_ with | (p, g1, r1, e1, cu1, b1) => (0 ≤ p ∧ p ≤ nr) ∧ (HP (wayT tm (dvM mk) ln (bsM bd) i j) (wl nr lf ln s i j 0) (wl nr lf ln s i j p))) (fun xx_ => match xx_ with | (p, g1, r1, e1, cu1, b1) => (nr - p).toNat) (ws := fun xx_ => match xx_ with | (p, g1, r1, e1, cu1, b1) => (ad, cC ad r lp fd nr nr nr mc lf ln bd tm it th my lps em mk tr g1 r1 e1 cu1 b1 vg vr ve vc vb sy sf so st sn ne mt)) (ks := fun _ => 0) (ns := fun _ => 0) (lvs := fun xx_ => match xx_ with | (p, g1, r1, e1, cu1, b1) => [(4, Value.int (iI p)), (0, Value.ref (ad 100)), (1, Value.int (iI s)), (2, Value.int (iI i)), (3, Value.int (iI j))]) (sts := fun _ => []) ?_ (0, wg, wr, we, wc, wb) ?_
  · rintro ⟨p, g1, r1, e1, cu1, b1⟩ hI ih1
    have hI : (0 ≤ p ∧ p ≤ nr) ∧ (HP (wayT tm (dvM mk) ln (bsM bd) i j) (wl nr lf ln s i j 0) (wl nr lf ln s i j p)) := hI
    obtain ⟨hp, hP⟩ := hI
    show J l D b Y_CF_hasWay _ _ (ad, cC ad r lp fd nr nr nr mc lf ln bd tm it th my lps em mk tr g1 r1 e1 cu1 b1 vg vr ve vc vb sy sf so st sn ne mt) 0 0 3 [(4, Value.int (iI p)), (0, Value.ref (ad 100)), (1, Value.int (iI s)), (2, Value.int (iI i)), (3, Value.int (iI j))] []
    refine J_iload d_CF_hasWay_3 0 rfl ?_
    refine J_aload_n d_CF_hasWay_5 rfl 1 rfl ?_
    refine J_get fs_CF_23 rfl rfl d_CF_hasWay_6 ?_
    refine J_callV (st := [Value.int (iI p)]) [] ms_CF_105 rfl (c_Al_size) rfl rfl ⟨Nat.le_of_ble_eq_true rfl, Nat.le_of_ble_eq_true rfl⟩ ⟨Nat.le_of_ble_eq_true rfl, Nat.le_of_ble_eq_true rfl⟩ (Nat.le_of_ble_eq_true rfl) d_CF_hasWay_9 (fun v w' hp => ?_)
    obtain ⟨rfl, rfl⟩ := hp
    show J l D b Y_CF_hasWay _ _ (ad, cC ad r lp fd nr nr nr mc lf ln bd tm it th my lps em mk tr g1 r1 e1 cu1 b1 vg vr ve vc vb sy sf so st sn ne mt) 0 0 12 [(4, Value.int (iI p)), (0, Value.ref (ad 100)), (1, Value.int (iI s)), (2, Value.int (iI i)), (3, Value.int (iI j))] [Value.int (iI nr), Value.int (iI p)]
    refine J_icmp_ge (tgt := 74) d_CF_hasWay_12 rfl (by omega) (by omega) (fun h12_3 => ?_) (fun h12_3 => ?_)
    · refine J_iconst d_CF_hasWay_74 ?_
      refine J.top (show Value.int (iI 0) = Value.int (iI (bz false)) from rfl) ?_
      refine J_zret rfl d_CF_hasWay_75 ⟨Nat.le_of_ble_eq_true rfl, Nat.le_of_ble_eq_true rfl⟩ ?_
      refine ⟨false, _, _, _, _, _, rfl, rfl, (fun h => by cases h), fun ⟨q, h1, h2⟩ => ?_⟩
      have := hP.1 q h1 h2
      rw [wl_end (by omega)] at this
      cases this
    · have hlf := hg.2.1 p (by omega) (by omega)
      refine J_aload_n d_CF_hasWay_15 rfl 1 rfl ?_
      refine J_get fs_CF_23 rfl rfl d_CF_hasWay_16 ?_
      refine J_iload d_CF_hasWay_19 0 rfl ?_
      refine J_callV (st := []) [Value.int (iI p)] ms_CF_87 rfl (c_Al_get (by omega)) rfl rfl ⟨Nat.le_of_ble_eq_true rfl, Nat.le_of_ble_eq_true rfl⟩ ⟨Nat.le_of_ble_eq_true rfl, Nat.le_of_ble_eq_true rfl⟩ (Nat.le_of_ble_eq_true rfl) d_CF_hasWay_21 (fun v w' hp => ?_)
      obtain ⟨rfl, rfl⟩ := hp
      show J l D b Y_CF_hasWay _ _ (ad, cC ad r lp fd nr nr nr mc lf ln bd tm it th my lps em mk tr g1 r1 e1 cu1 b1 vg vr ve vc vb sy sf so st sn ne mt) 0 0 24 [(4, Value.int (iI p)), (0, Value.ref (ad 100)), (1, Value.int (iI s)), (2, Value.int (iI i)), (3, Value.int (iI j))] [Value.ref (ad (idR p))]
      refine J_cast (hidR (k := p) (by omega) (by omega)) rfl cl_CF_9 ca_Ru d_CF_hasWay_24 ?_
      refine J_get fs_CF_144 (hidR (k := p) (by omega) (by omega)) rfl d_CF_hasWay_27 ?_
      refine J_iload_n d_CF_hasWay_30 rfl 2 rfl ?_
      refine J_icmp_ne (tgt := 68) d_CF_hasWay_31 rfl (by omega) (by omega) (fun h31_5 => ?_) (fun h31_5 => ?_)
      · refine J_iinc (j := 0) d_CF_hasWay_68 rfl (by decide) rfl ?_
        refine J_goto (tgt := 3) d_CF_hasWay_71 rfl ?_
        exact ih1 (p + 1, g1, r1, e1, cu1, b1) (show (0 ≤ (p + 1) ∧ (p + 1) ≤ nr) ∧ (HP (wayT tm (dvM mk) ln (bsM bd) i j) (wl nr lf ln s i j 0) (wl nr lf ln s i j (p + 1))) by
            exact ⟨by omega, drop_skip (by omega) ‹lf p ≠ s› hP⟩) (show ((nr - (p + 1)).toNat) < ((nr - p).toNat) by
            omega)
      · refine J_aload_n d_CF_hasWay_34 rfl 1 rfl ?_
        refine J_get fs_CF_46 rfl rfl d_CF_hasWay_35 ?_
        refine J_aload_n d_CF_hasWay_38 rfl 1 rfl ?_
        refine J_aload_n d_CF_hasWay_39 rfl 1 rfl ?_
        refine J_get fs_CF_23 rfl rfl d_CF_hasWay_40 ?_
        refine J_iload d_CF_hasWay_43 0 rfl ?_
        refine J_callV (st := [Value.ref (ad 100), Value.ref (ad 108)]) [Value.int (iI p)] ms_CF_87 rfl (c_Al_get (by omega)) rfl rfl ⟨Nat.le_of_ble_eq_true rfl, Nat.le_of_ble_eq_true rfl⟩ ⟨Nat.le_of_ble_eq_true rfl, Nat.le_of_ble_eq_true rfl⟩ (Nat.le_of_ble_eq_true rfl) d_CF_hasWay_45 (fun v w' hp => ?_)
        obtain ⟨rfl, rfl⟩ := hp
        show J l D b Y_CF_hasWay _ _ (ad, cC ad r lp fd nr nr nr mc lf ln bd tm it th my lps em mk tr g1 r1 e1 cu1 b1 vg vr ve vc vb sy sf so st sn ne mt) 0 0 48 [(4, Value.int (iI p)), (0, Value.ref (ad 100)), (1, Value.int (iI s)), (2, Value.int (iI i)), (3, Value.int (iI j))] [Value.ref (ad (idR p)), Value.ref (ad 100), Value.ref (ad 108)]
        refine J_cast (hidR (k := p) (by omega) (by omega)) rfl cl_CF_9 ca_Ru d_CF_hasWay_48 ?_
        refine J_iload_n d_CF_hasWay_51 rfl 3 rfl ?_
        refine J_iload_n d_CF_hasWay_52 rfl 4 rfl ?_
        refine J_callV (st := []) [Value.ref (ad 100), Value.ref (ad (idR p)), Value.int (iI i), Value.int (iI j)] ms_CF_181 rfl (c_Wa_begin hg (by omega) (by omega)) rfl rfl ⟨Nat.le_of_ble_eq_true rfl, Nat.le_of_ble_eq_true rfl⟩ ⟨Nat.le_of_ble_eq_true rfl, Nat.le_of_ble_eq_true rfl⟩ (Nat.le_of_ble_eq_true rfl) d_CF_hasWay_53 (fun v w' hp => ?_)
        obtain ⟨rfl, cu7, rfl, hW7⟩ := hp
        show J l D b Y_CF_hasWay _ _ (ad, cC ad r lp fd nr nr nr mc lf ln bd tm it th my lps em mk tr true (Value.ref (ad (idR p))) j cu7 false vg vr ve vc vb sy sf so st sn ne mt) 0 0 56 [(4, Value.int (iI p)), (0, Value.ref (ad 100)), (1, Value.int (iI s)), (2, Value.int (iI i)), (3, Value.int (iI j))] []
        have hW := hW7
        have hz0 : false = true → ln p = 0 → i = j := fun h => by cases h
        have hPs := drop_start HP.drop (show p < nr by omega) ‹lf p = s› hP
        refine J_aload_n d_CF_hasWay_56 rfl 1 rfl ?_
        refine J_get fs_CF_46 rfl rfl d_CF_hasWay_57 ?_
        refine J_callV (st := []) [] ms_CF_185 rfl (c_Wa_next hg htm hmk (by omega) (by omega) hW hz0) rfl rfl ⟨Nat.le_of_ble_eq_true rfl, Nat.le_of_ble_eq_true rfl⟩ ⟨Nat.le_of_ble_eq_true rfl, Nat.le_of_ble_eq_true rfl⟩ (Nat.le_of_ble_eq_true rfl) d_CF_hasWay_60 (fun v w' hp => ?_)
        obtain ⟨z8, cu8, rfl, rfl, hX8⟩ := hp
        show J l D b Y_CF_hasWay _ _ (ad, cC ad r lp fd nr nr nr mc lf ln bd tm it th my lps em mk tr true (Value.ref (ad (idR p))) j cu8 true vg vr ve vc vb sy sf so st sn ne mt) 0 0 63 [(4, Value.int (iI p)), (0, Value.ref (ad 100)), (1, Value.int (iI s)), (2, Value.int (iI i)), (3, Value.int (iI j))] [Value.int (iI (bz z8))]
        refine J_ifB_eq (tgt := 68) d_CF_hasWay_63 rfl (fun h63_9 => ?_) (fun h63_9 => ?_)
        · refine J_iinc (j := 0) d_CF_hasWay_68 rfl (by decide) rfl ?_
          refine J_goto (tgt := 3) d_CF_hasWay_71 rfl ?_
          exact ih1 (p + 1, true, Value.ref (ad (idR p)), j, cu8, true) (show (0 ≤ (p + 1) ∧ (p + 1) ≤ nr) ∧ (HP (wayT tm (dvM mk) ln (bsM bd) i j) (wl nr lf ln s i j 0) (wl nr lf ln s i j (p + 1))) by
              refine ⟨by omega, (drop_next HP.drop hPs).1 ?_⟩
              rcases hX8 with ⟨-, h9⟩ | ⟨h9, -⟩
              · exact h9
              · rw [‹z8 = false›] at h9
                cases h9) (show ((nr - (p + 1)).toNat) < ((nr - p).toNat) by
              omega)
        · refine J_iconst d_CF_hasWay_66 ?_
          refine J.top (show Value.int (iI 1) = Value.int (iI (bz true)) from rfl) ?_
          refine J_zret rfl d_CF_hasWay_67 ⟨Nat.le_of_ble_eq_true rfl, Nat.le_of_ble_eq_true rfl⟩ ?_
          refine ⟨true, _, _, _, _, _, rfl, rfl, fun _ => ?_, fun _ => rfl⟩
          rcases hX8 with ⟨h9, -⟩ | ⟨-, p9, l9, h1, h2, h3⟩
          · rw [‹z8 = true›] at h9
            cases h9
          · obtain ⟨a1, a2⟩ := (drop_next HP.drop hPs).2 p9 l9 h1
            exact ⟨(p, p9), a2.2 _ List.mem_cons_self, a1⟩
  · show (0 ≤ (0 : Int) ∧ (0 : Int) ≤ nr) ∧ (HP (wayT tm (dvM mk) ln (bsM bd) i j) (wl nr lf ln s i j 0) (wl nr lf ln s i j (0 : Int)))
    exact ⟨by omega, HP.rf⟩
set_option maxHeartbeats 4000000 in
theorem c_CF_product {a : Int} {c : Int}  (ha : 0 ≤ a ∧ a ≤ 1000000000000) (hc : 0 ≤ c ∧ c ≤ 1000000000000) : Ct l D b Y_CF_product { frames := 0, cells := 0, slots := 0, locals := 0 } [Value.long (iL a), Value.long (iL c)] w (fun v w' => v = some (.long (iL (cp a c))) ∧ w' = w) := by
  refine Ct_of (by decide) (Nat.le_of_ble_eq_true rfl) ?_
  show J l D b Y_CF_product _ _ w 0 0 0 [(0, Value.long (iL a)), (2, Value.long (iL c))] []
  refine J_lload_n d_CF_product_0 rfl 0 rfl ?_
  refine J_lconst (z := 0) d_CF_product_1 rfl ?_
  refine J_lcmp_le (tgt := 22) d_CF_product_2 d_CF_product_3 rfl (by omega) (by omega) (fun h2_1 => ?_) (fun h2_1 => ?_)
  · refine J_lload_n d_CF_product_22 rfl 0 rfl ?_
    refine J_lload_n d_CF_product_23 rfl 1 rfl ?_
    refine J_lmul d_CF_product_24 ?_
    refine J_lret rfl d_CF_product_25 ⟨Nat.le_of_ble_eq_true rfl, Nat.le_of_ble_eq_true rfl⟩ ?_
    refine ⟨?_, rfl⟩
    unfold cp
    first
      | (rw [if_neg (fun h => absurd ((cp_div (by omega)).mpr h) (by omega))]; done)
      | (have e0 : a = 0 := by omega
         rw [e0, Int.zero_mul, if_neg (by omega)])
  · refine J_lload_n d_CF_product_6 rfl 1 rfl ?_
    refine J_ldc2 (z := 1000000000000) d_CF_product_7 cst_CF_202 rfl ?_
    refine J_lload_n d_CF_product_10 rfl 0 rfl ?_
    have hd9 : 0 ≤ 1000000000000 / a ∧ 1000000000000 / a ≤ 1000000000000 := ⟨Int.ediv_nonneg (by omega) (by omega), Int.ediv_le_self _ (by omega)⟩
    refine J_ldiv d_CF_product_11 (by omega) (by omega) ?_
    refine J_lcmp_le (tgt := 22) d_CF_product_12 d_CF_product_13 rfl (by omega) (by omega) (fun h12_2 => ?_) (fun h12_2 => ?_)
    · refine J_lload_n d_CF_product_22 rfl 0 rfl ?_
      refine J_lload_n d_CF_product_23 rfl 1 rfl ?_
      refine J_lmul d_CF_product_24 ?_
      refine J_lret rfl d_CF_product_25 ⟨Nat.le_of_ble_eq_true rfl, Nat.le_of_ble_eq_true rfl⟩ ?_
      refine ⟨?_, rfl⟩
      unfold cp
      first
        | (rw [if_neg (fun h => absurd ((cp_div (by omega)).mpr h) (by omega))]; done)
        | (have e0 : a = 0 := by omega
           rw [e0, Int.zero_mul, if_neg (by omega)])
    · refine J_ldc2 (z := 1000000000000) d_CF_product_16 cst_CF_202 rfl ?_
      refine J_goto (tgt := 25) d_CF_product_19 rfl ?_
      refine J_lret rfl d_CF_product_25 ⟨Nat.le_of_ble_eq_true rfl, Nat.le_of_ble_eq_true rfl⟩ ?_
      exact ⟨by unfold cp; rw [if_pos ((cp_div (by omega)).mp (by omega))], rfl⟩
set_option maxHeartbeats 4000000 in
theorem c_CF_treesOf2 {s : Int} {i : Int} {j : Int}  (hs : 0 ≤ s ∧ s ≤ 11) (hij : 0 ≤ i ∧ i ≤ j ∧ j ≤ 12) : Ct l D b Y_CF_treesOf2 { frames := 1, cells := 0, slots := 0, locals := 20 } [Value.ref (ad 100), Value.int (iI s), Value.int (iI i), Value.int (iI j)] (ad, cC ad r lp fd nr nr nr mc lf ln bd tm it th my lps em mk tr wg wr we wc wb vg vr ve vc vb sy sf so st sn ne mt) (fun v w' => v = some (.long (iL (if s ≤ 4 then nuM tr s i j else 1))) ∧ w' = (ad, cC ad r lp fd nr nr nr mc lf ln bd tm it th my lps em mk tr wg wr we wc wb vg vr ve vc vb sy sf so st sn ne mt)) := by
  refine Ct_of (by decide) (Nat.le_of_ble_eq_true rfl) ?_
  show J l D b Y_CF_treesOf2 _ _ (ad, cC ad r lp fd nr nr nr mc lf ln bd tm it th my lps em mk tr wg wr we wc wb vg vr ve vc vb sy sf so st sn ne mt) 0 0 0 [(0, Value.ref (ad 100)), (1, Value.int (iI s)), (2, Value.int (iI i)), (3, Value.int (iI j))] []
  refine J_iload_n d_CF_treesOf2_0 rfl 1 rfl ?_
  refine J_callS (st := []) [Value.int (iI s)] ms_CF_95 (c_CF_isNonterminal (by omega)) rfl rfl ⟨Nat.le_of_ble_eq_true rfl, Nat.le_of_ble_eq_true rfl⟩ ⟨Nat.le_of_ble_eq_true rfl, Nat.le_of_ble_eq_true rfl⟩ (Nat.le_of_ble_eq_true rfl) d_CF_treesOf2_1 (fun v w' hp => ?_)
  obtain ⟨rfl, rfl⟩ := hp
  show J l D b Y_CF_treesOf2 _ _ (ad, cC ad r lp fd nr nr nr mc lf ln bd tm it th my lps em mk tr wg wr we wc wb vg vr ve vc vb sy sf so st sn ne mt) 0 0 4 [(0, Value.ref (ad 100)), (1, Value.int (iI s)), (2, Value.int (iI i)), (3, Value.int (iI j))] [Value.int (iI (bz (ntB s)))]
  refine J_ifB_eq (tgt := 23) d_CF_treesOf2_4 rfl (fun h4_2 => ?_) (fun h4_2 => ?_)
  · have hnt := ntB_no ‹ntB s = false›
    refine J_lconst (z := 1) d_CF_treesOf2_23 rfl ?_
    refine J_lret rfl d_CF_treesOf2_24 ⟨Nat.le_of_ble_eq_true rfl, Nat.le_of_ble_eq_true rfl⟩ ?_
    exact ⟨by rw [if_neg (by omega)], rfl⟩
  · have hnt := ntB_of ‹ntB s = true›
    refine J_aload_n d_CF_treesOf2_7 rfl 0 rfl ?_
    refine J_get fs_CF_39 rfl rfl d_CF_treesOf2_8 ?_
    refine J_iload_n d_CF_treesOf2_11 rfl 3 rfl ?_
    refine J_aald (v := Value.ref (ad (idC j))) rfl rfl (by omega) (by decide) rfl d_CF_treesOf2_12 ?_
    refine J_get fs_CF_195 (hidC (k := j) (by omega)) rfl d_CF_treesOf2_13 ?_
    refine J_iload_n d_CF_treesOf2_16 rfl 2 rfl ?_
    refine J_aald (v := Value.ref (ad (idX j i))) (hidW (k := j) (by omega)) rfl (by omega) (by omega) rfl d_CF_treesOf2_17 ?_
    refine J_iload_n d_CF_treesOf2_18 rfl 1 rfl ?_
    refine J_lald (hidX (k := j) (j := i) (by omega) (by omega)) (by omega) (by decide) d_CF_treesOf2_19 ?_
    refine J_goto (tgt := 24) d_CF_treesOf2_20 rfl ?_
    refine J_lret rfl d_CF_treesOf2_24 ⟨Nat.le_of_ble_eq_true rfl, Nat.le_of_ble_eq_true rfl⟩ ?_
    exact ⟨by rw [if_pos (by omega)]; rfl, rfl⟩
set_option maxHeartbeats 4000000 in
theorem c_CF_treesOfW  {q : Int} {i : Int} {j : Int} {p : Int × Int} (hg : gOK nr lf ln bd) (hq : 0 ≤ q ∧ q < nr) (hij : 0 ≤ i ∧ i ≤ j ∧ j ≤ 12) (hW : WA (ln q) i j wc p) (hk9 : ∀ k, 0 ≤ k → k < ln q → bsM bd q k < 8 → 0 ≤ nuM tr (bsM bd q k) (cutV (ln q) p.1 p.2 k i j) (cutV (ln q) p.1 p.2 (k + 1) i j) ∧ nuM tr (bsM bd q k) (cutV (ln q) p.1 p.2 k i j) (cutV (ln q) p.1 p.2 (k + 1) i j) ≤ 1000000000000) : Ct l D b Y_CF_treesOf { frames := 2, cells := 0, slots := 0, locals := 43 } [Value.ref (ad 100), Value.ref (ad 108)] (ad, cC ad r lp fd nr nr nr mc lf ln bd tm it th my lps em mk tr true (Value.ref (ad (idR q))) j wc wb vg vr ve vc vb sy sf so st sn ne mt) (fun v w' => v = some (.long (iL (pV (nuM tr) ln (bsM bd) i j (q, p)))) ∧ 0 ≤ pV (nuM tr) ln (bsM bd) i j (q, p) ∧ pV (nuM tr) ln (bsM bd) i j (q, p) ≤ 1000000000000 ∧ w' = (ad, cC ad r lp fd nr nr nr mc lf ln bd tm it th my lps em mk tr true (Value.ref (ad (idR q))) j wc wb vg vr ve vc vb sy sf so st sn ne mt)) := by
  refine Ct_of (by decide) (Nat.le_of_ble_eq_true rfl) ?_
  have hn := hg.1
  have hl := hg.2.2.1 q (by omega) (by omega)
  obtain ⟨hcr, hc, h0⟩ := hW
  show J l D b Y_CF_treesOf _ _ (ad, cC ad r lp fd nr nr nr mc lf ln bd tm it th my lps em mk tr true (Value.ref (ad (idR q))) j wc wb vg vr ve vc vb sy sf so st sn ne mt) 0 0 0 [(0, Value.ref (ad 100)), (1, Value.ref (ad 108))] []
  refine J_lconst (z := 1) d_CF_treesOf_0 rfl ?_
  refine J_lstore_n d_CF_treesOf_1 rfl (by decide) rfl ?_
  refine J_iconst d_CF_treesOf_2 ?_
  refine J_istore d_CF_treesOf_3 (by decide) rfl ?_
  refine J.loop (σ := Int × Int) (fun xx_ => match xx_ with | (k, n) => (0 ≤ k ∧ k ≤ ln q) ∧ (n = pVk (nuM tr) ln (bsM bd) i j (q, p) k ∧ 0 ≤ n ∧ n ≤ 1000000000000)) (fun xx_ => match xx_ with | (k, n) => (ln q - k).toNat) (ws := fun xx_ => match xx_ with | (k, n) => (ad, cC ad r lp fd nr nr nr mc lf ln bd tm it th my lps em mk tr true (Value.ref (ad (idR q))) j wc wb vg vr ve vc vb sy sf so st sn ne mt)) (ks := fun _ => 0) (ns := fun _ => 0) (lvs := fun xx_ => match xx_ with | (k, n) => [(4, Value.int (iI k)), (2, Value.long (iL n)), (0, Value.ref (ad 100)), (1, Value.ref (ad 108))]) (sts := fun _ => []) ?_ (0, 1) ?_
  · rintro ⟨k, n⟩ hI ih1
    have hI : (0 ≤ k ∧ k ≤ ln q) ∧ (n = pVk (nuM tr) ln (bsM bd) i j (q, p) k ∧ 0 ≤ n ∧ n ≤ 1000000000000) := hI
    obtain ⟨hk, hn9⟩ := hI
    show J l D b Y_CF_treesOf _ _ (ad, cC ad r lp fd nr nr nr mc lf ln bd tm it th my lps em mk tr true (Value.ref (ad (idR q))) j wc wb vg vr ve vc vb sy sf so st sn ne mt) 0 0 5 [(4, Value.int (iI k)), (2, Value.long (iL n)), (0, Value.ref (ad 100)), (1, Value.ref (ad 108))] []
    refine J_iload d_CF_treesOf_5 0 rfl ?_
    refine J_aload_n d_CF_treesOf_7 rfl 3 rfl ?_
    refine J_get (v := Value.ref (ad (idR q))) fs_CF_204 rfl rfl d_CF_treesOf_8 ?_
    refine J_get fs_CF_189 (hidR (k := q) (by omega) (by omega)) rfl d_CF_treesOf_11 ?_
    refine J_alenE (z := ln q) (hidB (k := q) (by omega) (by omega)) (by omega) d_CF_treesOf_14 ?_
    refine J_icmp_ge (tgt := 59) d_CF_treesOf_15 rfl (by omega) (by omega) (fun h15_2 => ?_) (fun h15_2 => ?_)
    · refine J_lload_n d_CF_treesOf_59 rfl 1 rfl ?_
      refine J_lret rfl d_CF_treesOf_60 ⟨Nat.le_of_ble_eq_true rfl, Nat.le_of_ble_eq_true rfl⟩ ?_
      have e9 : pV (nuM tr) ln (bsM bd) i j (q, p) = n := by
        rw [hn9.1, show k = ln q by omega]
        rfl
      exact ⟨by rw [e9], by rw [e9]; exact hn9.2.1, by rw [e9]; exact hn9.2.2, rfl⟩
    · have hk1 := hc.at (k := k) hl (by omega) (by omega)
      have hk2 := hc.at (k := k + 1) hl (by omega) (by omega)
      have hr1 := cutV_rng (n := ln q) (k := k) hcr
      have hr2 := cutV_rng (n := ln q) (k := k + 1) hcr
      have hr3 := cutV_mono (k := k) hcr hl.2 (by omega)
      rw [← hk1] at hr1 hr3
      rw [← hk2] at hr2 hr3
      have hbk := hg.2.2.2.1 (3 * q + k) (by omega) (by omega)
      have hb9 := hg.2.2.2.2 q k (by omega) (by omega) (by omega) (by omega)
      have hx9 : 0 ≤ (if bd (3 * q + k) ≤ 4 then nuM tr (bd (3 * q + k)) (wc k) (wc (k + 1)) else 1) ∧ (if bd (3 * q + k) ≤ 4 then nuM tr (bd (3 * q + k)) (wc k) (wc (k + 1)) else 1) ≤ 1000000000000 := by
        split
        · have := hk9 k (by omega) (by omega) (show bd (3 * q + k) < 8 by omega)
          rw [← hk1, ← hk2] at this
          exact this
        · omega
      have hcp := cp_rng (a := n) hn9.2.1 hx9.1
      refine J_lload_n d_CF_treesOf_18 rfl 1 rfl ?_
      refine J_aload_n d_CF_treesOf_19 rfl 2 rfl ?_
      refine J_aload_n d_CF_treesOf_20 rfl 3 rfl ?_
      refine J_get (v := Value.ref (ad (idR q))) fs_CF_204 rfl rfl d_CF_treesOf_21 ?_
      refine J_get fs_CF_189 (hidR (k := q) (by omega) (by omega)) rfl d_CF_treesOf_24 ?_
      refine J_iload d_CF_treesOf_27 0 rfl ?_
      refine J_iald (hidB (k := q) (by omega) (by omega)) (by omega) (by omega) d_CF_treesOf_29 ?_
      refine J.topI (bq_in (by omega)) ?_
      refine J_aload_n d_CF_treesOf_30 rfl 3 rfl ?_
      refine J_get (v := Value.ref (ad 109)) fs_CF_192 rfl rfl d_CF_treesOf_31 ?_
      refine J_iload d_CF_treesOf_34 0 rfl ?_
      refine J_iald rfl (by omega) (by decide) d_CF_treesOf_36 ?_
      refine J_aload_n d_CF_treesOf_37 rfl 3 rfl ?_
      refine J_get (v := Value.ref (ad 109)) fs_CF_192 rfl rfl d_CF_treesOf_38 ?_
      refine J_iload d_CF_treesOf_41 0 rfl ?_
      refine J_iconst d_CF_treesOf_43 ?_
      refine J_iadd d_CF_treesOf_44 ?_
      refine J_iald rfl (by omega) (by decide) d_CF_treesOf_45 ?_
      refine J_callV (st := [Value.long (iL n)]) [Value.int (iI (bd (3 * q + k))), Value.int (iI (wc k)), Value.int (iI (wc (k + 1)))] ms_CF_207 rfl (c_CF_treesOf2 (by omega) (by omega)) rfl rfl ⟨Nat.le_of_ble_eq_true rfl, Nat.le_of_ble_eq_true rfl⟩ ⟨Nat.le_of_ble_eq_true rfl, Nat.le_of_ble_eq_true rfl⟩ (Nat.le_of_ble_eq_true rfl) d_CF_treesOf_46 (fun v w' hp => ?_)
      obtain ⟨rfl, rfl⟩ := hp
      show J l D b Y_CF_treesOf _ _ (ad, cC ad r lp fd nr nr nr mc lf ln bd tm it th my lps em mk tr true (Value.ref (ad (idR q))) j wc wb vg vr ve vc vb sy sf so st sn ne mt) 0 0 49 [(4, Value.int (iI k)), (2, Value.long (iL n)), (0, Value.ref (ad 100)), (1, Value.ref (ad 108))] [Value.long (iL (if (bd (3 * q + k)) ≤ 4 then nuM tr (bd (3 * q + k)) (wc k) (wc (k + 1)) else 1)), Value.long (iL n)]
      refine J_callS (st := []) [Value.long (iL n), Value.long (iL (if (bd (3 * q + k)) ≤ 4 then nuM tr (bd (3 * q + k)) (wc k) (wc (k + 1)) else 1))] ms_CF_211 (c_CF_product (by omega) (by omega)) rfl rfl ⟨Nat.le_of_ble_eq_true rfl, Nat.le_of_ble_eq_true rfl⟩ ⟨Nat.le_of_ble_eq_true rfl, Nat.le_of_ble_eq_true rfl⟩ (Nat.le_of_ble_eq_true rfl) d_CF_treesOf_49 (fun v w' hp => ?_)
      obtain ⟨rfl, rfl⟩ := hp
      show J l D b Y_CF_treesOf _ _ (ad, cC ad r lp fd nr nr nr mc lf ln bd tm it th my lps em mk tr true (Value.ref (ad (idR q))) j wc wb vg vr ve vc vb sy sf so st sn ne mt) 0 0 52 [(4, Value.int (iI k)), (2, Value.long (iL n)), (0, Value.ref (ad 100)), (1, Value.ref (ad 108))] [Value.long (iL (cp n (if (bd (3 * q + k)) ≤ 4 then nuM tr (bd (3 * q + k)) (wc k) (wc (k + 1)) else 1)))]
      refine J_lstore_n d_CF_treesOf_52 rfl (by decide) rfl ?_
      refine J_iinc (j := 1) d_CF_treesOf_53 rfl (by decide) rfl ?_
      refine J_goto (tgt := 5) d_CF_treesOf_56 rfl ?_
      exact ih1 (k + 1, cp n (if (bd (3 * q + k)) ≤ 4 then nuM tr (bd (3 * q + k)) (wc k) (wc (k + 1)) else 1)) (show (0 ≤ (k + 1) ∧ (k + 1) ≤ ln q) ∧ ((cp n (if (bd (3 * q + k)) ≤ 4 then nuM tr (bd (3 * q + k)) (wc k) (wc (k + 1)) else 1)) = pVk (nuM tr) ln (bsM bd) i j (q, p) (k + 1) ∧ 0 ≤ (cp n (if (bd (3 * q + k)) ≤ 4 then nuM tr (bd (3 * q + k)) (wc k) (wc (k + 1)) else 1)) ∧ (cp n (if (bd (3 * q + k)) ≤ 4 then nuM tr (bd (3 * q + k)) (wc k) (wc (k + 1)) else 1)) ≤ 1000000000000) by
          refine ⟨by omega, ?_, hcp.1, hcp.2⟩
          rw [pVk_s _ _ _ _ _ _ (by omega), ← hn9.1]
          by_cases hs8 : bd (3 * q + k) ≤ 4
          · rw [if_pos hs8, if_pos (show bsM bd q k < 8 by show bd (3 * q + k) < 8; omega), hk1, hk2]
            rfl
          · rw [if_neg hs8, if_neg (show ¬ bsM bd q k < 8 by show ¬ bd (3 * q + k) < 8; omega), cp_one hn9.2]) (show ((ln q - (k + 1)).toNat) < ((ln q - k).toNat) by
          omega)
  · show (0 ≤ (0 : Int) ∧ (0 : Int) ≤ ln q) ∧ ((1 : Int) = pVk (nuM tr) ln (bsM bd) i j (q, p) (0 : Int) ∧ 0 ≤ (1 : Int) ∧ (1 : Int) ≤ 1000000000000)
    exact ⟨by omega, rfl, by omega, by omega⟩
set_option maxHeartbeats 4000000 in
theorem c_CF_treesOfV  {q : Int} {i : Int} {j : Int} {p : Int × Int} (hg : gOK nr lf ln bd) (hq : 0 ≤ q ∧ q < nr) (hij : 0 ≤ i ∧ i ≤ j ∧ j ≤ 12) (hW : WA (ln q) i j vc p) (hk9 : ∀ k, 0 ≤ k → k < ln q → bsM bd q k < 8 → 0 ≤ nuM tr (bsM bd q k) (cutV (ln q) p.1 p.2 k i j) (cutV (ln q) p.1 p.2 (k + 1) i j) ∧ nuM tr (bsM bd q k) (cutV (ln q) p.1 p.2 k i j) (cutV (ln q) p.1 p.2 (k + 1) i j) ≤ 1000000000000) : Ct l D b Y_CF_treesOf { frames := 2, cells := 0, slots := 0, locals := 43 } [Value.ref (ad 100), Value.ref (ad 110)] (ad, cC ad r lp fd nr nr nr mc lf ln bd tm it th my lps em mk tr wg wr we wc wb true (Value.ref (ad (idR q))) j vc vb sy sf so st sn ne mt) (fun v w' => v = some (.long (iL (pV (nuM tr) ln (bsM bd) i j (q, p)))) ∧ 0 ≤ pV (nuM tr) ln (bsM bd) i j (q, p) ∧ pV (nuM tr) ln (bsM bd) i j (q, p) ≤ 1000000000000 ∧ w' = (ad, cC ad r lp fd nr nr nr mc lf ln bd tm it th my lps em mk tr wg wr we wc wb true (Value.ref (ad (idR q))) j vc vb sy sf so st sn ne mt)) := by
  refine Ct_of (by decide) (Nat.le_of_ble_eq_true rfl) ?_
  have hn := hg.1
  have hl := hg.2.2.1 q (by omega) (by omega)
  obtain ⟨hcr, hc, h0⟩ := hW
  show J l D b Y_CF_treesOf _ _ (ad, cC ad r lp fd nr nr nr mc lf ln bd tm it th my lps em mk tr wg wr we wc wb true (Value.ref (ad (idR q))) j vc vb sy sf so st sn ne mt) 0 0 0 [(0, Value.ref (ad 100)), (1, Value.ref (ad 110))] []
  refine J_lconst (z := 1) d_CF_treesOf_0 rfl ?_
  refine J_lstore_n d_CF_treesOf_1 rfl (by decide) rfl ?_
  refine J_iconst d_CF_treesOf_2 ?_
  refine J_istore d_CF_treesOf_3 (by decide) rfl ?_
  refine J.loop (σ := Int × Int) (fun xx_ => match xx_ with | (k, n) => (0 ≤ k ∧ k ≤ ln q) ∧ (n = pVk (nuM tr) ln (bsM bd) i j (q, p) k ∧ 0 ≤ n ∧ n ≤ 1000000000000)) (fun xx_ => match xx_ with | (k, n) => (ln q - k).toNat) (ws := fun xx_ => match xx_ with | (k, n) => (ad, cC ad r lp fd nr nr nr mc lf ln bd tm it th my lps em mk tr wg wr we wc wb true (Value.ref (ad (idR q))) j vc vb sy sf so st sn ne mt)) (ks := fun _ => 0) (ns := fun _ => 0) (lvs := fun xx_ => match xx_ with | (k, n) => [(4, Value.int (iI k)), (2, Value.long (iL n)), (0, Value.ref (ad 100)), (1, Value.ref (ad 110))]) (sts := fun _ => []) ?_ (0, 1) ?_
  · rintro ⟨k, n⟩ hI ih1
    have hI : (0 ≤ k ∧ k ≤ ln q) ∧ (n = pVk (nuM tr) ln (bsM bd) i j (q, p) k ∧ 0 ≤ n ∧ n ≤ 1000000000000) := hI
    obtain ⟨hk, hn9⟩ := hI
    show J l D b Y_CF_treesOf _ _ (ad, cC ad r lp fd nr nr nr mc lf ln bd tm it th my lps em mk tr wg wr we wc wb true (Value.ref (ad (idR q))) j vc vb sy sf so st sn ne mt) 0 0 5 [(4, Value.int (iI k)), (2, Value.long (iL n)), (0, Value.ref (ad 100)), (1, Value.ref (ad 110))] []
    refine J_iload d_CF_treesOf_5 0 rfl ?_
    refine J_aload_n d_CF_treesOf_7 rfl 3 rfl ?_
    refine J_get (v := Value.ref (ad (idR q))) fs_CF_204 rfl rfl d_CF_treesOf_8 ?_
    refine J_get fs_CF_189 (hidR (k := q) (by omega) (by omega)) rfl d_CF_treesOf_11 ?_
    refine J_alenE (z := ln q) (hidB (k := q) (by omega) (by omega)) (by omega) d_CF_treesOf_14 ?_
    refine J_icmp_ge (tgt := 59) d_CF_treesOf_15 rfl (by omega) (by omega) (fun h15_2 => ?_) (fun h15_2 => ?_)
    · refine J_lload_n d_CF_treesOf_59 rfl 1 rfl ?_
      refine J_lret rfl d_CF_treesOf_60 ⟨Nat.le_of_ble_eq_true rfl, Nat.le_of_ble_eq_true rfl⟩ ?_
      have e9 : pV (nuM tr) ln (bsM bd) i j (q, p) = n := by
        rw [hn9.1, show k = ln q by omega]
        rfl
      exact ⟨by rw [e9], by rw [e9]; exact hn9.2.1, by rw [e9]; exact hn9.2.2, rfl⟩
    · have hk1 := hc.at (k := k) hl (by omega) (by omega)
      have hk2 := hc.at (k := k + 1) hl (by omega) (by omega)
      have hr1 := cutV_rng (n := ln q) (k := k) hcr
      have hr2 := cutV_rng (n := ln q) (k := k + 1) hcr
      have hr3 := cutV_mono (k := k) hcr hl.2 (by omega)
      rw [← hk1] at hr1 hr3
      rw [← hk2] at hr2 hr3
      have hbk := hg.2.2.2.1 (3 * q + k) (by omega) (by omega)
      have hb9 := hg.2.2.2.2 q k (by omega) (by omega) (by omega) (by omega)
      have hx9 : 0 ≤ (if bd (3 * q + k) ≤ 4 then nuM tr (bd (3 * q + k)) (vc k) (vc (k + 1)) else 1) ∧ (if bd (3 * q + k) ≤ 4 then nuM tr (bd (3 * q + k)) (vc k) (vc (k + 1)) else 1) ≤ 1000000000000 := by
        split
        · have := hk9 k (by omega) (by omega) (show bd (3 * q + k) < 8 by omega)
          rw [← hk1, ← hk2] at this
          exact this
        · omega
      have hcp := cp_rng (a := n) hn9.2.1 hx9.1
      refine J_lload_n d_CF_treesOf_18 rfl 1 rfl ?_
      refine J_aload_n d_CF_treesOf_19 rfl 2 rfl ?_
      refine J_aload_n d_CF_treesOf_20 rfl 3 rfl ?_
      refine J_get (v := Value.ref (ad (idR q))) fs_CF_204 rfl rfl d_CF_treesOf_21 ?_
      refine J_get fs_CF_189 (hidR (k := q) (by omega) (by omega)) rfl d_CF_treesOf_24 ?_
      refine J_iload d_CF_treesOf_27 0 rfl ?_
      refine J_iald (hidB (k := q) (by omega) (by omega)) (by omega) (by omega) d_CF_treesOf_29 ?_
      refine J.topI (bq_in (by omega)) ?_
      refine J_aload_n d_CF_treesOf_30 rfl 3 rfl ?_
      refine J_get (v := Value.ref (ad 111)) fs_CF_192 rfl rfl d_CF_treesOf_31 ?_
      refine J_iload d_CF_treesOf_34 0 rfl ?_
      refine J_iald rfl (by omega) (by decide) d_CF_treesOf_36 ?_
      refine J_aload_n d_CF_treesOf_37 rfl 3 rfl ?_
      refine J_get (v := Value.ref (ad 111)) fs_CF_192 rfl rfl d_CF_treesOf_38 ?_
      refine J_iload d_CF_treesOf_41 0 rfl ?_
      refine J_iconst d_CF_treesOf_43 ?_
      refine J_iadd d_CF_treesOf_44 ?_
      refine J_iald rfl (by omega) (by decide) d_CF_treesOf_45 ?_
      refine J_callV (st := [Value.long (iL n)]) [Value.int (iI (bd (3 * q + k))), Value.int (iI (vc k)), Value.int (iI (vc (k + 1)))] ms_CF_207 rfl (c_CF_treesOf2 (by omega) (by omega)) rfl rfl ⟨Nat.le_of_ble_eq_true rfl, Nat.le_of_ble_eq_true rfl⟩ ⟨Nat.le_of_ble_eq_true rfl, Nat.le_of_ble_eq_true rfl⟩ (Nat.le_of_ble_eq_true rfl) d_CF_treesOf_46 (fun v w' hp => ?_)
      obtain ⟨rfl, rfl⟩ := hp
      show J l D b Y_CF_treesOf _ _ (ad, cC ad r lp fd nr nr nr mc lf ln bd tm it th my lps em mk tr wg wr we wc wb true (Value.ref (ad (idR q))) j vc vb sy sf so st sn ne mt) 0 0 49 [(4, Value.int (iI k)), (2, Value.long (iL n)), (0, Value.ref (ad 100)), (1, Value.ref (ad 110))] [Value.long (iL (if (bd (3 * q + k)) ≤ 4 then nuM tr (bd (3 * q + k)) (vc k) (vc (k + 1)) else 1)), Value.long (iL n)]
      refine J_callS (st := []) [Value.long (iL n), Value.long (iL (if (bd (3 * q + k)) ≤ 4 then nuM tr (bd (3 * q + k)) (vc k) (vc (k + 1)) else 1))] ms_CF_211 (c_CF_product (by omega) (by omega)) rfl rfl ⟨Nat.le_of_ble_eq_true rfl, Nat.le_of_ble_eq_true rfl⟩ ⟨Nat.le_of_ble_eq_true rfl, Nat.le_of_ble_eq_true rfl⟩ (Nat.le_of_ble_eq_true rfl) d_CF_treesOf_49 (fun v w' hp => ?_)
      obtain ⟨rfl, rfl⟩ := hp
      show J l D b Y_CF_treesOf _ _ (ad, cC ad r lp fd nr nr nr mc lf ln bd tm it th my lps em mk tr wg wr we wc wb true (Value.ref (ad (idR q))) j vc vb sy sf so st sn ne mt) 0 0 52 [(4, Value.int (iI k)), (2, Value.long (iL n)), (0, Value.ref (ad 100)), (1, Value.ref (ad 110))] [Value.long (iL (cp n (if (bd (3 * q + k)) ≤ 4 then nuM tr (bd (3 * q + k)) (vc k) (vc (k + 1)) else 1)))]
      refine J_lstore_n d_CF_treesOf_52 rfl (by decide) rfl ?_
      refine J_iinc (j := 1) d_CF_treesOf_53 rfl (by decide) rfl ?_
      refine J_goto (tgt := 5) d_CF_treesOf_56 rfl ?_
      exact ih1 (k + 1, cp n (if (bd (3 * q + k)) ≤ 4 then nuM tr (bd (3 * q + k)) (vc k) (vc (k + 1)) else 1)) (show (0 ≤ (k + 1) ∧ (k + 1) ≤ ln q) ∧ ((cp n (if (bd (3 * q + k)) ≤ 4 then nuM tr (bd (3 * q + k)) (vc k) (vc (k + 1)) else 1)) = pVk (nuM tr) ln (bsM bd) i j (q, p) (k + 1) ∧ 0 ≤ (cp n (if (bd (3 * q + k)) ≤ 4 then nuM tr (bd (3 * q + k)) (vc k) (vc (k + 1)) else 1)) ∧ (cp n (if (bd (3 * q + k)) ≤ 4 then nuM tr (bd (3 * q + k)) (vc k) (vc (k + 1)) else 1)) ≤ 1000000000000) by
          refine ⟨by omega, ?_, hcp.1, hcp.2⟩
          rw [pVk_s _ _ _ _ _ _ (by omega), ← hn9.1]
          by_cases hs8 : bd (3 * q + k) ≤ 4
          · rw [if_pos hs8, if_pos (show bsM bd q k < 8 by show bd (3 * q + k) < 8; omega), hk1, hk2]
            rfl
          · rw [if_neg hs8, if_neg (show ¬ bsM bd q k < 8 by show ¬ bd (3 * q + k) < 8; omega), cp_one hn9.2]) (show ((ln q - (k + 1)).toNat) < ((ln q - k).toNat) by
          omega)
  · show (0 ≤ (0 : Int) ∧ (0 : Int) ≤ ln q) ∧ ((1 : Int) = pVk (nuM tr) ln (bsM bd) i j (q, p) (0 : Int) ∧ 0 ≤ (1 : Int) ∧ (1 : Int) ≤ 1000000000000)
    exact ⟨by omega, rfl, by omega, by omega⟩
set_option maxHeartbeats 4000000 in
theorem c_CF_counted {s : Int} {i : Int} {j : Int}  (hg : gOK nr lf ln bd) (htm : ∀ x, 0 ≤ x → x < 12 → -2147483648 ≤ tm x ∧ tm x ≤ 2147483647) (hmk : MkR mk) (hs : 0 ≤ s ∧ s ≤ 4) (hij : 0 ≤ i ∧ i ≤ j ∧ j ≤ 12) (hka : ∀ q ∈ (wl nr lf ln s i j 0), (wayT tm (dvM mk) ln (bsM bd) i j) q = true → ∀ k, 0 ≤ k → k < ln q.1 → bsM bd q.1 k < 8 → 0 ≤ nuM tr (bsM bd q.1 k) (cutV (ln q.1) q.2.1 q.2.2 k i j) (cutV (ln q.1) q.2.1 q.2.2 (k + 1) i j) ∧ nuM tr (bsM bd q.1 k) (cutV (ln q.1) q.2.1 q.2.2 k i j) (cutV (ln q.1) q.2.1 q.2.2 (k + 1) i j) ≤ 1000000000000) : Ct l D b Y_CF_counted { frames := 3, cells := 0, slots := 0, locals := 67 } [Value.ref (ad 100), Value.int (iI s), Value.int (iI i), Value.int (iI j)] (ad, cC ad r lp fd nr nr nr mc lf ln bd tm it th my lps em mk tr wg wr we wc wb vg vr ve vc vb sy sf so st sn ne mt) (fun v w' => ∃ z g' r' e' cu' b', v = some (.long (iL z)) ∧ w' = (ad, cC ad r lp fd nr nr nr mc lf ln bd tm it th my lps em mk tr g' r' e' cu' b' vg vr ve vc vb sy sf so st sn ne mt) ∧ z = sumL (wayT tm (dvM mk) ln (bsM bd) i j) (pV (nuM tr) ln (bsM bd) i j) 0 (wl nr lf ln s i j 0) ∧ 0 ≤ z ∧ z ≤ 1000000000000) := by
  refine Ct_of (by decide) (Nat.le_of_ble_eq_true rfl) ?_
  have hn := hg.1
  show J l D b Y_CF_counted _ _ (ad, cC ad r lp fd nr nr nr mc lf ln bd tm it th my lps em mk tr wg wr we wc wb vg vr ve vc vb sy sf so st sn ne mt) 0 0 0 [(0, Value.ref (ad 100)), (1, Value.int (iI s)), (2, Value.int (iI i)), (3, Value.int (iI j))] []
  refine J_lconst (z := 0) d_CF_counted_0 rfl ?_
  refine J_lstore d_CF_counted_1 (by decide) rfl ?_
  refine J_iconst d_CF_counted_3 ?_
  refine J_istore d_CF_counted_4 (by decide) rfl ?_
  refine J.loop (σ := Int × Int × Bool × Value × Int × (Int → Int) × Bool) (fun xx_ => match xx_ with | (p, al, g1, r1, e1, cu1, b1) => (0 ≤ p ∧ p ≤ nr) ∧ (SI (wayT tm (dvM mk) ln (bsM bd) i j) (pV (nuM tr) ln (bsM bd) i j) (fun _ => True) (wl nr lf ln s i j 0) al (wl nr lf ln s i j p))) (fun xx_ => match xx_ with | (p, al, g1, r1, e1, cu1, b1) => (nr - p).toNat) (ws := fun xx_ => match xx_ with | (p, al, g1, r1, e1, cu1, b1) => (ad, cC ad r lp fd nr nr nr mc lf ln bd tm it th my lps em mk tr g1 r1 e1 cu1 b1 vg vr ve vc vb sy sf so st sn ne mt)) (ks := fun _ => 0) (ns := fun _ => 0) (lvs := fun xx_ => match xx_ with | (p, al, g1, r1, e1, cu1, b1) => [(6, Value.int (iI p)), (4, Value.long (iL al)), (0, Value.ref (ad 100)), (1, Value.int (iI s)), (2, Value.int (iI i)), (3, Value.int (iI j))]) (sts := fun _ => []) ?_ (0, 0, wg, wr, we, wc, wb) ?_
  · rintro ⟨p, al, g1, r1, e1, cu1, b1⟩ hI ih1
    have hI : (0 ≤ p ∧ p ≤ nr) ∧ (SI (wayT tm (dvM mk) ln (bsM bd) i j) (pV (nuM tr) ln (bsM bd) i j) (fun _ => True) (wl nr lf ln s i j 0) al (wl nr lf ln s i j p)) := hI
    obtain ⟨hp, hP⟩ := hI
    show J l D b Y_CF_counted _ _ (ad, cC ad r lp fd nr nr nr mc lf ln bd tm it th my lps em mk tr g1 r1 e1 cu1 b1 vg vr ve vc vb sy sf so st sn ne mt) 0 0 6 [(6, Value.int (iI p)), (4, Value.long (iL al)), (0, Value.ref (ad 100)), (1, Value.int (iI s)), (2, Value.int (iI i)), (3, Value.int (iI j))] []
    refine J_iload d_CF_counted_6 0 rfl ?_
    refine J_aload_n d_CF_counted_8 rfl 2 rfl ?_
    refine J_get fs_CF_23 rfl rfl d_CF_counted_9 ?_
    refine J_callV (st := [Value.int (iI p)]) [] ms_CF_105 rfl (c_Al_size) rfl rfl ⟨Nat.le_of_ble_eq_true rfl, Nat.le_of_ble_eq_true rfl⟩ ⟨Nat.le_of_ble_eq_true rfl, Nat.le_of_ble_eq_true rfl⟩ (Nat.le_of_ble_eq_true rfl) d_CF_counted_12 (fun v w' hp => ?_)
    obtain ⟨rfl, rfl⟩ := hp
    show J l D b Y_CF_counted _ _ (ad, cC ad r lp fd nr nr nr mc lf ln bd tm it th my lps em mk tr g1 r1 e1 cu1 b1 vg vr ve vc vb sy sf so st sn ne mt) 0 0 15 [(6, Value.int (iI p)), (4, Value.long (iL al)), (0, Value.ref (ad 100)), (1, Value.int (iI s)), (2, Value.int (iI i)), (3, Value.int (iI j))] [Value.int (iI nr), Value.int (iI p)]
    refine J_icmp_ge (tgt := 97) d_CF_counted_15 rfl (by omega) (by omega) (fun h15_3 => ?_) (fun h15_3 => ?_)
    · refine J_lload d_CF_counted_97 1 rfl ?_
      refine J_lret rfl d_CF_counted_99 ⟨Nat.le_of_ble_eq_true rfl, Nat.le_of_ble_eq_true rfl⟩ ?_
      rw [wl_end (r := p) (by omega)] at hP
      exact ⟨al, _, _, _, _, _, rfl, rfl, (si_end hP).2, hP.2.1.1, hP.2.1.2⟩
    · have hlf := hg.2.1 p (by omega) (by omega)
      refine J_aload_n d_CF_counted_18 rfl 2 rfl ?_
      refine J_get fs_CF_23 rfl rfl d_CF_counted_19 ?_
      refine J_iload d_CF_counted_22 0 rfl ?_
      refine J_callV (st := []) [Value.int (iI p)] ms_CF_87 rfl (c_Al_get (by omega)) rfl rfl ⟨Nat.le_of_ble_eq_true rfl, Nat.le_of_ble_eq_true rfl⟩ ⟨Nat.le_of_ble_eq_true rfl, Nat.le_of_ble_eq_true rfl⟩ (Nat.le_of_ble_eq_true rfl) d_CF_counted_24 (fun v w' hp => ?_)
      obtain ⟨rfl, rfl⟩ := hp
      show J l D b Y_CF_counted _ _ (ad, cC ad r lp fd nr nr nr mc lf ln bd tm it th my lps em mk tr g1 r1 e1 cu1 b1 vg vr ve vc vb sy sf so st sn ne mt) 0 0 27 [(6, Value.int (iI p)), (4, Value.long (iL al)), (0, Value.ref (ad 100)), (1, Value.int (iI s)), (2, Value.int (iI i)), (3, Value.int (iI j))] [Value.ref (ad (idR p))]
      refine J_cast (hidR (k := p) (by omega) (by omega)) rfl cl_CF_9 ca_Ru d_CF_counted_27 ?_
      refine J_get fs_CF_144 (hidR (k := p) (by omega) (by omega)) rfl d_CF_counted_30 ?_
      refine J_iload_n d_CF_counted_33 rfl 3 rfl ?_
      refine J_icmp_ne (tgt := 91) d_CF_counted_34 rfl (by omega) (by omega) (fun h34_5 => ?_) (fun h34_5 => ?_)
      · refine J_iinc (j := 0) d_CF_counted_91 rfl (by decide) rfl ?_
        refine J_goto (tgt := 6) d_CF_counted_94 rfl ?_
        exact ih1 (p + 1, al, g1, r1, e1, cu1, b1) (show (0 ≤ (p + 1) ∧ (p + 1) ≤ nr) ∧ (SI (wayT tm (dvM mk) ln (bsM bd) i j) (pV (nuM tr) ln (bsM bd) i j) (fun _ => True) (wl nr lf ln s i j 0) al (wl nr lf ln s i j (p + 1))) by
            exact ⟨by omega, drop_skip (P := fun L => SI (wayT tm (dvM mk) ln (bsM bd) i j) (pV (nuM tr) ln (bsM bd) i j) (fun _ => True) (wl nr lf ln s i j 0) al L) (by omega) ‹lf p ≠ s› hP⟩) (show ((nr - (p + 1)).toNat) < ((nr - p).toNat) by
            omega)
      · refine J_aload_n d_CF_counted_37 rfl 2 rfl ?_
        refine J_get fs_CF_46 rfl rfl d_CF_counted_38 ?_
        refine J_aload_n d_CF_counted_41 rfl 2 rfl ?_
        refine J_aload_n d_CF_counted_42 rfl 2 rfl ?_
        refine J_get fs_CF_23 rfl rfl d_CF_counted_43 ?_
        refine J_iload d_CF_counted_46 0 rfl ?_
        refine J_callV (st := [Value.ref (ad 100), Value.ref (ad 108)]) [Value.int (iI p)] ms_CF_87 rfl (c_Al_get (by omega)) rfl rfl ⟨Nat.le_of_ble_eq_true rfl, Nat.le_of_ble_eq_true rfl⟩ ⟨Nat.le_of_ble_eq_true rfl, Nat.le_of_ble_eq_true rfl⟩ (Nat.le_of_ble_eq_true rfl) d_CF_counted_48 (fun v w' hp => ?_)
        obtain ⟨rfl, rfl⟩ := hp
        show J l D b Y_CF_counted _ _ (ad, cC ad r lp fd nr nr nr mc lf ln bd tm it th my lps em mk tr g1 r1 e1 cu1 b1 vg vr ve vc vb sy sf so st sn ne mt) 0 0 51 [(6, Value.int (iI p)), (4, Value.long (iL al)), (0, Value.ref (ad 100)), (1, Value.int (iI s)), (2, Value.int (iI i)), (3, Value.int (iI j))] [Value.ref (ad (idR p)), Value.ref (ad 100), Value.ref (ad 108)]
        refine J_cast (hidR (k := p) (by omega) (by omega)) rfl cl_CF_9 ca_Ru d_CF_counted_51 ?_
        refine J_iload_n d_CF_counted_54 rfl 4 rfl ?_
        refine J_iload_n d_CF_counted_55 rfl 5 rfl ?_
        refine J_callV (st := []) [Value.ref (ad 100), Value.ref (ad (idR p)), Value.int (iI i), Value.int (iI j)] ms_CF_181 rfl (c_Wa_begin hg (by omega) (by omega)) rfl rfl ⟨Nat.le_of_ble_eq_true rfl, Nat.le_of_ble_eq_true rfl⟩ ⟨Nat.le_of_ble_eq_true rfl, Nat.le_of_ble_eq_true rfl⟩ (Nat.le_of_ble_eq_true rfl) d_CF_counted_56 (fun v w' hp => ?_)
        obtain ⟨rfl, cu7, rfl, hW7⟩ := hp
        show J l D b Y_CF_counted _ _ (ad, cC ad r lp fd nr nr nr mc lf ln bd tm it th my lps em mk tr true (Value.ref (ad (idR p))) j cu7 false vg vr ve vc vb sy sf so st sn ne mt) 0 0 59 [(6, Value.int (iI p)), (4, Value.long (iL al)), (0, Value.ref (ad 100)), (1, Value.int (iI s)), (2, Value.int (iI i)), (3, Value.int (iI j))] []
        have hW := hW7
        have hz0 : false = true → ln p = 0 → i = j := fun h => by cases h
        have hPs := drop_start (P := fun L => SI (wayT tm (dvM mk) ln (bsM bd) i j) (pV (nuM tr) ln (bsM bd) i j) (fun _ => True) (wl nr lf ln s i j 0) al L) (fun _ _ h1 h2 => si_no h2 h1) (show p < nr by omega) ‹lf p = s› hP
        refine J.loop (σ := Int × Bool × (Int → Int) × List (Int × Int)) (fun xx_ => match xx_ with | (al2, b2, cu, rs1) => (WS (ln p) i j b2 cu rs1) ∧ (b2 = true → ln p = 0 → i = j) ∧ (SI (wayT tm (dvM mk) ln (bsM bd) i j) (pV (nuM tr) ln (bsM bd) i j) (fun _ => True) (wl nr lf ln s i j 0) al2 (rsW nr lf ln s i j p rs1))) (fun xx_ => match xx_ with | (al2, b2, cu, rs1) => rs1.length) (ws := fun xx_ => match xx_ with | (al2, b2, cu, rs1) => (ad, cC ad r lp fd nr nr nr mc lf ln bd tm it th my lps em mk tr true (Value.ref (ad (idR p))) j cu b2 vg vr ve vc vb sy sf so st sn ne mt)) (ks := fun _ => 0) (ns := fun _ => 0) (lvs := fun xx_ => match xx_ with | (al2, b2, cu, rs1) => [(6, Value.int (iI p)), (4, Value.long (iL al2)), (0, Value.ref (ad 100)), (1, Value.int (iI s)), (2, Value.int (iI i)), (3, Value.int (iI j))]) (sts := fun _ => []) ?_ (al, false, cu7, stS (ln p) i j) ?_
        · rintro ⟨al2, b2, cu, rs1⟩ hI ih8
          have hI : (WS (ln p) i j b2 cu rs1) ∧ (b2 = true → ln p = 0 → i = j) ∧ (SI (wayT tm (dvM mk) ln (bsM bd) i j) (pV (nuM tr) ln (bsM bd) i j) (fun _ => True) (wl nr lf ln s i j 0) al2 (rsW nr lf ln s i j p rs1)) := hI
          obtain ⟨hWS, hz, hPs⟩ := hI
          show J l D b Y_CF_counted _ _ (ad, cC ad r lp fd nr nr nr mc lf ln bd tm it th my lps em mk tr true (Value.ref (ad (idR p))) j cu b2 vg vr ve vc vb sy sf so st sn ne mt) 0 0 59 [(6, Value.int (iI p)), (4, Value.long (iL al2)), (0, Value.ref (ad 100)), (1, Value.int (iI s)), (2, Value.int (iI i)), (3, Value.int (iI j))] []
          have hW := hWS
          have hz0 := hz
          refine J_aload_n d_CF_counted_59 rfl 2 rfl ?_
          refine J_get fs_CF_46 rfl rfl d_CF_counted_60 ?_
          refine J_callV (st := []) [] ms_CF_185 rfl (c_Wa_next hg htm hmk (by omega) (by omega) hW hz0) rfl rfl ⟨Nat.le_of_ble_eq_true rfl, Nat.le_of_ble_eq_true rfl⟩ ⟨Nat.le_of_ble_eq_true rfl, Nat.le_of_ble_eq_true rfl⟩ (Nat.le_of_ble_eq_true rfl) d_CF_counted_63 (fun v w' hp => ?_)
          obtain ⟨z9, cu9, rfl, rfl, hX9⟩ := hp
          show J l D b Y_CF_counted _ _ (ad, cC ad r lp fd nr nr nr mc lf ln bd tm it th my lps em mk tr true (Value.ref (ad (idR p))) j cu9 true vg vr ve vc vb sy sf so st sn ne mt) 0 0 66 [(6, Value.int (iI p)), (4, Value.long (iL al2)), (0, Value.ref (ad 100)), (1, Value.int (iI s)), (2, Value.int (iI i)), (3, Value.int (iI j))] [Value.int (iI (bz z9))]
          refine J_ifB_eq (tgt := 91) d_CF_counted_66 rfl (fun h66_10 => ?_) (fun h66_10 => ?_)
          · refine J_iinc (j := 0) d_CF_counted_91 rfl (by decide) rfl ?_
            refine J_goto (tgt := 6) d_CF_counted_94 rfl ?_
            exact ih1 (p + 1, al2, true, Value.ref (ad (idR p)), j, cu9, true) (show (0 ≤ (p + 1) ∧ (p + 1) ≤ nr) ∧ (SI (wayT tm (dvM mk) ln (bsM bd) i j) (pV (nuM tr) ln (bsM bd) i j) (fun _ => True) (wl nr lf ln s i j 0) al2 (wl nr lf ln s i j (p + 1))) by
                refine ⟨by omega, (drop_next (P := fun L => SI (wayT tm (dvM mk) ln (bsM bd) i j) (pV (nuM tr) ln (bsM bd) i j) (fun _ => True) (wl nr lf ln s i j 0) al2 L) (fun _ _ h1 h2 => si_no h2 h1) hPs).1 ?_⟩
                rcases hX9 with ⟨-, h9⟩ | ⟨h9, -⟩
                · exact h9
                · rw [‹z9 = false›] at h9
                  cases h9) (show ((nr - (p + 1)).toNat) < ((nr - p).toNat) by
                omega)
          · obtain ⟨p9_, l9_, hf9, hWA, hl9⟩ : ∃ pp ll, fwL (fun y => wayB tm (dvM mk) (ln p) (bsM bd p) y.1 y.2 i j) rs1 = some (pp, ll) ∧ WA (ln p) i j cu9 pp ∧ ll = tlS (ln p) j pp.1 pp.2 := by
              rcases hX9 with ⟨h9, -⟩ | ⟨-, h9⟩
              · rw [‹z9 = true›] at h9
                cases h9
              · exact h9
            obtain ⟨hfw, hPn⟩ := (drop_next (P := fun L => SI (wayT tm (dvM mk) ln (bsM bd) i j) (pV (nuM tr) ln (bsM bd) i j) (fun _ => True) (wl nr lf ln s i j 0) al2 L) (fun _ _ h1 h2 => si_no h2 h1) hPs).2 p9_ l9_ hf9
            have hKO := hka (p, p9_) (hPn.2.2.2 _ List.mem_cons_self) hfw
            have hsr := hPn.2.1
            refine J_ldc2 (z := 1000000000000) d_CF_counted_69 cst_CF_202 rfl ?_
            refine J_lload d_CF_counted_72 1 rfl ?_
            refine J_aload_n d_CF_counted_74 rfl 2 rfl ?_
            refine J_aload_n d_CF_counted_75 rfl 2 rfl ?_
            refine J_get fs_CF_46 rfl rfl d_CF_counted_76 ?_
            refine J_callV (st := [Value.long (iL al2), Value.long (iL 1000000000000)]) [Value.ref (ad 108)] ms_CF_215 rfl (c_CF_treesOfW hg (by omega) (by omega) hWA hKO) rfl rfl ⟨Nat.le_of_ble_eq_true rfl, Nat.le_of_ble_eq_true rfl⟩ ⟨Nat.le_of_ble_eq_true rfl, Nat.le_of_ble_eq_true rfl⟩ (Nat.le_of_ble_eq_true rfl) d_CF_counted_79 (fun v w' hp => ?_)
            obtain ⟨rfl, hp1_11, hp2_11, rfl⟩ := hp
            show J l D b Y_CF_counted _ _ (ad, cC ad r lp fd nr nr nr mc lf ln bd tm it th my lps em mk tr true (Value.ref (ad (idR p))) j cu9 true vg vr ve vc vb sy sf so st sn ne mt) 0 0 82 [(6, Value.int (iI p)), (4, Value.long (iL al2)), (0, Value.ref (ad 100)), (1, Value.int (iI s)), (2, Value.int (iI i)), (3, Value.int (iI j))] [Value.long (iL (pV (nuM tr) ln (bsM bd) i j (p, p9_))), Value.long (iL al2), Value.long (iL 1000000000000)]
            refine J_ladd d_CF_counted_82 ?_
            refine J_minL rfl d_CF_counted_83 (by omega) (by omega) ⟨Nat.le_of_ble_eq_true rfl, Nat.le_of_ble_eq_true rfl⟩ ⟨Nat.le_of_ble_eq_true rfl, Nat.le_of_ble_eq_true rfl⟩ ?_
            have hmn : (if al2 + pV (nuM tr) ln (bsM bd) i j (p, p9_) < 1000000000000 then al2 + pV (nuM tr) ln (bsM bd) i j (p, p9_) else 1000000000000) = cs al2 (pV (nuM tr) ln (bsM bd) i j (p, p9_)) := by
              unfold cs
              split
              · rw [if_neg (by omega)]
              · split
                · rfl
                · omega
            refine J_lstore d_CF_counted_86 (by decide) rfl ?_
            refine J_goto (tgt := 59) d_CF_counted_88 rfl ?_
            refine J.sub [1, 0, 2, 3, 4, 5] rfl ?_
            exact ih8 (if al2 + (pV (nuM tr) ln (bsM bd) i j (p, p9_)) < 1000000000000 then al2 + (pV (nuM tr) ln (bsM bd) i j (p, p9_)) else 1000000000000, true, cu9, l9_) (show (WS (ln p) i j true cu9 l9_) ∧ (true = true → ln p = 0 → i = j) ∧ (SI (wayT tm (dvM mk) ln (bsM bd) i j) (pV (nuM tr) ln (bsM bd) i j) (fun _ => True) (wl nr lf ln s i j 0) (if al2 + (pV (nuM tr) ln (bsM bd) i j (p, p9_)) < 1000000000000 then al2 + (pV (nuM tr) ln (bsM bd) i j (p, p9_)) else 1000000000000) (rsW nr lf ln s i j p l9_)) by
                rw [hmn]
                exact ⟨Or.inr ⟨rfl, p9_.1, p9_.2, hWA.1, hWA.2.1, hl9⟩, fun _ => hWA.2.2, si_way hPn hfw trivial rfl (by assumption)⟩) (show (l9_.length) < (rs1.length) by
                have := fwL_len hf9
                omega)
        · show (WS (ln p) i j false cu7 (stS (ln p) i j)) ∧ (false = true → ln p = 0 → i = j) ∧ (SI (wayT tm (dvM mk) ln (bsM bd) i j) (pV (nuM tr) ln (bsM bd) i j) (fun _ => True) (wl nr lf ln s i j 0) al (rsW nr lf ln s i j p (stS (ln p) i j)))
          exact ⟨hW, fun h => by (cases h), hPs⟩
  · show (0 ≤ (0 : Int) ∧ (0 : Int) ≤ nr) ∧ (SI (wayT tm (dvM mk) ln (bsM bd) i j) (pV (nuM tr) ln (bsM bd) i j) (fun _ => True) (wl nr lf ln s i j 0) (0 : Int) (wl nr lf ln s i j (0 : Int)))
    exact ⟨by omega, si_0⟩
end N7
