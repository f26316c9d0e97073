theorem c_Al_size_any {l : Launch} {D : jD} {b : Nat} {ad : Nat → Nat} {c : Nat → Option jE} {u : Value} {x y : Int} (h : c 103 = some (.inr (7, [u, Value.int (iI x), Value.int (iI y)]))) : Ct l D b Y_Al_size { frames := 0, cells := 0, slots := 0, locals := 0 } [Value.ref (ad 103)] (ad, c) (fun v w' => v = some (.int (iI x)) ∧ w' = (ad, c)) := by
  refine Ct_of (by decide) (Nat.le_of_ble_eq_true rfl) ?_
  show J l D b Y_Al_size _ _ (ad, c) 0 0 0 [(0, Value.ref (ad 103))] []
  refine J_aload_n d_Al_size_0 rfl 0 rfl ?_
  refine J_get (i := 103) fs_Al_48 h rfl d_Al_size_1 ?_
  refine J_iret rfl d_Al_size_4 ⟨Nat.le_of_ble_eq_true rfl, Nat.le_of_ble_eq_true rfl⟩ ?_
  exact ⟨rfl, rfl⟩
section N17
variable {l : Launch} {D : jD} {b : Nat} {w : jW} {ad : Nat → Nat} {r : Nat → Option jE} {lp : Bool} {fd : Int} {nr : Int} {nc : Int} {nd : Int} {mc : Int} {lf : Int → Int} {ln : Int → Int} {bd : Int → Int} {tm : Int → Int} {it : Int → Int → Int} {th : Int → Int → Bool} {my : Int → Int} {lps : Int → Int → Int} {em : Int → Int} {mk : Int → Int → Int} {tr : Int → Int → Int → Int} {wg : Bool} {wr : Value} {we : Int} {wc : Int → Int} {wb : Bool} {vg : Bool} {vr : Value} {ve : Int} {vc : Int → Int} {vb : Bool} {sy : Int → Int} {sf : Int → Int} {so : Int → Int} {st : Int → Int} {sn : Int} {ne : Int → Int} {mt : Int → Int → Bool}
set_option maxHeartbeats 4000000 in
theorem rule_tail {p n y : Int} {post : Option Value → jW → Prop} (hn : 0 ≤ nr ∧ nr < 10) (hg' : gOK (nr + 1) (upI lf nr p) (upI ln nr n) (bdW bd nr y n)) (htm : ∀ x, 0 ≤ x → x < 12 → -2147483648 ≤ tm x ∧ tm x ≤ 2147483647) (hS : SO it th my) (hmk : MkR mk) (htr : TrR tr) (hfd : fd = 0) (hpost : ∀ it' th' my' em' lps' mk' tr' ne' g' r' e' cu' b', Mks lp (nr + 1) (upI lf nr p) (upI ln nr n) (bdW bd nr y n) tm 0 (tab th) (tab th') ∧ SO it' th' my' ∧ CL lp (nr + 1) (upI lf nr p) (upI ln nr n) (bdW bd nr y n) lps' 1 th' ∧ (∀ k, k ≠ 0 → th' k = th k) ∧ (∀ b', b' ≠ 0 → mk' b' = mk b' ∧ tr' b' = tr b') ∧ MkR mk' ∧ TrR tr' ∧ LD (nr + 1) (upI lf nr p) (upI ln nr n) (bdW bd nr y n) tm mk' tr' 0 0 → post (some (.int (iI nr))) (ad, cC ad r lp fd (nr + 1) (nr + 1) (nr + 1) (mc + 1) (upI lf nr p) (upI ln nr n) (bdW bd nr y n) tm it' th' my' lps' em' mk' tr' g' r' e' cu' b' vg vr ve vc vb sy sf so st sn ne' mt)) : J l D b Y_CF_rule { frames := 9, cells := 2, slots := 6, locals := 202 } post (ad, cC ad r lp fd nr (nr + 1) nr mc (upI lf nr p) (upI ln nr n) (bdW bd nr y n) tm it th my lps em mk tr wg wr we wc wb vg vr ve vc vb sy sf so st sn ne mt) 2 (0 + 3 + 3) 130 [(0, Value.ref (ad 100))] [Value.ref (ad (idR nr)), Value.ref (ad 103)] := by
  refine J_callV (st := []) [Value.ref (ad (idR nr))] ms_CF_116 rfl (c_Al_add (by omega)) rfl rfl ⟨Nat.le_of_ble_eq_true rfl, Nat.le_of_ble_eq_true rfl⟩ ⟨Nat.le_of_ble_eq_true rfl, Nat.le_of_ble_eq_true rfl⟩ (Nat.le_of_ble_eq_true rfl) d_CF_rule_130 (fun v w' hp => ?_)
  obtain ⟨rfl, rfl⟩ := hp
  show J l D b Y_CF_rule _ _ (ad, cC ad r lp fd (nr + 1) (nr + 1) (nr + 1) (mc + 1) (upI lf nr p) (upI ln nr n) (bdW bd nr y n) tm it th my lps em mk tr wg wr we wc wb vg vr ve vc vb sy sf so st sn ne mt) 2 (0 + 3 + 3) 133 [(0, Value.ref (ad 100))] [Value.int (iI (bz true))]
  refine J_pop d_CF_rule_133 rfl ?_
  refine J_aload_n d_CF_rule_134 rfl 0 rfl ?_
  refine J_callV (st := []) [] ms_CF_119 rfl (c_CF_restart hg' htm hS hmk htr hfd) rfl rfl ⟨Nat.le_of_ble_eq_true rfl, Nat.le_of_ble_eq_true rfl⟩ ⟨Nat.le_of_ble_eq_true rfl, Nat.le_of_ble_eq_true rfl⟩ (Nat.le_of_ble_eq_true rfl) d_CF_rule_135 (fun v w' hp => ?_)
  obtain ⟨rfl, it2, th2, my2, em2, lps2, mk2, tr2, ne2, g2, r2, e2, cu2, b2, rfl, hR2⟩ := hp
  show J l D b Y_CF_rule _ _ (ad, cC ad r lp fd (nr + 1) (nr + 1) (nr + 1) (mc + 1) (upI lf nr p) (upI ln nr n) (bdW bd nr y n) tm it2 th2 my2 lps2 em2 mk2 tr2 g2 r2 e2 cu2 b2 vg vr ve vc vb sy sf so st sn ne2 mt) 2 (0 + 3 + 3) 138 [(0, Value.ref (ad 100))] []
  refine J_aload_n d_CF_rule_138 rfl 0 rfl ?_
  refine J_get fs_CF_23 rfl rfl d_CF_rule_139 ?_
  refine J_callV (st := []) [] ms_CF_105 rfl (c_Al_size) rfl rfl ⟨Nat.le_of_ble_eq_true rfl, Nat.le_of_ble_eq_true rfl⟩ ⟨Nat.le_of_ble_eq_true rfl, Nat.le_of_ble_eq_true rfl⟩ (Nat.le_of_ble_eq_true rfl) d_CF_rule_142 (fun v w' hp => ?_)
  obtain ⟨rfl, rfl⟩ := hp
  show J l D b Y_CF_rule _ _ (ad, cC ad r lp fd (nr + 1) (nr + 1) (nr + 1) (mc + 1) (upI lf nr p) (upI ln nr n) (bdW bd nr y n) tm it2 th2 my2 lps2 em2 mk2 tr2 g2 r2 e2 cu2 b2 vg vr ve vc vb sy sf so st sn ne2 mt) 2 (0 + 3 + 3) 145 [(0, Value.ref (ad 100))] [Value.int (iI (nr + 1))]
  refine J_iconst d_CF_rule_145 ?_
  refine J_isub d_CF_rule_146 ?_
  refine J_iret rfl d_CF_rule_147 ⟨Nat.le_of_ble_eq_true rfl, Nat.le_of_ble_eq_true rfl⟩ ?_
  rw [show nr + 1 - 1 = nr by omega]
  exact hpost _ _ _ _ _ _ _ _ _ _ _ _ _ hR2
set_option maxHeartbeats 4000000 in
theorem c_CF_rule {p : Int} {n : Int} {y : Int}  (hI : CInv lp nr lf ln bd fd tm it th my lps mk tr mt) (hr : rOK p n y) (hp : -2147483648 ≤ p ∧ p ≤ 2147483647) (hy : -2147483648 ≤ y ∧ y ≤ 2147483647) (hn9 : nr < 10) (hf0 : fd ≤ 0) : Ct l D b Y_CF_rule { frames := 9, cells := 2, slots := 6, locals := 202 } [Value.ref (ad 100), Value.int (iI p), Value.int (iI n), Value.int (iI y)] (ad, cC ad r lp fd nr nr nr mc lf ln bd tm it th my lps em mk tr wg wr we wc wb vg vr ve vc vb sy sf so st sn ne mt) (fun v w' => ∃ ad' it' th' my' em' lps' mk' tr' ne' g' r' e' cu' b', (∀ x, x ≠ 200 + nr.toNat → x ≠ 220 + nr.toNat → ad' x = ad x) ∧ v = some (.int (iI nr)) ∧ w' = (ad', cC ad' r lp fd (nr + 1) (nr + 1) (nr + 1) (mc + 1) (upI lf nr p) (upI ln nr n) (bdW bd nr y n) tm it' th' my' lps' em' mk' tr' g' r' e' cu' b' vg vr ve vc vb sy sf so st sn ne' mt) ∧ Mks lp (nr + 1) (upI lf nr p) (upI ln nr n) (bdW bd nr y n) tm 0 (tab th) (tab th') ∧ CInv lp (nr + 1) (upI lf nr p) (upI ln nr n) (bdW bd nr y n) fd tm it' th' my' lps' mk' tr' mt) := by
  refine Ct_of (by decide) (Nat.le_of_ble_eq_true rfl) ?_
  obtain ⟨hg, hf, htm, hS, hCL, hmk, htr, hLD, hmt⟩ := hI
  have hn := hg.1
  obtain ⟨r1, r2, r3, r4⟩ := id hr
  show J l D b Y_CF_rule _ _ (ad, cC ad r lp fd nr nr nr mc lf ln bd tm it th my lps em mk tr wg wr we wc wb vg vr ve vc vb sy sf so st sn ne mt) 0 0 0 [(0, Value.ref (ad 100)), (1, Value.int (iI p)), (2, Value.int (iI n)), (3, Value.int (iI y))] []
  refine J_iload_n d_CF_rule_0 rfl 1 rfl ?_
  refine J_callS (st := []) [Value.int (iI p)] ms_CF_95 (c_CF_isNonterminal (by omega)) rfl rfl ⟨Nat.le_of_ble_eq_true rfl, Nat.le_of_ble_eq_true rfl⟩ ⟨Nat.le_of_ble_eq_true rfl, Nat.le_of_ble_eq_true rfl⟩ (Nat.le_of_ble_eq_true rfl) d_CF_rule_1 (fun v w' hp => ?_)
  obtain ⟨rfl, rfl⟩ := hp
  show J l D b Y_CF_rule _ _ (ad, cC ad r lp fd nr nr nr mc lf ln bd tm it th my lps em mk tr wg wr we wc wb vg vr ve vc vb sy sf so st sn ne mt) 0 0 4 [(0, Value.ref (ad 100)), (1, Value.int (iI p)), (2, Value.int (iI n)), (3, Value.int (iI y))] [Value.int (iI (bz (ntB p)))]
  refine J_ifB_eq (tgt := 24) d_CF_rule_4 rfl (fun h4_2 => ?_) (fun h4_2 => ?_)
  · exact absurd h4_2 (by rw [r1]; decide)
  · refine J_iload_n d_CF_rule_7 rfl 2 rfl ?_
    refine J_if_lt (tgt := 24) d_CF_rule_8 rfl (by omega) (fun h8_3 => ?_) (fun h8_3 => ?_)
    · exact absurd h8_3 (by omega)
    · refine J_iload_n d_CF_rule_11 rfl 2 rfl ?_
      refine J_iconst d_CF_rule_12 ?_
      refine J_icmp_gt (tgt := 24) d_CF_rule_13 rfl (by omega) (by omega) (fun h13_4 => ?_) (fun h13_4 => ?_)
      · exact absurd h13_4 (by omega)
      · refine J_iload_n d_CF_rule_16 rfl 3 rfl ?_
        refine J_iconst d_CF_rule_17 ?_
        refine J_iload_n d_CF_rule_18 rfl 2 rfl ?_
        refine J_imul d_CF_rule_19 ?_
        refine J_iushr d_CF_rule_20 (usr_eq _ _) ?_
        have hu := usr_rng y (4 * n)
        refine J_if_eq (tgt := 32) d_CF_rule_21 rfl (by omega) (fun h21_5 => ?_) (fun h21_5 => ?_)
        · refine J_iconst d_CF_rule_32 ?_
          refine J_istore d_CF_rule_33 (by decide) rfl ?_
          refine J.sub [0, 1, 2, 3, 4] (lv' := [(4, Value.int (iI 0)), (0, Value.ref (ad 100)), (1, Value.int (iI p)), (2, Value.int (iI n)), (3, Value.int (iI y))]) rfl ?_
          refine J.loop (σ := Int) (fun k => (0 ≤ k ∧ k ≤ n)) (fun k => (n - k).toNat) (ws := fun k => (ad, cC ad r lp fd nr nr nr mc lf ln bd tm it th my lps em mk tr wg wr we wc wb vg vr ve vc vb sy sf so st sn ne mt)) (ks := fun _ => 0) (ns := fun _ => 0) (lvs := fun k => [(4, Value.int (iI k)), (0, Value.ref (ad 100)), (1, Value.int (iI p)), (2, Value.int (iI n)), (3, Value.int (iI y))]) (sts := fun _ => []) ?_ 0 ?_
          · rintro k hI ih6
            have hI : (0 ≤ k ∧ k ≤ n) := hI
            have hk := hI
            show J l D b Y_CF_rule _ _ (ad, cC ad r lp fd nr nr nr mc lf ln bd tm it th my lps em mk tr wg wr we wc wb vg vr ve vc vb sy sf so st sn ne mt) 0 0 35 [(4, Value.int (iI k)), (0, Value.ref (ad 100)), (1, Value.int (iI p)), (2, Value.int (iI n)), (3, Value.int (iI y))] []
            refine J_iload d_CF_rule_35 0 rfl ?_
            refine J_iload_n d_CF_rule_37 rfl 3 rfl ?_
            refine J_icmp_ge (tgt := 82) d_CF_rule_38 rfl (by omega) (by omega) (fun h38_7 => ?_) (fun h38_7 => ?_)
            · refine J_aload_n d_CF_rule_82 rfl 1 rfl ?_
              refine J_get fs_CF_23 rfl rfl d_CF_rule_83 ?_
              refine J_callV (st := []) [] ms_CF_105 rfl (c_Al_size) rfl rfl ⟨Nat.le_of_ble_eq_true rfl, Nat.le_of_ble_eq_true rfl⟩ ⟨Nat.le_of_ble_eq_true rfl, Nat.le_of_ble_eq_true rfl⟩ (Nat.le_of_ble_eq_true rfl) d_CF_rule_86 (fun v w' hp => ?_)
              obtain ⟨rfl, rfl⟩ := hp
              show J l D b Y_CF_rule _ _ (ad, cC ad r lp fd nr nr nr mc lf ln bd tm it th my lps em mk tr wg wr we wc wb vg vr ve vc vb sy sf so st sn ne mt) 0 0 89 [(4, Value.int (iI k)), (0, Value.ref (ad 100)), (1, Value.int (iI p)), (2, Value.int (iI n)), (3, Value.int (iI y))] [Value.int (iI nr)]
              refine J_bipush d_CF_rule_89 (by decide) ?_
              refine J_icmp_ge (tgt := 101) d_CF_rule_91 rfl (by omega) (by omega) (fun h91_9 => ?_) (fun h91_9 => ?_)
              · exact absurd h91_9 (by omega)
              · refine J_aload_n d_CF_rule_94 rfl 1 rfl ?_
                refine J_get fs_CF_109 rfl rfl d_CF_rule_95 ?_
                refine J_if_le (tgt := 109) d_CF_rule_98 rfl (by omega) (fun h98_10 => ?_) (fun h98_10 => ?_)
                · have hg' := hg.push (by omega) hr
                  refine J.sub [1, 2, 3, 4] rfl ?_
                  refine J_aload_n d_CF_rule_109 rfl 0 rfl ?_
                  refine J_get fs_CF_23 rfl rfl d_CF_rule_110 ?_
                  refine J_new (i := 200 + nr.toNat) (ci := 3) (fs := [Value.int (iI 0), Value.int (iI 0), Value.null]) d_CF_rule_113 rfl cl_CF_9 in_Ru ii_Ru (cC_noR (by omega)).1 (fun j hj => by match j, hj with | 0, _ => rfl | 1, _ => rfl | 2, _ => rfl) ⟨Nat.le_of_ble_eq_true rfl, Nat.le_of_ble_eq_true rfl⟩ (fun a => ?_)
                  obtain ⟨ad1, e1⟩ : ∃ z, z = va_up ad (200 + nr.toNat) a := ⟨_, rfl⟩
                  have hag : ∀ x, x ≠ 200 + nr.toNat → ad1 x = ad x := fun x hx => by rw [e1, va_n _ _ hx]
                  have ha1 : a = ad1 (200 + nr.toNat) := by rw [e1, va_s]
                  show J l D b Y_CF_rule _ _ (va_up ad (200 + nr.toNat) a, va_up (cC ad r lp fd nr nr nr mc lf ln bd tm it th my lps em mk tr wg wr we wc wb vg vr ve vc vb sy sf so st sn ne mt) (200 + nr.toNat) (some (.inr (3, [Value.int (iI 0), Value.int (iI 0), Value.null])))) 1 (0 + 3) 116 [(0, Value.ref (ad 100)), (1, Value.int (iI p)), (2, Value.int (iI n)), (3, Value.int (iI y))] [Value.ref a, Value.ref (ad 103)]
                  rw [← e1, ha1, ← hag 100 (by omega), ← hag 103 (by omega), ← cC_ad (ad := ad) (ad1 := ad1) (fun x hx => hag x (by omega)) (by omega) (by omega)]
                  refine J_dup d_CF_rule_116 rfl ?_
                  refine J_aload_n d_CF_rule_117 rfl 0 rfl ?_
                  refine J_get (i := 100) (v := Value.ref (ad1 103)) fs_CF_23 (show va_up (cC ad1 r lp fd nr nr nr mc lf ln bd tm it th my lps em mk tr wg wr we wc wb vg vr ve vc vb sy sf so st sn ne mt) (200 + nr.toNat) _ 100 = _ by rw [va_n _ _ (by omega)]; rfl) rfl d_CF_rule_118 ?_
                  refine J_callV (i := 103) (st := [Value.ref (ad1 (200 + nr.toNat)), Value.ref (ad1 (200 + nr.toNat)), Value.ref (ad1 103)]) [] ms_CF_105 (show va_up (cC ad1 r lp fd nr nr nr mc lf ln bd tm it th my lps em mk tr wg wr we wc wb vg vr ve vc vb sy sf so st sn ne mt) (200 + nr.toNat) _ 103 = _ by rw [va_n _ _ (by omega)]; rfl) (c_Al_size_any (show va_up (cC ad1 r lp fd nr nr nr mc lf ln bd tm it th my lps em mk tr wg wr we wc wb vg vr ve vc vb sy sf so st sn ne mt) (200 + nr.toNat) _ 103 = _ by rw [va_n _ _ (by omega)]; rfl)) rfl rfl ⟨Nat.le_of_ble_eq_true rfl, Nat.le_of_ble_eq_true rfl⟩ ⟨Nat.le_of_ble_eq_true rfl, Nat.le_of_ble_eq_true rfl⟩ (Nat.le_of_ble_eq_true rfl) d_CF_rule_121 (fun v w' hp => ?_)
                  obtain ⟨rfl, hw9⟩ := hp
                  rw [hw9]
                  show J l D b Y_CF_rule _ _ (ad1, va_up (cC ad1 r lp fd nr nr nr mc lf ln bd tm it th my lps em mk tr wg wr we wc wb vg vr ve vc vb sy sf so st sn ne mt) (200 + nr.toNat) (some (.inr (3, [Value.int (iI 0), Value.int (iI 0), Value.null])))) 1 (0 + 3) 124 [(0, Value.ref (ad1 100)), (1, Value.int (iI p)), (2, Value.int (iI n)), (3, Value.int (iI y))] [Value.int (iI nr), Value.ref (ad1 (200 + nr.toNat)), Value.ref (ad1 (200 + nr.toNat)), Value.ref (ad1 103)]
                  refine J_iload_n d_CF_rule_124 rfl 1 rfl ?_
                  refine J_iload_n d_CF_rule_125 rfl 2 rfl ?_
                  refine J_iload_n d_CF_rule_126 rfl 3 rfl ?_
                  refine J_callI (st := [Value.ref (ad1 (200 + nr.toNat)), Value.ref (ad1 103)]) [Value.int (iI nr), Value.int (iI p), Value.int (iI n), Value.int (iI y)] ms_CF_11 (c_Ru_init (i := 200 + nr.toNat) (ib := 220 + nr.toNat) (by omega) (by omega) (cC_noR (by omega)).2) rfl rfl ⟨Nat.le_of_ble_eq_true rfl, Nat.le_of_ble_eq_true rfl⟩ ⟨Nat.le_of_ble_eq_true rfl, Nat.le_of_ble_eq_true rfl⟩ (Nat.le_of_ble_eq_true rfl) d_CF_rule_127 (fun v w' hp => ?_)
                  obtain ⟨rfl, ad2, hag2, rfl⟩ := hp
                  rw [cC_rule (ad1 := ad1) (ad2 := ad2) hg (by omega) (by omega) (by omega) hag2, ← hag2 100 (by omega), ← hag2 103 (by omega), ← hag2 (200 + nr.toNat) (by omega)]
                  refine J.sub [0] rfl ?_
                  refine rule_tail (by omega) hg' htm hS hmk htr (by omega) (fun it' th' my' em' lps' mk' tr' ne' g' r' e' cu' b' hR => ?_)
                  obtain ⟨k1, k2, k3, k4, k5, k6, k7, k8⟩ := hR
                  refine ⟨ad2, it', th', my', em', lps', mk', tr', ne', g', r', e', cu', b', fun x x1 x2 => (hag2 x x2).trans (hag x x1), rfl, rfl, k1, hg', hf, htm, k2, by rw [show fd + 1 = 1 by omega]; exact k3, k6, k7, fun i j a1 a2 a3 => ?_, hmt⟩
                  rw [show i = 0 by omega, show j = 0 by omega]
                  exact k8
                · exact absurd h98_10 (by omega)
            · refine J_iload_n d_CF_rule_41 rfl 4 rfl ?_
              refine J_iconst d_CF_rule_42 ?_
              refine J_iload d_CF_rule_43 0 rfl ?_
              refine J_imul d_CF_rule_45 ?_
              refine J_ishr d_CF_rule_46 rfl ?_
              refine J_bipush d_CF_rule_47 (by decide) ?_
              refine J_iand d_CF_rule_49 (sym_eq _ _) ?_
              refine J_istore d_CF_rule_50 (by decide) rfl ?_
              have hsy := sym_rng y (4 * k)
              refine J_iload d_CF_rule_52 0 rfl ?_
              refine J_callS (st := []) [Value.int (iI (sym y (4 * k)))] ms_CF_95 (c_CF_isNonterminal (by omega)) rfl rfl ⟨Nat.le_of_ble_eq_true rfl, Nat.le_of_ble_eq_true rfl⟩ ⟨Nat.le_of_ble_eq_true rfl, Nat.le_of_ble_eq_true rfl⟩ (Nat.le_of_ble_eq_true rfl) d_CF_rule_54 (fun v w' hp => ?_)
              obtain ⟨rfl, rfl⟩ := hp
              show J l D b Y_CF_rule _ _ (ad, cC ad r lp fd nr nr nr mc lf ln bd tm it th my lps em mk tr wg wr we wc wb vg vr ve vc vb sy sf so st sn ne mt) 0 0 57 [(5, Value.int (iI (sym y (4 * k)))), (4, Value.int (iI k)), (0, Value.ref (ad 100)), (1, Value.int (iI p)), (2, Value.int (iI n)), (3, Value.int (iI y))] [Value.int (iI (bz (ntB (sym y (4 * k)))))]
              refine J_ifB_ne (tgt := 76) d_CF_rule_57 rfl (fun h57_12 => ?_) (fun h57_12 => ?_)
              · refine J_iinc (j := 1) d_CF_rule_76 rfl (by decide) rfl ?_
                refine J_goto (tgt := 35) d_CF_rule_79 rfl ?_
                refine J.sub [0, 2, 3, 4, 5] rfl ?_
                exact ih6 (k + 1) (show (0 ≤ (k + 1) ∧ (k + 1) ≤ n) by
                    omega) (show ((n - (k + 1)).toNat) < ((n - k).toNat) by
                    omega)
              · have htB : tmB (sym y (4 * k)) = true := by
                  rcases r4 k (by omega) (by omega) with h | h
                  · rw [‹ntB (sym y (4 * k)) = false›] at h
                    cases h
                  · exact h
                refine J_iload d_CF_rule_60 0 rfl ?_
                refine J_callS (st := []) [Value.int (iI (sym y (4 * k)))] ms_CF_102 (c_CF_isTerminal (by omega)) rfl rfl ⟨Nat.le_of_ble_eq_true rfl, Nat.le_of_ble_eq_true rfl⟩ ⟨Nat.le_of_ble_eq_true rfl, Nat.le_of_ble_eq_true rfl⟩ (Nat.le_of_ble_eq_true rfl) d_CF_rule_62 (fun v w' hp => ?_)
                obtain ⟨rfl, rfl⟩ := hp
                show J l D b Y_CF_rule _ _ (ad, cC ad r lp fd nr nr nr mc lf ln bd tm it th my lps em mk tr wg wr we wc wb vg vr ve vc vb sy sf so st sn ne mt) 0 0 65 [(5, Value.int (iI (sym y (4 * k)))), (4, Value.int (iI k)), (0, Value.ref (ad 100)), (1, Value.int (iI p)), (2, Value.int (iI n)), (3, Value.int (iI y))] [Value.int (iI (bz (tmB (sym y (4 * k)))))]
                refine J_ifB_ne (tgt := 76) d_CF_rule_65 rfl (fun h65_14 => ?_) (fun h65_14 => ?_)
                · refine J_iinc (j := 1) d_CF_rule_76 rfl (by decide) rfl ?_
                  refine J_goto (tgt := 35) d_CF_rule_79 rfl ?_
                  refine J.sub [0, 2, 3, 4, 5] rfl ?_
                  exact ih6 (k + 1) (show (0 ≤ (k + 1) ∧ (k + 1) ≤ n) by
                      omega) (show ((n - (k + 1)).toNat) < ((n - k).toNat) by
                      omega)
                · exact absurd h65_14 (by rw [htB]; decide)
          · show (0 ≤ (0 : Int) ∧ (0 : Int) ≤ n)
            omega
        · exact absurd h21_5 (by omega)
end N17
