section M2
variable {l : Launch} {D : jD} {b : Nat} {w : jW} {ad : Nat → Nat} {r : Nat → Option jE} {lp : Bool} {rf : Int} {nr : Int} {lf : Int → Int} {ln : Int → Int} {bd : Int → Int} {fd : Int} {tm : Int → Int} {it : Int → Bool} {wk : Bool} {dv : Int → Bool} {ct : Int → Bool} {nu : Int → Int} {mt : Int → Bool} {c1 : Int} {c2 : Int} {td : Int → Int} {tt : Int → Int} {tc : Int}
set_option maxHeartbeats 4000000 in
theorem c_Mo_leapOf {f : Int} {x : Int} (hg : gOK nr lf ln bd) (hf : 0 ≤ f ∧ f ≤ 12) (hx : -2147483648 ≤ x ∧ x ≤ 2147483647) : Ct l D b Y_Mo_leapOf { frames := 2, cells := 0, slots := 0, locals := 43 } [Value.ref (ad 0), Value.int (iI f), Value.int (iI x)] (ad, cM ad r lp rf nr lf ln bd fd tm it wk dv ct nu mt c1 c2 td tt tc) (fun v w' => v = some (.int (iI (lpN it lf ln bd f.toNat x (-1)))) ∧ w' = (ad, cM ad r lp rf nr lf ln bd fd tm it wk dv ct nu mt c1 c2 td tt tc)) := by
  refine Ct_of (by decide) (Nat.le_of_ble_eq_true rfl) ?_
  show J l D b Y_Mo_leapOf _ _ (ad, cM ad r lp rf nr lf ln bd fd tm it wk dv ct nu mt c1 c2 td tt tc) 0 0 0 [(0, Value.ref (ad 0)), (1, Value.int (iI f)), (2, Value.int (iI x))] []
  refine J_iconst d_Mo_leapOf_0 ?_
  refine J_istore_n d_Mo_leapOf_1 rfl (by decide) rfl ?_
  refine J_iload_n d_Mo_leapOf_2 rfl 2 rfl ?_
  refine J_istore d_Mo_leapOf_3 (by decide) rfl ?_
  refine J_iload_n d_Mo_leapOf_5 rfl 4 rfl ?_
  refine J_istore d_Mo_leapOf_6 (by decide) rfl ?_
  refine J.loop (σ := Int × Int × Int) (fun xx_ => match xx_ with | (nm, se, wa) => (-1 ≤ se ∧ se ≤ 12) ∧ (-2147483648 ≤ wa ∧ wa ≤ 2147483647) ∧ (0 ≤ se → lpN it lf ln bd se.toNat wa nm = lpN it lf ln bd f.toNat x (-1)) ∧ (se < 0 → nm = lpN it lf ln bd f.toNat x (-1))) (fun xx_ => match xx_ with | (nm, se, wa) => (se + 1).toNat) (ws := fun xx_ => match xx_ with | (nm, se, wa) => (ad, cM ad r lp rf nr lf ln bd fd tm it wk dv ct nu mt c1 c2 td tt tc)) (ks := fun _ => 0) (ns := fun _ => 0) (lvs := fun xx_ => match xx_ with | (nm, se, wa) => [(5, Value.int (iI wa)), (4, Value.int (iI se)), (3, Value.int (iI nm)), (0, Value.ref (ad 0)), (1, Value.int (iI f)), (2, Value.int (iI x))]) (sts := fun _ => []) ?_ (-1, f, x) ?_
  · rintro ⟨nm, se, wa⟩ hI ih1
    have hI : (-1 ≤ se ∧ se ≤ 12) ∧ (-2147483648 ≤ wa ∧ wa ≤ 2147483647) ∧ (0 ≤ se → lpN it lf ln bd se.toNat wa nm = lpN it lf ln bd f.toNat x (-1)) ∧ (se < 0 → nm = lpN it lf ln bd f.toNat x (-1)) := hI
    obtain ⟨h1, h2, h3, h4⟩ := hI
    show J l D b Y_Mo_leapOf _ _ (ad, cM ad r lp rf nr lf ln bd fd tm it wk dv ct nu mt c1 c2 td tt tc) 0 0 8 [(5, Value.int (iI wa)), (4, Value.int (iI se)), (3, Value.int (iI nm)), (0, Value.ref (ad 0)), (1, Value.int (iI f)), (2, Value.int (iI x))] []
    refine J_iload d_Mo_leapOf_8 1 rfl ?_
    refine J_if_lt (tgt := 191) d_Mo_leapOf_10 rfl (by omega) (fun h10_2 => ?_) (fun h10_2 => ?_)
    · refine J_iload_n d_Mo_leapOf_191 rfl 2 rfl ?_
      refine J_iret rfl d_Mo_leapOf_192 ⟨Nat.le_of_ble_eq_true rfl, Nat.le_of_ble_eq_true rfl⟩ ?_
      exact ⟨by rw [h4 (by omega)], rfl⟩
    · refine J_iconst d_Mo_leapOf_13 ?_
      refine J_istore d_Mo_leapOf_14 (by decide) rfl ?_
      refine J_iconst d_Mo_leapOf_16 ?_
      refine J_istore d_Mo_leapOf_17 (by decide) rfl ?_
      refine J_iconst d_Mo_leapOf_19 ?_
      refine J_istore d_Mo_leapOf_20 (by decide) rfl ?_
      refine J.loop (σ := Int × Int × Int) (fun xx_ => match xx_ with | (k, many, found) => (0 ≤ k ∧ k ≤ 572) ∧ (many = cnt (lpW it ln bd se wa) k) ∧ (found = fnd (lpW it ln bd se wa) k)) (fun xx_ => match xx_ with | (k, many, found) => (572 - k).toNat) (ws := fun xx_ => match xx_ with | (k, many, found) => (ad, cM ad r lp rf nr lf ln bd fd tm it wk dv ct nu mt c1 c2 td tt tc)) (ks := fun _ => 0) (ns := fun _ => 0) (lvs := fun xx_ => match xx_ with | (k, many, found) => [(8, Value.int (iI k)), (7, Value.int (iI found)), (6, Value.int (iI many)), (5, Value.int (iI wa)), (4, Value.int (iI se)), (3, Value.int (iI nm)), (0, Value.ref (ad 0)), (1, Value.int (iI f)), (2, Value.int (iI x))]) (sts := fun _ => []) ?_ (0, 0, 0) ?_
      · rintro ⟨k, many, found⟩ hI ih3
        have hI : (0 ≤ k ∧ k ≤ 572) ∧ (many = cnt (lpW it ln bd se wa) k) ∧ (found = fnd (lpW it ln bd se wa) k) := hI
        obtain ⟨hk, hm, hfd⟩ := hI
        show J l D b Y_Mo_leapOf _ _ (ad, cM ad r lp rf nr lf ln bd fd tm it wk dv ct nu mt c1 c2 td tt tc) 0 0 22 [(8, Value.int (iI k)), (7, Value.int (iI found)), (6, Value.int (iI many)), (5, Value.int (iI wa)), (4, Value.int (iI se)), (3, Value.int (iI nm)), (0, Value.ref (ad 0)), (1, Value.int (iI f)), (2, Value.int (iI x))] []
        refine J_iload d_Mo_leapOf_22 0 rfl ?_
        refine J_sipush d_Mo_leapOf_24 (by decide) ?_
        refine J_icmp_ge (tgt := 84) d_Mo_leapOf_27 rfl (by omega) (by omega) (fun h27_4 => ?_) (fun h27_4 => ?_)
        · have hk572 : k = 572 := by omega
          rw [hk572] at hm hfd
          have hfr := fnd_rng (lpW it ln bd se wa) (show (0 : Int) ≤ 572 by omega)
          rw [← hfd] at hfr
          have hmr := cnt_rng (lpW it ln bd se wa) (show (0 : Int) ≤ 572 by omega)
          rw [← hm] at hmr
          refine J_iload d_Mo_leapOf_84 1 rfl ?_
          refine J_bipush d_Mo_leapOf_86 (by decide) ?_
          refine J_idiv d_Mo_leapOf_88 (by omega) (by omega) ?_
          refine J_iconst d_Mo_leapOf_89 ?_
          refine J_isub d_Mo_leapOf_90 ?_
          refine J_istore d_Mo_leapOf_91 (by decide) rfl ?_
          refine J_iload d_Mo_leapOf_93 1 rfl ?_
          refine J_bipush d_Mo_leapOf_95 (by decide) ?_
          refine J_irem d_Mo_leapOf_97 (by omega) (by omega) ?_
          refine J_bipush d_Mo_leapOf_98 (by decide) ?_
          refine J_idiv d_Mo_leapOf_100 (by omega) (by omega) ?_
          refine J_istore d_Mo_leapOf_101 (by decide) rfl ?_
          refine J_iload d_Mo_leapOf_103 2 rfl ?_
          refine J_bipush d_Mo_leapOf_105 (by decide) ?_
          refine J_irem d_Mo_leapOf_107 (by omega) (by omega) ?_
          refine J_istore d_Mo_leapOf_108 (by decide) rfl ?_
          refine J_iload d_Mo_leapOf_110 4 rfl ?_
          refine J_iconst d_Mo_leapOf_112 ?_
          refine J_icmp_ne (tgt := 129) d_Mo_leapOf_113 rfl (by omega) (by omega) (fun h113_5 => ?_) (fun h113_5 => ?_)
          · refine J_iload_n d_Mo_leapOf_129 rfl 7 rfl ?_
            refine J_iret rfl d_Mo_leapOf_130 ⟨Nat.le_of_ble_eq_true rfl, Nat.le_of_ble_eq_true rfl⟩ ?_
            exact ⟨by rw [← h3 (by omega), lp_end1 (by omega) (Or.inl (by rw [← hm]; assumption))], rfl⟩
          · refine J_iload d_Mo_leapOf_116 1 rfl ?_
            refine J_iconst d_Mo_leapOf_118 ?_
            refine J_iadd d_Mo_leapOf_119 ?_
            refine J_aload_n d_Mo_leapOf_120 rfl 8 rfl ?_
            refine J_iload d_Mo_leapOf_121 2 rfl ?_
            refine J_callV (st := [Value.int (iI (((found % 52) / 13) + 1))]) [Value.int (iI ((found / 52) - 1))] ms_Mo_57 rfl (c_Mo_lengthOf (by omega)) rfl rfl ⟨Nat.le_of_ble_eq_true rfl, Nat.le_of_ble_eq_true rfl⟩ ⟨Nat.le_of_ble_eq_true rfl, Nat.le_of_ble_eq_true rfl⟩ (Nat.le_of_ble_eq_true rfl) d_Mo_leapOf_123 (fun v w' hp => ?_)
            obtain ⟨rfl, rfl⟩ := hp
            show J l D b Y_Mo_leapOf _ _ (ad, cM ad r lp rf nr lf ln bd fd tm it wk dv ct nu mt c1 c2 td tt tc) 0 0 126 [(10, Value.int (iI (found % 13))), (9, Value.int (iI ((found % 52) / 13))), (8, Value.int (iI ((found / 52) - 1))), (7, Value.int (iI found)), (6, Value.int (iI many)), (5, Value.int (iI wa)), (4, Value.int (iI se)), (3, Value.int (iI nm)), (0, Value.ref (ad 0)), (1, Value.int (iI f)), (2, Value.int (iI x))] [Value.int (iI (lenOf ln ((found / 52) - 1))), Value.int (iI (((found % 52) / 13) + 1))]
            have hl6 := hg.len (q := ((found / 52) - 1)) (by omega)
            refine J_icmp_eq (tgt := 131) d_Mo_leapOf_126 rfl (by omega) (by omega) (fun h126_7 => ?_) (fun h126_7 => ?_)
            · refine J_iload d_Mo_leapOf_131 3 rfl ?_
              refine J_bipush d_Mo_leapOf_133 (by decide) ?_
              refine J_iadd d_Mo_leapOf_135 ?_
              refine J_istore_n d_Mo_leapOf_136 rfl (by decide) rfl ?_
              refine J_iload d_Mo_leapOf_137 1 rfl ?_
              refine J_iload d_Mo_leapOf_139 7 rfl ?_
              refine J_icmp_ge (tgt := 153) d_Mo_leapOf_141 rfl (by omega) (by omega) (fun h141_8 => ?_) (fun h141_8 => ?_)
              · refine J_iconst d_Mo_leapOf_153 ?_
                refine J_istore d_Mo_leapOf_154 (by decide) rfl ?_
                refine J_iload d_Mo_leapOf_156 0 rfl ?_
                refine J_if_eq (tgt := 171) d_Mo_leapOf_158 rfl (by omega) (fun h158_9 => ?_) (fun h158_9 => ?_)
                · refine J_iload d_Mo_leapOf_171 7 rfl ?_
                  refine J_istore d_Mo_leapOf_173 (by decide) rfl ?_
                  refine J_iload d_Mo_leapOf_175 1 rfl ?_
                  refine J_if_eq (tgt := 185) d_Mo_leapOf_177 rfl (by omega) (fun h177_10 => ?_) (fun h177_10 => ?_)
                  · refine J_iconst d_Mo_leapOf_185 ?_
                    refine J_istore d_Mo_leapOf_186 (by decide) rfl ?_
                    refine J_goto (tgt := 8) d_Mo_leapOf_188 rfl ?_
                    refine J.sub [1, 0, 3, 9, 10, 11] rfl ?_
                    exact ih1 (found + 13, -1, wa) (show (-1 ≤ (-1 : Int) ∧ (-1 : Int) ≤ 12) ∧ (-2147483648 ≤ wa ∧ wa ≤ 2147483647) ∧ (0 ≤ (-1 : Int) → lpN it lf ln bd (-1 : Int).toNat wa (found + 13) = lpN it lf ln bd f.toNat x (-1)) ∧ ((-1 : Int) < 0 → (found + 13) = lpN it lf ln bd f.toNat x (-1)) by
                        have hC : lpC it ln bd se wa = found := hfd.symm
                        have hm1 : cnt (lpW it ln bd se wa) 572 = 1 := by omega
                        exact ⟨by omega, by first | omega | exact hg.2.1 _ (by omega) (by omega), fun h => by omega, fun _ => by rw [← h3 (by omega), lp_end2 (by omega) hm1 (by rw [hC]; omega) (by rw [hC]; omega), hC]⟩) (show ((-1 : Int) + 1).toNat < (se + 1).toNat by
                        omega)
                  · exact absurd h177_10 (by decide)
                · exact absurd h158_9 (by decide)
              · refine J_iload d_Mo_leapOf_144 3 rfl ?_
                refine J_if_lt (tgt := 153) d_Mo_leapOf_146 rfl (by omega) (fun h146_11 => ?_) (fun h146_11 => ?_)
                · refine J_iconst d_Mo_leapOf_153 ?_
                  refine J_istore d_Mo_leapOf_154 (by decide) rfl ?_
                  refine J_iload d_Mo_leapOf_156 0 rfl ?_
                  refine J_if_eq (tgt := 171) d_Mo_leapOf_158 rfl (by omega) (fun h158_12 => ?_) (fun h158_12 => ?_)
                  · refine J_iload d_Mo_leapOf_171 7 rfl ?_
                    refine J_istore d_Mo_leapOf_173 (by decide) rfl ?_
                    refine J_iload d_Mo_leapOf_175 1 rfl ?_
                    refine J_if_eq (tgt := 185) d_Mo_leapOf_177 rfl (by omega) (fun h177_13 => ?_) (fun h177_13 => ?_)
                    · refine J_iconst d_Mo_leapOf_185 ?_
                      refine J_istore d_Mo_leapOf_186 (by decide) rfl ?_
                      refine J_goto (tgt := 8) d_Mo_leapOf_188 rfl ?_
                      refine J.sub [1, 0, 3, 9, 10, 11] rfl ?_
                      exact ih1 (found + 13, -1, wa) (show (-1 ≤ (-1 : Int) ∧ (-1 : Int) ≤ 12) ∧ (-2147483648 ≤ wa ∧ wa ≤ 2147483647) ∧ (0 ≤ (-1 : Int) → lpN it lf ln bd (-1 : Int).toNat wa (found + 13) = lpN it lf ln bd f.toNat x (-1)) ∧ ((-1 : Int) < 0 → (found + 13) = lpN it lf ln bd f.toNat x (-1)) by
                          have hC : lpC it ln bd se wa = found := hfd.symm
                          have hm1 : cnt (lpW it ln bd se wa) 572 = 1 := by omega
                          exact ⟨by omega, by first | omega | exact hg.2.1 _ (by omega) (by omega), fun h => by omega, fun _ => by rw [← h3 (by omega), lp_end2 (by omega) hm1 (by rw [hC]; omega) (by rw [hC]; omega), hC]⟩) (show ((-1 : Int) + 1).toNat < (se + 1).toNat by
                          omega)
                    · exact absurd h177_13 (by decide)
                  · exact absurd h158_12 (by decide)
                · refine J_iconst d_Mo_leapOf_149 ?_
                  refine J_goto (tgt := 154) d_Mo_leapOf_150 rfl ?_
                  refine J_istore d_Mo_leapOf_154 (by decide) rfl ?_
                  refine J_iload d_Mo_leapOf_156 0 rfl ?_
                  refine J_if_eq (tgt := 171) d_Mo_leapOf_158 rfl (by omega) (fun h158_14 => ?_) (fun h158_14 => ?_)
                  · exact absurd h158_14 (by decide)
                  · refine J_aload_n d_Mo_leapOf_161 rfl 9 rfl ?_
                    refine J_get fs_Mo_7 rfl rfl d_Mo_leapOf_162 ?_
                    refine J_iload d_Mo_leapOf_165 4 rfl ?_
                    refine J_iald rfl (by omega) (by decide) d_Mo_leapOf_167 ?_
                    refine J_goto (tgt := 173) d_Mo_leapOf_168 rfl ?_
                    refine J_istore d_Mo_leapOf_173 (by decide) rfl ?_
                    refine J_iload d_Mo_leapOf_175 1 rfl ?_
                    refine J_if_eq (tgt := 185) d_Mo_leapOf_177 rfl (by omega) (fun h177_15 => ?_) (fun h177_15 => ?_)
                    · exact absurd h177_15 (by decide)
                    · refine J_iload d_Mo_leapOf_180 3 rfl ?_
                      refine J_goto (tgt := 186) d_Mo_leapOf_182 rfl ?_
                      refine J_istore d_Mo_leapOf_186 (by decide) rfl ?_
                      refine J_goto (tgt := 8) d_Mo_leapOf_188 rfl ?_
                      refine J.sub [1, 0, 3, 9, 10, 11] rfl ?_
                      exact ih1 (found + 13, found % 13, lf ((found / 52) - 1)) (show (-1 ≤ (found % 13) ∧ (found % 13) ≤ 12) ∧ (-2147483648 ≤ (lf ((found / 52) - 1)) ∧ (lf ((found / 52) - 1)) ≤ 2147483647) ∧ (0 ≤ (found % 13) → lpN it lf ln bd (found % 13).toNat (lf ((found / 52) - 1)) (found + 13) = lpN it lf ln bd f.toNat x (-1)) ∧ ((found % 13) < 0 → (found + 13) = lpN it lf ln bd f.toNat x (-1)) by
                          have hC : lpC it ln bd se wa = found := hfd.symm
                          have hm1 : cnt (lpW it ln bd se wa) 572 = 1 := by omega
                          have hlf := hg.2.1 (found / 52 - 1) (by omega) (by omega)
                          exact ⟨by omega, by omega, fun _ => by rw [← h3 (by omega), lp_go (by omega) hm1 (by rw [hC]; omega) (by rw [hC]; omega), hC], fun h => by omega⟩) (show ((found % 13) + 1).toNat < (se + 1).toNat by
                          omega)
            · refine J_iload_n d_Mo_leapOf_129 rfl 7 rfl ?_
              refine J_iret rfl d_Mo_leapOf_130 ⟨Nat.le_of_ble_eq_true rfl, Nat.le_of_ble_eq_true rfl⟩ ?_
              exact ⟨by rw [← h3 (by omega), lp_end1 (by omega) (Or.inr (by show fnd (lpW it ln bd se wa) 572 % 52 / 13 + 1 ≠ lenOf ln (fnd (lpW it ln bd se wa) 572 / 52 - 1); rw [← hfd]; assumption))], rfl⟩
        · refine J_aload_n d_Mo_leapOf_30 rfl 6 rfl ?_
          refine J_get fs_Mo_22 rfl rfl d_Mo_leapOf_31 ?_
          refine J_sipush d_Mo_leapOf_34 (by decide) ?_
          refine J_iload d_Mo_leapOf_37 4 rfl ?_
          refine J_imul d_Mo_leapOf_39 ?_
          refine J_iload d_Mo_leapOf_40 0 rfl ?_
          refine J_iadd d_Mo_leapOf_42 ?_
          refine J_zald rfl (by omega) (by decide) d_Mo_leapOf_43 ?_
          refine J_ifB_eq (tgt := 78) d_Mo_leapOf_44 rfl (fun h44_16 => ?_) (fun h44_16 => ?_)
          · refine J_iinc (j := 0) d_Mo_leapOf_78 rfl (by decide) rfl ?_
            refine J_goto (tgt := 22) d_Mo_leapOf_81 rfl ?_
            exact ih3 (k + 1, many, found) (show (0 ≤ (k + 1) ∧ (k + 1) ≤ 572) ∧ (many = cnt (lpW it ln bd se wa) (k + 1)) ∧ (found = fnd (lpW it ln bd se wa) (k + 1)) by
                exact ⟨by omega, by rw [cnt_s _ (by omega), if_neg (by first | exact lpW_f1 ‹_› | exact lpW_f2 ‹_›), ← hm], by rw [fnd_s _ (by omega), if_neg (by first | exact lpW_f1 ‹_› | exact lpW_f2 ‹_›), ← hfd]⟩) (show (572 - (k + 1)).toNat < (572 - k).toNat by
                omega)
          · refine J_aload_n d_Mo_leapOf_47 rfl 6 rfl ?_
            refine J_iload d_Mo_leapOf_48 0 rfl ?_
            refine J_bipush d_Mo_leapOf_50 (by decide) ?_
            refine J_idiv d_Mo_leapOf_52 (by omega) (by omega) ?_
            refine J_iconst d_Mo_leapOf_53 ?_
            refine J_isub d_Mo_leapOf_54 ?_
            refine J_iload d_Mo_leapOf_55 0 rfl ?_
            refine J_bipush d_Mo_leapOf_57 (by decide) ?_
            refine J_irem d_Mo_leapOf_59 (by omega) (by omega) ?_
            refine J_bipush d_Mo_leapOf_60 (by decide) ?_
            refine J_idiv d_Mo_leapOf_62 (by omega) (by omega) ?_
            refine J_callV (st := []) [Value.int (iI ((k / 52) - 1)), Value.int (iI ((k % 52) / 13))] ms_Mo_65 rfl (c_Mo_behind (by omega) (by omega) (hg.len (by omega))) rfl rfl ⟨Nat.le_of_ble_eq_true rfl, Nat.le_of_ble_eq_true rfl⟩ ⟨Nat.le_of_ble_eq_true rfl, Nat.le_of_ble_eq_true rfl⟩ (Nat.le_of_ble_eq_true rfl) d_Mo_leapOf_63 (fun v w' hp => ?_)
            obtain ⟨rfl, rfl⟩ := hp
            show J l D b Y_Mo_leapOf _ _ (ad, cM ad r lp rf nr lf ln bd fd tm it wk dv ct nu mt c1 c2 td tt tc) 0 0 66 [(8, Value.int (iI k)), (7, Value.int (iI found)), (6, Value.int (iI many)), (5, Value.int (iI wa)), (4, Value.int (iI se)), (3, Value.int (iI nm)), (0, Value.ref (ad 0)), (1, Value.int (iI f)), (2, Value.int (iI x))] [Value.int (iI (bhM ln bd ((k / 52) - 1) ((k % 52) / 13)))]
            have hb17 := hg.bh (q := ((k / 52) - 1)) (d := ((k % 52) / 13)) (by omega) (by omega)
            refine J_iload d_Mo_leapOf_66 3 rfl ?_
            refine J_icmp_ne (tgt := 78) d_Mo_leapOf_68 rfl (by omega) (by omega) (fun h68_18 => ?_) (fun h68_18 => ?_)
            · refine J_iinc (j := 0) d_Mo_leapOf_78 rfl (by decide) rfl ?_
              refine J_goto (tgt := 22) d_Mo_leapOf_81 rfl ?_
              exact ih3 (k + 1, many, found) (show (0 ≤ (k + 1) ∧ (k + 1) ≤ 572) ∧ (many = cnt (lpW it ln bd se wa) (k + 1)) ∧ (found = fnd (lpW it ln bd se wa) (k + 1)) by
                  exact ⟨by omega, by rw [cnt_s _ (by omega), if_neg (by first | exact lpW_f1 ‹_› | exact lpW_f2 ‹_›), ← hm], by rw [fnd_s _ (by omega), if_neg (by first | exact lpW_f1 ‹_› | exact lpW_f2 ‹_›), ← hfd]⟩) (show (572 - (k + 1)).toNat < (572 - k).toNat by
                  omega)
            · refine J_iinc (j := 2) d_Mo_leapOf_71 rfl (by decide) rfl ?_
              refine J_iload d_Mo_leapOf_74 1 rfl ?_
              refine J_istore d_Mo_leapOf_76 (by decide) rfl ?_
              refine J_iinc (j := 2) d_Mo_leapOf_78 rfl (by decide) rfl ?_
              refine J_goto (tgt := 22) d_Mo_leapOf_81 rfl ?_
              exact ih3 (k + 1, many + 1, k) (show (0 ≤ (k + 1) ∧ (k + 1) ≤ 572) ∧ ((many + 1) = cnt (lpW it ln bd se wa) (k + 1)) ∧ (k = fnd (lpW it ln bd se wa) (k + 1)) by
                  exact ⟨by omega, by rw [cnt_s _ (by omega), if_pos (lpW_t ‹_› ‹_›), ← hm], by rw [fnd_s _ (by omega), if_pos (lpW_t ‹_› ‹_›)]⟩) (show (572 - (k + 1)).toNat < (572 - k).toNat by
                  omega)
      · show (0 ≤ (0 : Int) ∧ (0 : Int) ≤ 572) ∧ ((0 : Int) = cnt (lpW it ln bd se wa) (0 : Int)) ∧ ((0 : Int) = fnd (lpW it ln bd se wa) (0 : Int))
        exact ⟨by omega, rfl, rfl⟩
  · show (-1 ≤ f ∧ f ≤ 12) ∧ (-2147483648 ≤ x ∧ x ≤ 2147483647) ∧ (0 ≤ f → lpN it lf ln bd f.toNat x (-1 : Int) = lpN it lf ln bd f.toNat x (-1)) ∧ (f < 0 → (-1 : Int) = lpN it lf ln bd f.toNat x (-1))
    exact ⟨by omega, by omega, fun _ => rfl, fun h => by omega⟩
set_option maxHeartbeats 4000000 in
theorem c_Mo_follow {i : Int} {c : Int} (hg : gOK nr lf ln bd) (hi : 0 ≤ i ∧ i ≤ 12) (hc : 0 ≤ c ∧ c < 572) (hin : it (572 * i + c) = true) : Ct l D b Y_Mo_follow { frames := 3, cells := 0, slots := 0, locals := 74 } [Value.ref (ad 0), Value.int (iI i), Value.int (iI (c / 52 - 1)), Value.int (iI (c % 52 / 13)), Value.int (iI (c % 13))] (ad, cM ad r lp rf nr lf ln bd fd tm it wk dv ct nu mt c1 c2 td tt tc) (fun v w' => ∃ it' n, v = some (.int (iI n)) ∧ w' = (ad, cM ad r lp rf nr lf ln bd fd tm it' wk dv ct nu mt c1 c2 td tt tc) ∧ Fol lp nr lf ln bd i c it it' n) := by
  refine Ct_of (by decide) (Nat.le_of_ble_eq_true rfl) ?_
  have hg1 := hg.1
  show J l D b Y_Mo_follow _ _ (ad, cM ad r lp rf nr lf ln bd fd tm it wk dv ct nu mt c1 c2 td tt tc) 0 0 0 [(0, Value.ref (ad 0)), (1, Value.int (iI i)), (2, Value.int (iI (c / 52 - 1))), (3, Value.int (iI (c % 52 / 13))), (4, Value.int (iI (c % 13)))] []
  refine J_aload_n d_Mo_follow_0 rfl 0 rfl ?_
  refine J_iload_n d_Mo_follow_1 rfl 2 rfl ?_
  refine J_iload_n d_Mo_follow_2 rfl 3 rfl ?_
  refine J_callV (st := []) [Value.int (iI (c / 52 - 1)), Value.int (iI (c % 52 / 13))] ms_Mo_65 rfl (c_Mo_behind (by omega) (by omega) (hg.len (by omega))) rfl rfl ⟨Nat.le_of_ble_eq_true rfl, Nat.le_of_ble_eq_true rfl⟩ ⟨Nat.le_of_ble_eq_true rfl, Nat.le_of_ble_eq_true rfl⟩ (Nat.le_of_ble_eq_true rfl) d_Mo_follow_3 (fun v w' hp => ?_)
  obtain ⟨rfl, rfl⟩ := hp
  show J l D b Y_Mo_follow _ _ (ad, cM ad r lp rf nr lf ln bd fd tm it wk dv ct nu mt c1 c2 td tt tc) 0 0 6 [(0, Value.ref (ad 0)), (1, Value.int (iI i)), (2, Value.int (iI (c / 52 - 1))), (3, Value.int (iI (c % 52 / 13))), (4, Value.int (iI (c % 13)))] [Value.int (iI (bhM ln bd (c / 52 - 1) (c % 52 / 13)))]
  have hb1 := hg.bh (q := (c / 52 - 1)) (d := (c % 52 / 13)) (by omega) (by omega)
  refine J_istore d_Mo_follow_6 (by decide) rfl ?_
  refine J_iconst d_Mo_follow_8 ?_
  refine J_istore d_Mo_follow_9 (by decide) rfl ?_
  refine J_iload d_Mo_follow_11 1 rfl ?_
  refine J_callS (st := []) [Value.int (iI (bhM ln bd (c / 52 - 1) (c % 52 / 13)))] ms_Mo_69 (c_Mo_isNonterminal (by omega)) rfl rfl ⟨Nat.le_of_ble_eq_true rfl, Nat.le_of_ble_eq_true rfl⟩ ⟨Nat.le_of_ble_eq_true rfl, Nat.le_of_ble_eq_true rfl⟩ (Nat.le_of_ble_eq_true rfl) d_Mo_follow_13 (fun v w' hp => ?_)
  obtain ⟨rfl, rfl⟩ := hp
  show J l D b Y_Mo_follow _ _ (ad, cM ad r lp rf nr lf ln bd fd tm it wk dv ct nu mt c1 c2 td tt tc) 0 0 16 [(6, Value.int (iI 0)), (5, Value.int (iI (bhM ln bd (c / 52 - 1) (c % 52 / 13)))), (0, Value.ref (ad 0)), (1, Value.int (iI i)), (2, Value.int (iI (c / 52 - 1))), (3, Value.int (iI (c % 52 / 13))), (4, Value.int (iI (c % 13)))] [Value.int (iI (bz (ntB (bhM ln bd (c / 52 - 1) (c % 52 / 13)))))]
  refine J_ifB_eq (tgt := 67) d_Mo_follow_16 rfl (fun h16_3 => ?_) (fun h16_3 => ?_)
  · have hnt := ntB_no ‹_›
    refine J_iload d_Mo_follow_67 1 rfl ?_
    refine J_if_ge (tgt := 76) d_Mo_follow_69 rfl (by omega) (fun h69_4 => ?_) (fun h69_4 => ?_)
    · refine J_iload d_Mo_follow_76 0 rfl ?_
      refine J_iret rfl d_Mo_follow_78 ⟨Nat.le_of_ble_eq_true rfl, Nat.le_of_ble_eq_true rfl⟩ ?_
      exact ⟨it, 0, rfl, rfl, Ext.rf, Snd.rf, by omega, fun _ d hst => by
        rcases hst with ⟨a1, _⟩ | ⟨a1, a2, _⟩
        · exact absurd (a1.symm.trans ‹ntB _ = false›) (by decide)
        · have a1 : bhM ln bd (c / 52 - 1) (c % 52 / 13) = -1 := a1
          omega⟩
    · refine J_iload_n d_Mo_follow_72 rfl 4 rfl ?_
      refine J_if_ge (tgt := 79) d_Mo_follow_73 rfl (by omega) (fun h73_5 => ?_) (fun h73_5 => ?_)
      · refine J_aload_n d_Mo_follow_79 rfl 2 rfl ?_
        refine J_get fs_Mo_45 rfl rfl d_Mo_follow_80 ?_
        refine J_ifB_eq (tgt := 107) d_Mo_follow_83 rfl (fun h83_6 => ?_) (fun h83_6 => ?_)
        · refine J_iconst d_Mo_follow_107 ?_
          refine J_istore d_Mo_follow_108 (by decide) rfl ?_
          refine J_iload d_Mo_follow_110 0 rfl ?_
          refine J_if_lt (tgt := 144) d_Mo_follow_112 rfl (by omega) (fun h112_7 => ?_) (fun h112_7 => ?_)
          · have hlfr := hg.2.1 (c / 52 - 1) (by omega) (by omega)
            have hno : ¬ (lp = true ∧ c % 13 < i ∧ 0 ≤ lpN it lf ln bd (c % 13).toNat (lf (c / 52 - 1)) (-1)) := by
              intro h
              first
                | omega
                | (rw [‹lp = false›] at h; exact absurd h.1 (by decide))
            refine J_iconst d_Mo_follow_144 ?_
            refine J_istore d_Mo_follow_145 (by decide) rfl ?_
            refine J.loop (σ := Int × Int × (Int → Bool)) (fun xx_ => match xx_ with | (k, n, it1) => (0 ≤ k ∧ k ≤ 572) ∧ (Ext i it it1 n) ∧ (Snd lp nr lf ln bd i it it1) ∧ (n ≤ k) ∧ (n = 0 → ∀ k', 0 ≤ k' → k' < k → it (572 * (c % 13) + k') = true → bc ln bd k' = lf (c / 52 - 1) → it (572 * i + (k' + 13)) = true)) (fun xx_ => match xx_ with | (k, n, it1) => (572 - k).toNat) (ws := fun xx_ => match xx_ with | (k, n, it1) => (ad, cM ad r lp rf nr lf ln bd fd tm it1 wk dv ct nu mt c1 c2 td tt tc)) (ks := fun _ => 0) (ns := fun _ => 0) (lvs := fun xx_ => match xx_ with | (k, n, it1) => [(8, Value.int (iI k)), (7, Value.int (iI (-1))), (6, Value.int (iI n)), (5, Value.int (iI (bhM ln bd (c / 52 - 1) (c % 52 / 13)))), (0, Value.ref (ad 0)), (1, Value.int (iI i)), (2, Value.int (iI (c / 52 - 1))), (3, Value.int (iI (c % 52 / 13))), (4, Value.int (iI (c % 13)))]) (sts := fun _ => []) ?_ (0, 0, it) ?_
            · rintro ⟨k, n, it1⟩ hI ih8
              have hI : (0 ≤ k ∧ k ≤ 572) ∧ (Ext i it it1 n) ∧ (Snd lp nr lf ln bd i it it1) ∧ (n ≤ k) ∧ (n = 0 → ∀ k', 0 ≤ k' → k' < k → it (572 * (c % 13) + k') = true → bc ln bd k' = lf (c / 52 - 1) → it (572 * i + (k' + 13)) = true) := hI
              obtain ⟨hk, hE, hS, hn, hz⟩ := hI
              show J l D b Y_Mo_follow _ _ (ad, cM ad r lp rf nr lf ln bd fd tm it1 wk dv ct nu mt c1 c2 td tt tc) 0 0 147 [(8, Value.int (iI k)), (7, Value.int (iI (-1))), (6, Value.int (iI n)), (5, Value.int (iI (bhM ln bd (c / 52 - 1) (c % 52 / 13)))), (0, Value.ref (ad 0)), (1, Value.int (iI i)), (2, Value.int (iI (c / 52 - 1))), (3, Value.int (iI (c % 52 / 13))), (4, Value.int (iI (c % 13)))] []
              refine J_iload d_Mo_follow_147 0 rfl ?_
              refine J_sipush d_Mo_follow_149 (by decide) ?_
              refine J_icmp_ge (tgt := 238) d_Mo_follow_152 rfl (by omega) (by omega) (fun h152_9 => ?_) (fun h152_9 => ?_)
              · refine J_iload d_Mo_follow_238 2 rfl ?_
                refine J_iret rfl d_Mo_follow_240 ⟨Nat.le_of_ble_eq_true rfl, Nat.le_of_ble_eq_true rfl⟩ ?_
                exact ⟨it1, n, rfl, rfl, hE, hS, by omega, fun h0 d hst => by
                  rcases hst with ⟨a1, _⟩ | ⟨a1, a2, ⟨a3, a4, a5, _⟩ | ⟨_, k', a3, a4, a5, a6, rfl⟩⟩
                  · exact absurd (a1.symm.trans ‹ntB _ = false›) (by decide)
                  · exact absurd ⟨a3, a4, a5⟩ hno
                  · exact hz h0 k' a3 (by omega) a5 a6⟩
              · refine J_aload_n d_Mo_follow_155 rfl 4 rfl ?_
                refine J_get fs_Mo_22 rfl rfl d_Mo_follow_156 ?_
                refine J_sipush d_Mo_follow_159 (by decide) ?_
                refine J_iload d_Mo_follow_162 8 rfl ?_
                refine J_imul d_Mo_follow_164 ?_
                refine J_iload d_Mo_follow_165 0 rfl ?_
                refine J_iadd d_Mo_follow_167 ?_
                refine J_zald rfl (by omega) (by decide) d_Mo_follow_168 ?_
                refine J_ifB_eq (tgt := 232) d_Mo_follow_169 rfl (fun h169_10 => ?_) (fun h169_10 => ?_)
                · refine J_iinc (j := 0) d_Mo_follow_232 rfl (by decide) rfl ?_
                  refine J_goto (tgt := 147) d_Mo_follow_235 rfl ?_
                  exact ih8 (k + 1, n, it1) (show (0 ≤ (k + 1) ∧ (k + 1) ≤ 572) ∧ (Ext i it it1 n) ∧ (Snd lp nr lf ln bd i it it1) ∧ (n ≤ (k + 1)) ∧ (n = 0 → ∀ k', 0 ≤ k' → k' < (k + 1) → it (572 * (c % 13) + k') = true → bc ln bd k' = lf (c / 52 - 1) → it (572 * i + (k' + 13)) = true) by
                      refine ⟨by omega, hE, hS, by omega, fun h0 k' a1 a2 a3 a4 => ?_⟩
                      by_cases hqq : k' = k
                      · rw [hqq] at a3 a4
                        first
                          | exact absurd a4 ‹bhM ln bd (k / 52 - 1) _ ≠ _›
                          | (rw [← ext_eq hE h0] at a3; exact absurd (a3.symm.trans ‹it1 _ = false›) (by decide))
                      · exact hz h0 k' a1 (by omega) a3 a4) (show (572 - (k + 1)).toNat < (572 - k).toNat by
                      omega)
                · refine J_aload_n d_Mo_follow_172 rfl 4 rfl ?_
                  refine J_iload d_Mo_follow_173 0 rfl ?_
                  refine J_bipush d_Mo_follow_175 (by decide) ?_
                  refine J_idiv d_Mo_follow_177 (by omega) (by omega) ?_
                  refine J_iconst d_Mo_follow_178 ?_
                  refine J_isub d_Mo_follow_179 ?_
                  refine J_iload d_Mo_follow_180 0 rfl ?_
                  refine J_bipush d_Mo_follow_182 (by decide) ?_
                  refine J_irem d_Mo_follow_184 (by omega) (by omega) ?_
                  refine J_bipush d_Mo_follow_185 (by decide) ?_
                  refine J_idiv d_Mo_follow_187 (by omega) (by omega) ?_
                  refine J_callV (st := []) [Value.int (iI ((k / 52) - 1)), Value.int (iI ((k % 52) / 13))] ms_Mo_65 rfl (c_Mo_behind (by omega) (by omega) (hg.len (by omega))) rfl rfl ⟨Nat.le_of_ble_eq_true rfl, Nat.le_of_ble_eq_true rfl⟩ ⟨Nat.le_of_ble_eq_true rfl, Nat.le_of_ble_eq_true rfl⟩ (Nat.le_of_ble_eq_true rfl) d_Mo_follow_188 (fun v w' hp => ?_)
                  obtain ⟨rfl, rfl⟩ := hp
                  show J l D b Y_Mo_follow _ _ (ad, cM ad r lp rf nr lf ln bd fd tm it1 wk dv ct nu mt c1 c2 td tt tc) 0 0 191 [(8, Value.int (iI k)), (7, Value.int (iI (-1))), (6, Value.int (iI n)), (5, Value.int (iI (bhM ln bd (c / 52 - 1) (c % 52 / 13)))), (0, Value.ref (ad 0)), (1, Value.int (iI i)), (2, Value.int (iI (c / 52 - 1))), (3, Value.int (iI (c % 52 / 13))), (4, Value.int (iI (c % 13)))] [Value.int (iI (bhM ln bd ((k / 52) - 1) ((k % 52) / 13)))]
                  have hb11 := hg.bh (q := ((k / 52) - 1)) (d := ((k % 52) / 13)) (by omega) (by omega)
                  refine J_aload_n d_Mo_follow_191 rfl 4 rfl ?_
                  refine J_get fs_Mo_7 rfl rfl d_Mo_follow_192 ?_
                  refine J_iload_n d_Mo_follow_195 rfl 6 rfl ?_
                  refine J_iald rfl (by omega) (by decide) d_Mo_follow_196 ?_
                  refine J_icmp_ne (tgt := 232) d_Mo_follow_197 rfl (by omega) (by omega) (fun h197_12 => ?_) (fun h197_12 => ?_)
                  · refine J_iinc (j := 0) d_Mo_follow_232 rfl (by decide) rfl ?_
                    refine J_goto (tgt := 147) d_Mo_follow_235 rfl ?_
                    exact ih8 (k + 1, n, it1) (show (0 ≤ (k + 1) ∧ (k + 1) ≤ 572) ∧ (Ext i it it1 n) ∧ (Snd lp nr lf ln bd i it it1) ∧ (n ≤ (k + 1)) ∧ (n = 0 → ∀ k', 0 ≤ k' → k' < (k + 1) → it (572 * (c % 13) + k') = true → bc ln bd k' = lf (c / 52 - 1) → it (572 * i + (k' + 13)) = true) by
                        refine ⟨by omega, hE, hS, by omega, fun h0 k' a1 a2 a3 a4 => ?_⟩
                        by_cases hqq : k' = k
                        · rw [hqq] at a3 a4
                          first
                            | exact absurd a4 ‹bhM ln bd (k / 52 - 1) _ ≠ _›
                            | (rw [← ext_eq hE h0] at a3; exact absurd (a3.symm.trans ‹it1 _ = false›) (by decide))
                        · exact hz h0 k' a1 (by omega) a3 a4) (show (572 - (k + 1)).toNat < (572 - k).toNat by
                        omega)
                  · have hdot := bc_dot (ln := ln) (bd := bd) (c := k) (by show ¬ bhM ln bd (k / 52 - 1) (k % 52 / 13) = -1; omega)
                    have hlk := hg.len (q := k / 52 - 1) (by omega)
                    refine J_iload d_Mo_follow_200 2 rfl ?_
                    refine J_aload_n d_Mo_follow_202 rfl 4 rfl ?_
                    refine J_iload_n d_Mo_follow_203 rfl 5 rfl ?_
                    refine J_iload d_Mo_follow_204 0 rfl ?_
                    refine J_bipush d_Mo_follow_206 (by decide) ?_
                    refine J_idiv d_Mo_follow_208 (by omega) (by omega) ?_
                    refine J_iconst d_Mo_follow_209 ?_
                    refine J_isub d_Mo_follow_210 ?_
                    refine J_iload d_Mo_follow_211 0 rfl ?_
                    refine J_bipush d_Mo_follow_213 (by decide) ?_
                    refine J_irem d_Mo_follow_215 (by omega) (by omega) ?_
                    refine J_bipush d_Mo_follow_216 (by decide) ?_
                    refine J_idiv d_Mo_follow_218 (by omega) (by omega) ?_
                    refine J_iconst d_Mo_follow_219 ?_
                    refine J_iadd d_Mo_follow_220 ?_
                    refine J_iload d_Mo_follow_221 0 rfl ?_
                    refine J_bipush d_Mo_follow_223 (by decide) ?_
                    refine J_irem d_Mo_follow_225 (by omega) (by omega) ?_
                    refine J_callV (st := [Value.int (iI n)]) [Value.int (iI i), Value.int (iI ((k / 52) - 1)), Value.int (iI (((k % 52) / 13) + 1)), Value.int (iI (k % 13))] ms_Mo_76 rfl (c_Mo_add (by omega)) rfl rfl ⟨Nat.le_of_ble_eq_true rfl, Nat.le_of_ble_eq_true rfl⟩ ⟨Nat.le_of_ble_eq_true rfl, Nat.le_of_ble_eq_true rfl⟩ (Nat.le_of_ble_eq_true rfl) d_Mo_follow_226 (fun v w' hp => ?_)
                    obtain ⟨rfl, rfl⟩ := hp
                    show J l D b Y_Mo_follow _ _ (ad, cM ad r lp rf nr lf ln bd fd tm (upI it1 (572 * i + 52 * (((k / 52) - 1) + 1) + 13 * (((k % 52) / 13) + 1) + (k % 13)) true) wk dv ct nu mt c1 c2 td tt tc) 0 0 229 [(8, Value.int (iI k)), (7, Value.int (iI (-1))), (6, Value.int (iI n)), (5, Value.int (iI (bhM ln bd (c / 52 - 1) (c % 52 / 13)))), (0, Value.ref (ad 0)), (1, Value.int (iI i)), (2, Value.int (iI (c / 52 - 1))), (3, Value.int (iI (c % 52 / 13))), (4, Value.int (iI (c % 13)))] [Value.int (iI (if it1 (572 * i + 52 * (((k / 52) - 1) + 1) + 13 * (((k % 52) / 13) + 1) + (k % 13)) = true then 0 else 1)), Value.int (iI n)]
                    refine J_iadd d_Mo_follow_229 ?_
                    refine J_istore d_Mo_follow_230 (by decide) rfl ?_
                    refine J_iinc (j := 1) d_Mo_follow_232 rfl (by decide) rfl ?_
                    refine J_goto (tgt := 147) d_Mo_follow_235 rfl ?_
                    refine J.sub [0, 2, 1, 3, 4, 5, 6, 7, 8] rfl ?_
                    exact ih8 (k + 1, n + (if it1 (572 * i + 52 * (((k / 52) - 1) + 1) + 13 * (((k % 52) / 13) + 1) + (k % 13)) = true then 0 else 1), upI it1 (572 * i + 52 * (((k / 52) - 1) + 1) + 13 * (((k % 52) / 13) + 1) + (k % 13)) true) (show (0 ≤ (k + 1) ∧ (k + 1) ≤ 572) ∧ (Ext i it (upI it1 (572 * i + 52 * (((k / 52) - 1) + 1) + 13 * (((k % 52) / 13) + 1) + (k % 13)) true) (n + (if it1 (572 * i + 52 * (((k / 52) - 1) + 1) + 13 * (((k % 52) / 13) + 1) + (k % 13)) = true then 0 else 1))) ∧ (Snd lp nr lf ln bd i it (upI it1 (572 * i + 52 * (((k / 52) - 1) + 1) + 13 * (((k % 52) / 13) + 1) + (k % 13)) true)) ∧ ((n + (if it1 (572 * i + 52 * (((k / 52) - 1) + 1) + 13 * (((k % 52) / 13) + 1) + (k % 13)) = true then 0 else 1)) ≤ (k + 1)) ∧ ((n + (if it1 (572 * i + 52 * (((k / 52) - 1) + 1) + 13 * (((k % 52) / 13) + 1) + (k % 13)) = true then 0 else 1)) = 0 → ∀ k', 0 ≤ k' → k' < (k + 1) → it (572 * (c % 13) + k') = true → bc ln bd k' = lf (c / 52 - 1) → it (572 * i + (k' + 13)) = true) by
                        rw [show 572 * i + 52 * (k / 52 - 1 + 1) + 13 * (k % 52 / 13 + 1) + k % 13 = 572 * i + (k + 13) by omega]
                        have hno' : ¬ (lp = true ∧ c % 13 < i ∧ 0 ≤ lpN it1 lf ln bd (c % 13).toNat (lf (c / 52 - 1)) (-1)) := fun h => hno ⟨h.1, h.2.1, by rw [← lpN_off hE ⟨by omega, h.2.1⟩]; exact h.2.2⟩
                        have hst : stp lp nr lf ln bd it1 i c (k + 13) := Or.inr ⟨show bhM ln bd (c / 52 - 1) (c % 52 / 13) = -1 by omega, by omega, Or.inr ⟨hno', k, by omega, by omega, ‹it1 _ = true›, ‹bhM ln bd (k / 52 - 1) _ = _›, rfl⟩⟩
                        obtain ⟨hE', hS'⟩ := fol_add hi.1 hc hin hE hS (by omega) hst
                        have hr9 := if_rng (P := it1 (572 * i + (k + 13)) = true)
                        refine ⟨by omega, hE', hS', by omega, fun h0 k' a1 a2 a3 a4 => ?_⟩
                        obtain ⟨b1, b2⟩ := if_zero hE.2.2.1 h0
                        by_cases hqq : k' = k
                        · rw [hqq, ← ext_eq hE b2]
                          exact b1
                        · exact hz b2 k' a1 (by omega) a3 a4) (show (572 - (k + 1)).toNat < (572 - k).toNat by
                        omega)
            · show (0 ≤ (0 : Int) ∧ (0 : Int) ≤ 572) ∧ (Ext i it it (0 : Int)) ∧ (Snd lp nr lf ln bd i it it) ∧ ((0 : Int) ≤ (0 : Int)) ∧ ((0 : Int) = 0 → ∀ k', 0 ≤ k' → k' < (0 : Int) → it (572 * (c % 13) + k') = true → bc ln bd k' = lf (c / 52 - 1) → it (572 * i + (k' + 13)) = true)
              exact ⟨by omega, Ext.rf, Snd.rf, by omega, fun _ k' _ _ => by omega⟩
          · exact absurd h112_7 (by decide)
        · refine J_iload d_Mo_follow_86 6 rfl ?_
          refine J_iload_n d_Mo_follow_88 rfl 3 rfl ?_
          refine J_icmp_ge (tgt := 107) d_Mo_follow_89 rfl (by omega) (by omega) (fun h89_14 => ?_) (fun h89_14 => ?_)
          · refine J_iconst d_Mo_follow_107 ?_
            refine J_istore d_Mo_follow_108 (by decide) rfl ?_
            refine J_iload d_Mo_follow_110 0 rfl ?_
            refine J_if_lt (tgt := 144) d_Mo_follow_112 rfl (by omega) (fun h112_15 => ?_) (fun h112_15 => ?_)
            · have hlfr := hg.2.1 (c / 52 - 1) (by omega) (by omega)
              have hno : ¬ (lp = true ∧ c % 13 < i ∧ 0 ≤ lpN it lf ln bd (c % 13).toNat (lf (c / 52 - 1)) (-1)) := by
                intro h
                first
                  | omega
                  | (rw [‹lp = false›] at h; exact absurd h.1 (by decide))
              refine J_iconst d_Mo_follow_144 ?_
              refine J_istore d_Mo_follow_145 (by decide) rfl ?_
              refine J.loop (σ := Int × Int × (Int → Bool)) (fun xx_ => match xx_ with | (k, n, it1) => (0 ≤ k ∧ k ≤ 572) ∧ (Ext i it it1 n) ∧ (Snd lp nr lf ln bd i it it1) ∧ (n ≤ k) ∧ (n = 0 → ∀ k', 0 ≤ k' → k' < k → it (572 * (c % 13) + k') = true → bc ln bd k' = lf (c / 52 - 1) → it (572 * i + (k' + 13)) = true)) (fun xx_ => match xx_ with | (k, n, it1) => (572 - k).toNat) (ws := fun xx_ => match xx_ with | (k, n, it1) => (ad, cM ad r lp rf nr lf ln bd fd tm it1 wk dv ct nu mt c1 c2 td tt tc)) (ks := fun _ => 0) (ns := fun _ => 0) (lvs := fun xx_ => match xx_ with | (k, n, it1) => [(8, Value.int (iI k)), (7, Value.int (iI (-1))), (6, Value.int (iI n)), (5, Value.int (iI (bhM ln bd (c / 52 - 1) (c % 52 / 13)))), (0, Value.ref (ad 0)), (1, Value.int (iI i)), (2, Value.int (iI (c / 52 - 1))), (3, Value.int (iI (c % 52 / 13))), (4, Value.int (iI (c % 13)))]) (sts := fun _ => []) ?_ (0, 0, it) ?_
              · rintro ⟨k, n, it1⟩ hI ih16
                have hI : (0 ≤ k ∧ k ≤ 572) ∧ (Ext i it it1 n) ∧ (Snd lp nr lf ln bd i it it1) ∧ (n ≤ k) ∧ (n = 0 → ∀ k', 0 ≤ k' → k' < k → it (572 * (c % 13) + k') = true → bc ln bd k' = lf (c / 52 - 1) → it (572 * i + (k' + 13)) = true) := hI
                obtain ⟨hk, hE, hS, hn, hz⟩ := hI
                show J l D b Y_Mo_follow _ _ (ad, cM ad r lp rf nr lf ln bd fd tm it1 wk dv ct nu mt c1 c2 td tt tc) 0 0 147 [(8, Value.int (iI k)), (7, Value.int (iI (-1))), (6, Value.int (iI n)), (5, Value.int (iI (bhM ln bd (c / 52 - 1) (c % 52 / 13)))), (0, Value.ref (ad 0)), (1, Value.int (iI i)), (2, Value.int (iI (c / 52 - 1))), (3, Value.int (iI (c % 52 / 13))), (4, Value.int (iI (c % 13)))] []
                refine J_iload d_Mo_follow_147 0 rfl ?_
                refine J_sipush d_Mo_follow_149 (by decide) ?_
                refine J_icmp_ge (tgt := 238) d_Mo_follow_152 rfl (by omega) (by omega) (fun h152_17 => ?_) (fun h152_17 => ?_)
                · refine J_iload d_Mo_follow_238 2 rfl ?_
                  refine J_iret rfl d_Mo_follow_240 ⟨Nat.le_of_ble_eq_true rfl, Nat.le_of_ble_eq_true rfl⟩ ?_
                  exact ⟨it1, n, rfl, rfl, hE, hS, by omega, fun h0 d hst => by
                    rcases hst with ⟨a1, _⟩ | ⟨a1, a2, ⟨a3, a4, a5, _⟩ | ⟨_, k', a3, a4, a5, a6, rfl⟩⟩
                    · exact absurd (a1.symm.trans ‹ntB _ = false›) (by decide)
                    · exact absurd ⟨a3, a4, a5⟩ hno
                    · exact hz h0 k' a3 (by omega) a5 a6⟩
                · refine J_aload_n d_Mo_follow_155 rfl 4 rfl ?_
                  refine J_get fs_Mo_22 rfl rfl d_Mo_follow_156 ?_
                  refine J_sipush d_Mo_follow_159 (by decide) ?_
                  refine J_iload d_Mo_follow_162 8 rfl ?_
                  refine J_imul d_Mo_follow_164 ?_
                  refine J_iload d_Mo_follow_165 0 rfl ?_
                  refine J_iadd d_Mo_follow_167 ?_
                  refine J_zald rfl (by omega) (by decide) d_Mo_follow_168 ?_
                  refine J_ifB_eq (tgt := 232) d_Mo_follow_169 rfl (fun h169_18 => ?_) (fun h169_18 => ?_)
                  · refine J_iinc (j := 0) d_Mo_follow_232 rfl (by decide) rfl ?_
                    refine J_goto (tgt := 147) d_Mo_follow_235 rfl ?_
                    exact ih16 (k + 1, n, it1) (show (0 ≤ (k + 1) ∧ (k + 1) ≤ 572) ∧ (Ext i it it1 n) ∧ (Snd lp nr lf ln bd i it it1) ∧ (n ≤ (k + 1)) ∧ (n = 0 → ∀ k', 0 ≤ k' → k' < (k + 1) → it (572 * (c % 13) + k') = true → bc ln bd k' = lf (c / 52 - 1) → it (572 * i + (k' + 13)) = true) by
                        refine ⟨by omega, hE, hS, by omega, fun h0 k' a1 a2 a3 a4 => ?_⟩
                        by_cases hqq : k' = k
                        · rw [hqq] at a3 a4
                          first
                            | exact absurd a4 ‹bhM ln bd (k / 52 - 1) _ ≠ _›
                            | (rw [← ext_eq hE h0] at a3; exact absurd (a3.symm.trans ‹it1 _ = false›) (by decide))
                        · exact hz h0 k' a1 (by omega) a3 a4) (show (572 - (k + 1)).toNat < (572 - k).toNat by
                        omega)
                  · refine J_aload_n d_Mo_follow_172 rfl 4 rfl ?_
                    refine J_iload d_Mo_follow_173 0 rfl ?_
                    refine J_bipush d_Mo_follow_175 (by decide) ?_
                    refine J_idiv d_Mo_follow_177 (by omega) (by omega) ?_
                    refine J_iconst d_Mo_follow_178 ?_
                    refine J_isub d_Mo_follow_179 ?_
                    refine J_iload d_Mo_follow_180 0 rfl ?_
                    refine J_bipush d_Mo_follow_182 (by decide) ?_
                    refine J_irem d_Mo_follow_184 (by omega) (by omega) ?_
                    refine J_bipush d_Mo_follow_185 (by decide) ?_
                    refine J_idiv d_Mo_follow_187 (by omega) (by omega) ?_
                    refine J_callV (st := []) [Value.int (iI ((k / 52) - 1)), Value.int (iI ((k % 52) / 13))] ms_Mo_65 rfl (c_Mo_behind (by omega) (by omega) (hg.len (by omega))) rfl rfl ⟨Nat.le_of_ble_eq_true rfl, Nat.le_of_ble_eq_true rfl⟩ ⟨Nat.le_of_ble_eq_true rfl, Nat.le_of_ble_eq_true rfl⟩ (Nat.le_of_ble_eq_true rfl) d_Mo_follow_188 (fun v w' hp => ?_)
                    obtain ⟨rfl, rfl⟩ := hp
                    show J l D b Y_Mo_follow _ _ (ad, cM ad r lp rf nr lf ln bd fd tm it1 wk dv ct nu mt c1 c2 td tt tc) 0 0 191 [(8, Value.int (iI k)), (7, Value.int (iI (-1))), (6, Value.int (iI n)), (5, Value.int (iI (bhM ln bd (c / 52 - 1) (c % 52 / 13)))), (0, Value.ref (ad 0)), (1, Value.int (iI i)), (2, Value.int (iI (c / 52 - 1))), (3, Value.int (iI (c % 52 / 13))), (4, Value.int (iI (c % 13)))] [Value.int (iI (bhM ln bd ((k / 52) - 1) ((k % 52) / 13)))]
                    have hb19 := hg.bh (q := ((k / 52) - 1)) (d := ((k % 52) / 13)) (by omega) (by omega)
                    refine J_aload_n d_Mo_follow_191 rfl 4 rfl ?_
                    refine J_get fs_Mo_7 rfl rfl d_Mo_follow_192 ?_
                    refine J_iload_n d_Mo_follow_195 rfl 6 rfl ?_
                    refine J_iald rfl (by omega) (by decide) d_Mo_follow_196 ?_
                    refine J_icmp_ne (tgt := 232) d_Mo_follow_197 rfl (by omega) (by omega) (fun h197_20 => ?_) (fun h197_20 => ?_)
                    · refine J_iinc (j := 0) d_Mo_follow_232 rfl (by decide) rfl ?_
                      refine J_goto (tgt := 147) d_Mo_follow_235 rfl ?_
                      exact ih16 (k + 1, n, it1) (show (0 ≤ (k + 1) ∧ (k + 1) ≤ 572) ∧ (Ext i it it1 n) ∧ (Snd lp nr lf ln bd i it it1) ∧ (n ≤ (k + 1)) ∧ (n = 0 → ∀ k', 0 ≤ k' → k' < (k + 1) → it (572 * (c % 13) + k') = true → bc ln bd k' = lf (c / 52 - 1) → it (572 * i + (k' + 13)) = true) by
                          refine ⟨by omega, hE, hS, by omega, fun h0 k' a1 a2 a3 a4 => ?_⟩
                          by_cases hqq : k' = k
                          · rw [hqq] at a3 a4
                            first
                              | exact absurd a4 ‹bhM ln bd (k / 52 - 1) _ ≠ _›
                              | (rw [← ext_eq hE h0] at a3; exact absurd (a3.symm.trans ‹it1 _ = false›) (by decide))
                          · exact hz h0 k' a1 (by omega) a3 a4) (show (572 - (k + 1)).toNat < (572 - k).toNat by
                          omega)
                    · have hdot := bc_dot (ln := ln) (bd := bd) (c := k) (by show ¬ bhM ln bd (k / 52 - 1) (k % 52 / 13) = -1; omega)
                      have hlk := hg.len (q := k / 52 - 1) (by omega)
                      refine J_iload d_Mo_follow_200 2 rfl ?_
                      refine J_aload_n d_Mo_follow_202 rfl 4 rfl ?_
                      refine J_iload_n d_Mo_follow_203 rfl 5 rfl ?_
                      refine J_iload d_Mo_follow_204 0 rfl ?_
                      refine J_bipush d_Mo_follow_206 (by decide) ?_
                      refine J_idiv d_Mo_follow_208 (by omega) (by omega) ?_
                      refine J_iconst d_Mo_follow_209 ?_
                      refine J_isub d_Mo_follow_210 ?_
                      refine J_iload d_Mo_follow_211 0 rfl ?_
                      refine J_bipush d_Mo_follow_213 (by decide) ?_
                      refine J_irem d_Mo_follow_215 (by omega) (by omega) ?_
                      refine J_bipush d_Mo_follow_216 (by decide) ?_
                      refine J_idiv d_Mo_follow_218 (by omega) (by omega) ?_
                      refine J_iconst d_Mo_follow_219 ?_
                      refine J_iadd d_Mo_follow_220 ?_
                      refine J_iload d_Mo_follow_221 0 rfl ?_
                      refine J_bipush d_Mo_follow_223 (by decide) ?_
                      refine J_irem d_Mo_follow_225 (by omega) (by omega) ?_
                      refine J_callV (st := [Value.int (iI n)]) [Value.int (iI i), Value.int (iI ((k / 52) - 1)), Value.int (iI (((k % 52) / 13) + 1)), Value.int (iI (k % 13))] ms_Mo_76 rfl (c_Mo_add (by omega)) rfl rfl ⟨Nat.le_of_ble_eq_true rfl, Nat.le_of_ble_eq_true rfl⟩ ⟨Nat.le_of_ble_eq_true rfl, Nat.le_of_ble_eq_true rfl⟩ (Nat.le_of_ble_eq_true rfl) d_Mo_follow_226 (fun v w' hp => ?_)
                      obtain ⟨rfl, rfl⟩ := hp
                      show J l D b Y_Mo_follow _ _ (ad, cM ad r lp rf nr lf ln bd fd tm (upI it1 (572 * i + 52 * (((k / 52) - 1) + 1) + 13 * (((k % 52) / 13) + 1) + (k % 13)) true) wk dv ct nu mt c1 c2 td tt tc) 0 0 229 [(8, Value.int (iI k)), (7, Value.int (iI (-1))), (6, Value.int (iI n)), (5, Value.int (iI (bhM ln bd (c / 52 - 1) (c % 52 / 13)))), (0, Value.ref (ad 0)), (1, Value.int (iI i)), (2, Value.int (iI (c / 52 - 1))), (3, Value.int (iI (c % 52 / 13))), (4, Value.int (iI (c % 13)))] [Value.int (iI (if it1 (572 * i + 52 * (((k / 52) - 1) + 1) + 13 * (((k % 52) / 13) + 1) + (k % 13)) = true then 0 else 1)), Value.int (iI n)]
                      refine J_iadd d_Mo_follow_229 ?_
                      refine J_istore d_Mo_follow_230 (by decide) rfl ?_
                      refine J_iinc (j := 1) d_Mo_follow_232 rfl (by decide) rfl ?_
                      refine J_goto (tgt := 147) d_Mo_follow_235 rfl ?_
                      refine J.sub [0, 2, 1, 3, 4, 5, 6, 7, 8] rfl ?_
                      exact ih16 (k + 1, n + (if it1 (572 * i + 52 * (((k / 52) - 1) + 1) + 13 * (((k % 52) / 13) + 1) + (k % 13)) = true then 0 else 1), upI it1 (572 * i + 52 * (((k / 52) - 1) + 1) + 13 * (((k % 52) / 13) + 1) + (k % 13)) true) (show (0 ≤ (k + 1) ∧ (k + 1) ≤ 572) ∧ (Ext i it (upI it1 (572 * i + 52 * (((k / 52) - 1) + 1) + 13 * (((k % 52) / 13) + 1) + (k % 13)) true) (n + (if it1 (572 * i + 52 * (((k / 52) - 1) + 1) + 13 * (((k % 52) / 13) + 1) + (k % 13)) = true then 0 else 1))) ∧ (Snd lp nr lf ln bd i it (upI it1 (572 * i + 52 * (((k / 52) - 1) + 1) + 13 * (((k % 52) / 13) + 1) + (k % 13)) true)) ∧ ((n + (if it1 (572 * i + 52 * (((k / 52) - 1) + 1) + 13 * (((k % 52) / 13) + 1) + (k % 13)) = true then 0 else 1)) ≤ (k + 1)) ∧ ((n + (if it1 (572 * i + 52 * (((k / 52) - 1) + 1) + 13 * (((k % 52) / 13) + 1) + (k % 13)) = true then 0 else 1)) = 0 → ∀ k', 0 ≤ k' → k' < (k + 1) → it (572 * (c % 13) + k') = true → bc ln bd k' = lf (c / 52 - 1) → it (572 * i + (k' + 13)) = true) by
                          rw [show 572 * i + 52 * (k / 52 - 1 + 1) + 13 * (k % 52 / 13 + 1) + k % 13 = 572 * i + (k + 13) by omega]
                          have hno' : ¬ (lp = true ∧ c % 13 < i ∧ 0 ≤ lpN it1 lf ln bd (c % 13).toNat (lf (c / 52 - 1)) (-1)) := fun h => hno ⟨h.1, h.2.1, by rw [← lpN_off hE ⟨by omega, h.2.1⟩]; exact h.2.2⟩
                          have hst : stp lp nr lf ln bd it1 i c (k + 13) := Or.inr ⟨show bhM ln bd (c / 52 - 1) (c % 52 / 13) = -1 by omega, by omega, Or.inr ⟨hno', k, by omega, by omega, ‹it1 _ = true›, ‹bhM ln bd (k / 52 - 1) _ = _›, rfl⟩⟩
                          obtain ⟨hE', hS'⟩ := fol_add hi.1 hc hin hE hS (by omega) hst
                          have hr9 := if_rng (P := it1 (572 * i + (k + 13)) = true)
                          refine ⟨by omega, hE', hS', by omega, fun h0 k' a1 a2 a3 a4 => ?_⟩
                          obtain ⟨b1, b2⟩ := if_zero hE.2.2.1 h0
                          by_cases hqq : k' = k
                          · rw [hqq, ← ext_eq hE b2]
                            exact b1
                          · exact hz b2 k' a1 (by omega) a3 a4) (show (572 - (k + 1)).toNat < (572 - k).toNat by
                          omega)
              · show (0 ≤ (0 : Int) ∧ (0 : Int) ≤ 572) ∧ (Ext i it it (0 : Int)) ∧ (Snd lp nr lf ln bd i it it) ∧ ((0 : Int) ≤ (0 : Int)) ∧ ((0 : Int) = 0 → ∀ k', 0 ≤ k' → k' < (0 : Int) → it (572 * (c % 13) + k') = true → bc ln bd k' = lf (c / 52 - 1) → it (572 * i + (k' + 13)) = true)
                exact ⟨by omega, Ext.rf, Snd.rf, by omega, fun _ k' _ _ => by omega⟩
            · exact absurd h112_15 (by decide)
          · have hlfr := hg.2.1 (c / 52 - 1) (by omega) (by omega)
            refine J_aload_n d_Mo_follow_92 rfl 2 rfl ?_
            refine J_iload d_Mo_follow_93 6 rfl ?_
            refine J_aload_n d_Mo_follow_95 rfl 2 rfl ?_
            refine J_get fs_Mo_7 rfl rfl d_Mo_follow_96 ?_
            refine J_iload_n d_Mo_follow_99 rfl 4 rfl ?_
            refine J_iald rfl (by omega) (by decide) d_Mo_follow_100 ?_
            refine J_callV (st := []) [Value.int (iI (c % 13)), Value.int (iI (lf (c / 52 - 1)))] ms_Mo_79 rfl (c_Mo_leapOf hg (by omega) (by omega)) rfl rfl ⟨Nat.le_of_ble_eq_true rfl, Nat.le_of_ble_eq_true rfl⟩ ⟨Nat.le_of_ble_eq_true rfl, Nat.le_of_ble_eq_true rfl⟩ (Nat.le_of_ble_eq_true rfl) d_Mo_follow_101 (fun v w' hp => ?_)
            obtain ⟨rfl, rfl⟩ := hp
            show J l D b Y_Mo_follow _ _ (ad, cM ad r lp rf nr lf ln bd fd tm it wk dv ct nu mt c1 c2 td tt tc) 0 0 104 [(6, Value.int (iI 0)), (5, Value.int (iI (bhM ln bd (c / 52 - 1) (c % 52 / 13)))), (0, Value.ref (ad 0)), (1, Value.int (iI i)), (2, Value.int (iI (c / 52 - 1))), (3, Value.int (iI (c % 52 / 13))), (4, Value.int (iI (c % 13)))] [Value.int (iI (lpN it lf ln bd (c % 13).toNat (lf (c / 52 - 1)) (-1)))]
            have hn22 := lpN_rng (it := it) hg (c % 13).toNat (lf (c / 52 - 1)) (-1) (by omega)
            refine J_goto (tgt := 108) d_Mo_follow_104 rfl ?_
            refine J_istore d_Mo_follow_108 (by decide) rfl ?_
            refine J_iload d_Mo_follow_110 0 rfl ?_
            refine J_if_lt (tgt := 144) d_Mo_follow_112 rfl (by omega) (fun h112_23 => ?_) (fun h112_23 => ?_)
            · have hlfr := hg.2.1 (c / 52 - 1) (by omega) (by omega)
              have hno : ¬ (lp = true ∧ c % 13 < i ∧ 0 ≤ lpN it lf ln bd (c % 13).toNat (lf (c / 52 - 1)) (-1)) := by
                intro h
                first
                  | omega
                  | (rw [‹lp = false›] at h; exact absurd h.1 (by decide))
              refine J_iconst d_Mo_follow_144 ?_
              refine J_istore d_Mo_follow_145 (by decide) rfl ?_
              refine J.loop (σ := Int × Int × (Int → Bool)) (fun xx_ => match xx_ with | (k, n, it1) => (0 ≤ k ∧ k ≤ 572) ∧ (Ext i it it1 n) ∧ (Snd lp nr lf ln bd i it it1) ∧ (n ≤ k) ∧ (n = 0 → ∀ k', 0 ≤ k' → k' < k → it (572 * (c % 13) + k') = true → bc ln bd k' = lf (c / 52 - 1) → it (572 * i + (k' + 13)) = true)) (fun xx_ => match xx_ with | (k, n, it1) => (572 - k).toNat) (ws := fun xx_ => match xx_ with | (k, n, it1) => (ad, cM ad r lp rf nr lf ln bd fd tm it1 wk dv ct nu mt c1 c2 td tt tc)) (ks := fun _ => 0) (ns := fun _ => 0) (lvs := fun xx_ => match xx_ with | (k, n, it1) => [(8, Value.int (iI k)), (7, Value.int (iI (lpN it lf ln bd (c % 13).toNat (lf (c / 52 - 1)) (-1)))), (6, Value.int (iI n)), (5, Value.int (iI (bhM ln bd (c / 52 - 1) (c % 52 / 13)))), (0, Value.ref (ad 0)), (1, Value.int (iI i)), (2, Value.int (iI (c / 52 - 1))), (3, Value.int (iI (c % 52 / 13))), (4, Value.int (iI (c % 13)))]) (sts := fun _ => []) ?_ (0, 0, it) ?_
              · rintro ⟨k, n, it1⟩ hI ih24
                have hI : (0 ≤ k ∧ k ≤ 572) ∧ (Ext i it it1 n) ∧ (Snd lp nr lf ln bd i it it1) ∧ (n ≤ k) ∧ (n = 0 → ∀ k', 0 ≤ k' → k' < k → it (572 * (c % 13) + k') = true → bc ln bd k' = lf (c / 52 - 1) → it (572 * i + (k' + 13)) = true) := hI
                obtain ⟨hk, hE, hS, hn, hz⟩ := hI
                show J l D b Y_Mo_follow _ _ (ad, cM ad r lp rf nr lf ln bd fd tm it1 wk dv ct nu mt c1 c2 td tt tc) 0 0 147 [(8, Value.int (iI k)), (7, Value.int (iI (lpN it lf ln bd (c % 13).toNat (lf (c / 52 - 1)) (-1)))), (6, Value.int (iI n)), (5, Value.int (iI (bhM ln bd (c / 52 - 1) (c % 52 / 13)))), (0, Value.ref (ad 0)), (1, Value.int (iI i)), (2, Value.int (iI (c / 52 - 1))), (3, Value.int (iI (c % 52 / 13))), (4, Value.int (iI (c % 13)))] []
                refine J_iload d_Mo_follow_147 0 rfl ?_
                refine J_sipush d_Mo_follow_149 (by decide) ?_
                refine J_icmp_ge (tgt := 238) d_Mo_follow_152 rfl (by omega) (by omega) (fun h152_25 => ?_) (fun h152_25 => ?_)
                · refine J_iload d_Mo_follow_238 2 rfl ?_
                  refine J_iret rfl d_Mo_follow_240 ⟨Nat.le_of_ble_eq_true rfl, Nat.le_of_ble_eq_true rfl⟩ ?_
                  exact ⟨it1, n, rfl, rfl, hE, hS, by omega, fun h0 d hst => by
                    rcases hst with ⟨a1, _⟩ | ⟨a1, a2, ⟨a3, a4, a5, _⟩ | ⟨_, k', a3, a4, a5, a6, rfl⟩⟩
                    · exact absurd (a1.symm.trans ‹ntB _ = false›) (by decide)
                    · exact absurd ⟨a3, a4, a5⟩ hno
                    · exact hz h0 k' a3 (by omega) a5 a6⟩
                · refine J_aload_n d_Mo_follow_155 rfl 4 rfl ?_
                  refine J_get fs_Mo_22 rfl rfl d_Mo_follow_156 ?_
                  refine J_sipush d_Mo_follow_159 (by decide) ?_
                  refine J_iload d_Mo_follow_162 8 rfl ?_
                  refine J_imul d_Mo_follow_164 ?_
                  refine J_iload d_Mo_follow_165 0 rfl ?_
                  refine J_iadd d_Mo_follow_167 ?_
                  refine J_zald rfl (by omega) (by decide) d_Mo_follow_168 ?_
                  refine J_ifB_eq (tgt := 232) d_Mo_follow_169 rfl (fun h169_26 => ?_) (fun h169_26 => ?_)
                  · refine J_iinc (j := 0) d_Mo_follow_232 rfl (by decide) rfl ?_
                    refine J_goto (tgt := 147) d_Mo_follow_235 rfl ?_
                    exact ih24 (k + 1, n, it1) (show (0 ≤ (k + 1) ∧ (k + 1) ≤ 572) ∧ (Ext i it it1 n) ∧ (Snd lp nr lf ln bd i it it1) ∧ (n ≤ (k + 1)) ∧ (n = 0 → ∀ k', 0 ≤ k' → k' < (k + 1) → it (572 * (c % 13) + k') = true → bc ln bd k' = lf (c / 52 - 1) → it (572 * i + (k' + 13)) = true) by
                        refine ⟨by omega, hE, hS, by omega, fun h0 k' a1 a2 a3 a4 => ?_⟩
                        by_cases hqq : k' = k
                        · rw [hqq] at a3 a4
                          first
                            | exact absurd a4 ‹bhM ln bd (k / 52 - 1) _ ≠ _›
                            | (rw [← ext_eq hE h0] at a3; exact absurd (a3.symm.trans ‹it1 _ = false›) (by decide))
                        · exact hz h0 k' a1 (by omega) a3 a4) (show (572 - (k + 1)).toNat < (572 - k).toNat by
                        omega)
                  · refine J_aload_n d_Mo_follow_172 rfl 4 rfl ?_
                    refine J_iload d_Mo_follow_173 0 rfl ?_
                    refine J_bipush d_Mo_follow_175 (by decide) ?_
                    refine J_idiv d_Mo_follow_177 (by omega) (by omega) ?_
                    refine J_iconst d_Mo_follow_178 ?_
                    refine J_isub d_Mo_follow_179 ?_
                    refine J_iload d_Mo_follow_180 0 rfl ?_
                    refine J_bipush d_Mo_follow_182 (by decide) ?_
                    refine J_irem d_Mo_follow_184 (by omega) (by omega) ?_
                    refine J_bipush d_Mo_follow_185 (by decide) ?_
                    refine J_idiv d_Mo_follow_187 (by omega) (by omega) ?_
                    refine J_callV (st := []) [Value.int (iI ((k / 52) - 1)), Value.int (iI ((k % 52) / 13))] ms_Mo_65 rfl (c_Mo_behind (by omega) (by omega) (hg.len (by omega))) rfl rfl ⟨Nat.le_of_ble_eq_true rfl, Nat.le_of_ble_eq_true rfl⟩ ⟨Nat.le_of_ble_eq_true rfl, Nat.le_of_ble_eq_true rfl⟩ (Nat.le_of_ble_eq_true rfl) d_Mo_follow_188 (fun v w' hp => ?_)
                    obtain ⟨rfl, rfl⟩ := hp
                    show J l D b Y_Mo_follow _ _ (ad, cM ad r lp rf nr lf ln bd fd tm it1 wk dv ct nu mt c1 c2 td tt tc) 0 0 191 [(8, Value.int (iI k)), (7, Value.int (iI (lpN it lf ln bd (c % 13).toNat (lf (c / 52 - 1)) (-1)))), (6, Value.int (iI n)), (5, Value.int (iI (bhM ln bd (c / 52 - 1) (c % 52 / 13)))), (0, Value.ref (ad 0)), (1, Value.int (iI i)), (2, Value.int (iI (c / 52 - 1))), (3, Value.int (iI (c % 52 / 13))), (4, Value.int (iI (c % 13)))] [Value.int (iI (bhM ln bd ((k / 52) - 1) ((k % 52) / 13)))]
                    have hb27 := hg.bh (q := ((k / 52) - 1)) (d := ((k % 52) / 13)) (by omega) (by omega)
                    refine J_aload_n d_Mo_follow_191 rfl 4 rfl ?_
                    refine J_get fs_Mo_7 rfl rfl d_Mo_follow_192 ?_
                    refine J_iload_n d_Mo_follow_195 rfl 6 rfl ?_
                    refine J_iald rfl (by omega) (by decide) d_Mo_follow_196 ?_
                    refine J_icmp_ne (tgt := 232) d_Mo_follow_197 rfl (by omega) (by omega) (fun h197_28 => ?_) (fun h197_28 => ?_)
                    · refine J_iinc (j := 0) d_Mo_follow_232 rfl (by decide) rfl ?_
                      refine J_goto (tgt := 147) d_Mo_follow_235 rfl ?_
                      exact ih24 (k + 1, n, it1) (show (0 ≤ (k + 1) ∧ (k + 1) ≤ 572) ∧ (Ext i it it1 n) ∧ (Snd lp nr lf ln bd i it it1) ∧ (n ≤ (k + 1)) ∧ (n = 0 → ∀ k', 0 ≤ k' → k' < (k + 1) → it (572 * (c % 13) + k') = true → bc ln bd k' = lf (c / 52 - 1) → it (572 * i + (k' + 13)) = true) by
                          refine ⟨by omega, hE, hS, by omega, fun h0 k' a1 a2 a3 a4 => ?_⟩
                          by_cases hqq : k' = k
                          · rw [hqq] at a3 a4
                            first
                              | exact absurd a4 ‹bhM ln bd (k / 52 - 1) _ ≠ _›
                              | (rw [← ext_eq hE h0] at a3; exact absurd (a3.symm.trans ‹it1 _ = false›) (by decide))
                          · exact hz h0 k' a1 (by omega) a3 a4) (show (572 - (k + 1)).toNat < (572 - k).toNat by
                          omega)
                    · have hdot := bc_dot (ln := ln) (bd := bd) (c := k) (by show ¬ bhM ln bd (k / 52 - 1) (k % 52 / 13) = -1; omega)
                      have hlk := hg.len (q := k / 52 - 1) (by omega)
                      refine J_iload d_Mo_follow_200 2 rfl ?_
                      refine J_aload_n d_Mo_follow_202 rfl 4 rfl ?_
                      refine J_iload_n d_Mo_follow_203 rfl 5 rfl ?_
                      refine J_iload d_Mo_follow_204 0 rfl ?_
                      refine J_bipush d_Mo_follow_206 (by decide) ?_
                      refine J_idiv d_Mo_follow_208 (by omega) (by omega) ?_
                      refine J_iconst d_Mo_follow_209 ?_
                      refine J_isub d_Mo_follow_210 ?_
                      refine J_iload d_Mo_follow_211 0 rfl ?_
                      refine J_bipush d_Mo_follow_213 (by decide) ?_
                      refine J_irem d_Mo_follow_215 (by omega) (by omega) ?_
                      refine J_bipush d_Mo_follow_216 (by decide) ?_
                      refine J_idiv d_Mo_follow_218 (by omega) (by omega) ?_
                      refine J_iconst d_Mo_follow_219 ?_
                      refine J_iadd d_Mo_follow_220 ?_
                      refine J_iload d_Mo_follow_221 0 rfl ?_
                      refine J_bipush d_Mo_follow_223 (by decide) ?_
                      refine J_irem d_Mo_follow_225 (by omega) (by omega) ?_
                      refine J_callV (st := [Value.int (iI n)]) [Value.int (iI i), Value.int (iI ((k / 52) - 1)), Value.int (iI (((k % 52) / 13) + 1)), Value.int (iI (k % 13))] ms_Mo_76 rfl (c_Mo_add (by omega)) rfl rfl ⟨Nat.le_of_ble_eq_true rfl, Nat.le_of_ble_eq_true rfl⟩ ⟨Nat.le_of_ble_eq_true rfl, Nat.le_of_ble_eq_true rfl⟩ (Nat.le_of_ble_eq_true rfl) d_Mo_follow_226 (fun v w' hp => ?_)
                      obtain ⟨rfl, rfl⟩ := hp
                      show J l D b Y_Mo_follow _ _ (ad, cM ad r lp rf nr lf ln bd fd tm (upI it1 (572 * i + 52 * (((k / 52) - 1) + 1) + 13 * (((k % 52) / 13) + 1) + (k % 13)) true) wk dv ct nu mt c1 c2 td tt tc) 0 0 229 [(8, Value.int (iI k)), (7, Value.int (iI (lpN it lf ln bd (c % 13).toNat (lf (c / 52 - 1)) (-1)))), (6, Value.int (iI n)), (5, Value.int (iI (bhM ln bd (c / 52 - 1) (c % 52 / 13)))), (0, Value.ref (ad 0)), (1, Value.int (iI i)), (2, Value.int (iI (c / 52 - 1))), (3, Value.int (iI (c % 52 / 13))), (4, Value.int (iI (c % 13)))] [Value.int (iI (if it1 (572 * i + 52 * (((k / 52) - 1) + 1) + 13 * (((k % 52) / 13) + 1) + (k % 13)) = true then 0 else 1)), Value.int (iI n)]
                      refine J_iadd d_Mo_follow_229 ?_
                      refine J_istore d_Mo_follow_230 (by decide) rfl ?_
                      refine J_iinc (j := 1) d_Mo_follow_232 rfl (by decide) rfl ?_
                      refine J_goto (tgt := 147) d_Mo_follow_235 rfl ?_
                      refine J.sub [0, 2, 1, 3, 4, 5, 6, 7, 8] rfl ?_
                      exact ih24 (k + 1, n + (if it1 (572 * i + 52 * (((k / 52) - 1) + 1) + 13 * (((k % 52) / 13) + 1) + (k % 13)) = true then 0 else 1), upI it1 (572 * i + 52 * (((k / 52) - 1) + 1) + 13 * (((k % 52) / 13) + 1) + (k % 13)) true) (show (0 ≤ (k + 1) ∧ (k + 1) ≤ 572) ∧ (Ext i it (upI it1 (572 * i + 52 * (((k / 52) - 1) + 1) + 13 * (((k % 52) / 13) + 1) + (k % 13)) true) (n + (if it1 (572 * i + 52 * (((k / 52) - 1) + 1) + 13 * (((k % 52) / 13) + 1) + (k % 13)) = true then 0 else 1))) ∧ (Snd lp nr lf ln bd i it (upI it1 (572 * i + 52 * (((k / 52) - 1) + 1) + 13 * (((k % 52) / 13) + 1) + (k % 13)) true)) ∧ ((n + (if it1 (572 * i + 52 * (((k / 52) - 1) + 1) + 13 * (((k % 52) / 13) + 1) + (k % 13)) = true then 0 else 1)) ≤ (k + 1)) ∧ ((n + (if it1 (572 * i + 52 * (((k / 52) - 1) + 1) + 13 * (((k % 52) / 13) + 1) + (k % 13)) = true then 0 else 1)) = 0 → ∀ k', 0 ≤ k' → k' < (k + 1) → it (572 * (c % 13) + k') = true → bc ln bd k' = lf (c / 52 - 1) → it (572 * i + (k' + 13)) = true) by
                          rw [show 572 * i + 52 * (k / 52 - 1 + 1) + 13 * (k % 52 / 13 + 1) + k % 13 = 572 * i + (k + 13) by omega]
                          have hno' : ¬ (lp = true ∧ c % 13 < i ∧ 0 ≤ lpN it1 lf ln bd (c % 13).toNat (lf (c / 52 - 1)) (-1)) := fun h => hno ⟨h.1, h.2.1, by rw [← lpN_off hE ⟨by omega, h.2.1⟩]; exact h.2.2⟩
                          have hst : stp lp nr lf ln bd it1 i c (k + 13) := Or.inr ⟨show bhM ln bd (c / 52 - 1) (c % 52 / 13) = -1 by omega, by omega, Or.inr ⟨hno', k, by omega, by omega, ‹it1 _ = true›, ‹bhM ln bd (k / 52 - 1) _ = _›, rfl⟩⟩
                          obtain ⟨hE', hS'⟩ := fol_add hi.1 hc hin hE hS (by omega) hst
                          have hr9 := if_rng (P := it1 (572 * i + (k + 13)) = true)
                          refine ⟨by omega, hE', hS', by omega, fun h0 k' a1 a2 a3 a4 => ?_⟩
                          obtain ⟨b1, b2⟩ := if_zero hE.2.2.1 h0
                          by_cases hqq : k' = k
                          · rw [hqq, ← ext_eq hE b2]
                            exact b1
                          · exact hz b2 k' a1 (by omega) a3 a4) (show (572 - (k + 1)).toNat < (572 - k).toNat by
                          omega)
              · show (0 ≤ (0 : Int) ∧ (0 : Int) ≤ 572) ∧ (Ext i it it (0 : Int)) ∧ (Snd lp nr lf ln bd i it it) ∧ ((0 : Int) ≤ (0 : Int)) ∧ ((0 : Int) = 0 → ∀ k', 0 ≤ k' → k' < (0 : Int) → it (572 * (c % 13) + k') = true → bc ln bd k' = lf (c / 52 - 1) → it (572 * i + (k' + 13)) = true)
                exact ⟨by omega, Ext.rf, Snd.rf, by omega, fun _ k' _ _ => by omega⟩
            · refine J_iload d_Mo_follow_115 1 rfl ?_
              refine J_aload_n d_Mo_follow_117 rfl 3 rfl ?_
              refine J_iload_n d_Mo_follow_118 rfl 4 rfl ?_
              refine J_iload d_Mo_follow_119 0 rfl ?_
              refine J_bipush d_Mo_follow_121 (by decide) ?_
              refine J_idiv d_Mo_follow_123 (by omega) (by omega) ?_
              refine J_iconst d_Mo_follow_124 ?_
              refine J_isub d_Mo_follow_125 ?_
              refine J_iload d_Mo_follow_126 0 rfl ?_
              refine J_bipush d_Mo_follow_128 (by decide) ?_
              refine J_irem d_Mo_follow_130 (by omega) (by omega) ?_
              refine J_bipush d_Mo_follow_131 (by decide) ?_
              refine J_idiv d_Mo_follow_133 (by omega) (by omega) ?_
              refine J_iload d_Mo_follow_134 0 rfl ?_
              refine J_bipush d_Mo_follow_136 (by decide) ?_
              refine J_irem d_Mo_follow_138 (by omega) (by omega) ?_
              refine J_callV (st := [Value.int (iI 0)]) [Value.int (iI i), Value.int (iI (((lpN it lf ln bd (c % 13).toNat (lf (c / 52 - 1)) (-1)) / 52) - 1)), Value.int (iI (((lpN it lf ln bd (c % 13).toNat (lf (c / 52 - 1)) (-1)) % 52) / 13)), Value.int (iI ((lpN it lf ln bd (c % 13).toNat (lf (c / 52 - 1)) (-1)) % 13))] ms_Mo_76 rfl (c_Mo_add (by omega)) rfl rfl ⟨Nat.le_of_ble_eq_true rfl, Nat.le_of_ble_eq_true rfl⟩ ⟨Nat.le_of_ble_eq_true rfl, Nat.le_of_ble_eq_true rfl⟩ (Nat.le_of_ble_eq_true rfl) d_Mo_follow_139 (fun v w' hp => ?_)
              obtain ⟨rfl, rfl⟩ := hp
              show J l D b Y_Mo_follow _ _ (ad, cM ad r lp rf nr lf ln bd fd tm (upI it (572 * i + 52 * ((((lpN it lf ln bd (c % 13).toNat (lf (c / 52 - 1)) (-1)) / 52) - 1) + 1) + 13 * (((lpN it lf ln bd (c % 13).toNat (lf (c / 52 - 1)) (-1)) % 52) / 13) + ((lpN it lf ln bd (c % 13).toNat (lf (c / 52 - 1)) (-1)) % 13)) true) wk dv ct nu mt c1 c2 td tt tc) 0 0 142 [(7, Value.int (iI (lpN it lf ln bd (c % 13).toNat (lf (c / 52 - 1)) (-1)))), (6, Value.int (iI 0)), (5, Value.int (iI (bhM ln bd (c / 52 - 1) (c % 52 / 13)))), (0, Value.ref (ad 0)), (1, Value.int (iI i)), (2, Value.int (iI (c / 52 - 1))), (3, Value.int (iI (c % 52 / 13))), (4, Value.int (iI (c % 13)))] [Value.int (iI (if it (572 * i + 52 * ((((lpN it lf ln bd (c % 13).toNat (lf (c / 52 - 1)) (-1)) / 52) - 1) + 1) + 13 * (((lpN it lf ln bd (c % 13).toNat (lf (c / 52 - 1)) (-1)) % 52) / 13) + ((lpN it lf ln bd (c % 13).toNat (lf (c / 52 - 1)) (-1)) % 13)) = true then 0 else 1)), Value.int (iI 0)]
              refine J_iadd d_Mo_follow_142 ?_
              refine J_iret rfl d_Mo_follow_143 ⟨Nat.le_of_ble_eq_true rfl, Nat.le_of_ble_eq_true rfl⟩ ?_
              refine ⟨_, _, rfl, rfl, ?_⟩
              rw [show 572 * i + 52 * (lpN it lf ln bd (c % 13).toNat (lf (c / 52 - 1)) (-1) / 52 - 1 + 1) + 13 * (lpN it lf ln bd (c % 13).toNat (lf (c / 52 - 1)) (-1) % 52 / 13) + lpN it lf ln bd (c % 13).toNat (lf (c / 52 - 1)) (-1) % 13 = 572 * i + lpN it lf ln bd (c % 13).toNat (lf (c / 52 - 1)) (-1) by omega]
              have hst : stp lp nr lf ln bd it i c (lpN it lf ln bd (c % 13).toNat (lf (c / 52 - 1)) (-1)) := Or.inr ⟨show bhM ln bd (c / 52 - 1) (c % 52 / 13) = -1 by omega, by omega, Or.inl ⟨‹_›, by omega, by omega, rfl⟩⟩
              obtain ⟨hE', hS'⟩ := fol_add hi.1 hc hin Ext.rf Snd.rf (by omega) hst
              have hr9 := if_rng (P := it (572 * i + lpN it lf ln bd (c % 13).toNat (lf (c / 52 - 1)) (-1)) = true)
              refine ⟨hE', hS', by omega, fun h0 d hst => ?_⟩
              obtain ⟨b1, b2⟩ := if_zero (by omega) h0
              rcases hst with ⟨a1, _⟩ | ⟨a1, a2, ⟨a3, a4, a5, rfl⟩ | ⟨a3, _⟩⟩
              · exact absurd (a1.symm.trans ‹ntB _ = false›) (by decide)
              · exact b1
              · exact absurd ⟨‹_›, by omega, by omega⟩ a3
      · refine J_iload d_Mo_follow_76 0 rfl ?_
        refine J_iret rfl d_Mo_follow_78 ⟨Nat.le_of_ble_eq_true rfl, Nat.le_of_ble_eq_true rfl⟩ ?_
        exact ⟨it, 0, rfl, rfl, Ext.rf, Snd.rf, by omega, fun _ d hst => by
          rcases hst with ⟨a1, _⟩ | ⟨a1, a2, _⟩
          · exact absurd (a1.symm.trans ‹ntB _ = false›) (by decide)
          · have a1 : bhM ln bd (c / 52 - 1) (c % 52 / 13) = -1 := a1
            omega⟩
  · refine J_iconst d_Mo_follow_19 ?_
    refine J_istore d_Mo_follow_20 (by decide) rfl ?_
    refine J.loop (σ := Int × Int × (Int → Bool)) (fun xx_ => match xx_ with | (q, n, it1) => (0 ≤ q ∧ q ≤ nr) ∧ (Ext i it it1 n) ∧ (Snd lp nr lf ln bd i it it1) ∧ (n ≤ q) ∧ (n = 0 → ∀ q', 0 ≤ q' → q' < q → lf q' = bc ln bd c → it (572 * i + (52 * (q' + 1) + i)) = true)) (fun xx_ => match xx_ with | (q, n, it1) => (nr - q).toNat) (ws := fun xx_ => match xx_ with | (q, n, it1) => (ad, cM ad r lp rf nr lf ln bd fd tm it1 wk dv ct nu mt c1 c2 td tt tc)) (ks := fun _ => 0) (ns := fun _ => 0) (lvs := fun xx_ => match xx_ with | (q, n, it1) => [(7, Value.int (iI q)), (6, Value.int (iI n)), (5, Value.int (iI (bhM ln bd (c / 52 - 1) (c % 52 / 13)))), (0, Value.ref (ad 0)), (1, Value.int (iI i)), (2, Value.int (iI (c / 52 - 1))), (3, Value.int (iI (c % 52 / 13))), (4, Value.int (iI (c % 13)))]) (sts := fun _ => []) ?_ (0, 0, it) ?_
    · rintro ⟨q, n, it1⟩ hI ih31
      have hI : (0 ≤ q ∧ q ≤ nr) ∧ (Ext i it it1 n) ∧ (Snd lp nr lf ln bd i it it1) ∧ (n ≤ q) ∧ (n = 0 → ∀ q', 0 ≤ q' → q' < q → lf q' = bc ln bd c → it (572 * i + (52 * (q' + 1) + i)) = true) := hI
      obtain ⟨hq, hE, hS, hn, hz⟩ := hI
      show J l D b Y_Mo_follow _ _ (ad, cM ad r lp rf nr lf ln bd fd tm it1 wk dv ct nu mt c1 c2 td tt tc) 0 0 22 [(7, Value.int (iI q)), (6, Value.int (iI n)), (5, Value.int (iI (bhM ln bd (c / 52 - 1) (c % 52 / 13)))), (0, Value.ref (ad 0)), (1, Value.int (iI i)), (2, Value.int (iI (c / 52 - 1))), (3, Value.int (iI (c % 52 / 13))), (4, Value.int (iI (c % 13)))] []
      refine J_iload d_Mo_follow_22 0 rfl ?_
      refine J_aload_n d_Mo_follow_24 rfl 3 rfl ?_
      refine J_get fs_Mo_73 rfl rfl d_Mo_follow_25 ?_
      refine J_icmp_ge (tgt := 67) d_Mo_follow_28 rfl (by omega) (by omega) (fun h28_32 => ?_) (fun h28_32 => ?_)
      · have hnt := ntB_of ‹_›
        refine J_iload d_Mo_follow_67 2 rfl ?_
        refine J_if_ge (tgt := 76) d_Mo_follow_69 rfl (by omega) (fun h69_33 => ?_) (fun h69_33 => ?_)
        · refine J_iload d_Mo_follow_76 1 rfl ?_
          refine J_iret rfl d_Mo_follow_78 ⟨Nat.le_of_ble_eq_true rfl, Nat.le_of_ble_eq_true rfl⟩ ?_
          exact ⟨it1, n, rfl, rfl, hE, hS, by omega, fun h0 d hst => by
            rcases hst with ⟨_, q', a1, a2, a3, rfl⟩ | ⟨a1, _⟩
            · exact hz h0 q' a1 (by omega) a3
            · have a1 : bhM ln bd (c / 52 - 1) (c % 52 / 13) = -1 := a1
              omega⟩
        · exact absurd h69_33 (by have := ntB_of ‹_›; omega)
      · refine J_iload d_Mo_follow_31 1 rfl ?_
        refine J_aload_n d_Mo_follow_33 rfl 3 rfl ?_
        refine J_get fs_Mo_7 rfl rfl d_Mo_follow_34 ?_
        refine J_iload d_Mo_follow_37 0 rfl ?_
        refine J_iald rfl (by omega) (by decide) d_Mo_follow_39 ?_
        refine J_iload d_Mo_follow_40 2 rfl ?_
        have hlfq := hg.2.1 q (by omega) (by omega)
        refine J_icmp_ne (tgt := 57) d_Mo_follow_42 rfl (by omega) (by omega) (fun h42_34 => ?_) (fun h42_34 => ?_)
        · refine J_iconst d_Mo_follow_57 ?_
          refine J_iadd d_Mo_follow_58 ?_
          refine J_istore d_Mo_follow_59 (by decide) rfl ?_
          refine J_iinc (j := 1) d_Mo_follow_61 rfl (by decide) rfl ?_
          refine J_goto (tgt := 22) d_Mo_follow_64 rfl ?_
          exact ih31 (q + 1, n + 0, it1) (show (0 ≤ (q + 1) ∧ (q + 1) ≤ nr) ∧ (Ext i it it1 (n + 0)) ∧ (Snd lp nr lf ln bd i it it1) ∧ ((n + 0) ≤ (q + 1)) ∧ ((n + 0) = 0 → ∀ q', 0 ≤ q' → q' < (q + 1) → lf q' = bc ln bd c → it (572 * i + (52 * (q' + 1) + i)) = true) by
              rw [Int.add_zero]
              refine ⟨by omega, hE, hS, by omega, fun h0 q' a1 a2 a3 => ?_⟩
              by_cases hqq : q' = q
              · rw [hqq] at a3
                exact absurd a3 ‹lf q ≠ _›
              · exact hz h0 q' a1 (by omega) a3) (show (nr - (q + 1)).toNat < (nr - q).toNat by
              omega)
        · refine J_aload_n d_Mo_follow_45 rfl 3 rfl ?_
          refine J_iload_n d_Mo_follow_46 rfl 4 rfl ?_
          refine J_iload d_Mo_follow_47 0 rfl ?_
          refine J_iconst d_Mo_follow_49 ?_
          refine J_iload_n d_Mo_follow_50 rfl 4 rfl ?_
          refine J_callV (st := [Value.int (iI n)]) [Value.int (iI i), Value.int (iI q), Value.int (iI 0), Value.int (iI i)] ms_Mo_76 rfl (c_Mo_add (by omega)) rfl rfl ⟨Nat.le_of_ble_eq_true rfl, Nat.le_of_ble_eq_true rfl⟩ ⟨Nat.le_of_ble_eq_true rfl, Nat.le_of_ble_eq_true rfl⟩ (Nat.le_of_ble_eq_true rfl) d_Mo_follow_51 (fun v w' hp => ?_)
          obtain ⟨rfl, rfl⟩ := hp
          show J l D b Y_Mo_follow _ _ (ad, cM ad r lp rf nr lf ln bd fd tm (upI it1 (572 * i + 52 * (q + 1) + 13 * 0 + i) true) wk dv ct nu mt c1 c2 td tt tc) 0 0 54 [(7, Value.int (iI q)), (6, Value.int (iI n)), (5, Value.int (iI (bhM ln bd (c / 52 - 1) (c % 52 / 13)))), (0, Value.ref (ad 0)), (1, Value.int (iI i)), (2, Value.int (iI (c / 52 - 1))), (3, Value.int (iI (c % 52 / 13))), (4, Value.int (iI (c % 13)))] [Value.int (iI (if it1 (572 * i + 52 * (q + 1) + 13 * 0 + i) = true then 0 else 1)), Value.int (iI n)]
          refine J_goto (tgt := 58) d_Mo_follow_54 rfl ?_
          refine J_iadd d_Mo_follow_58 ?_
          refine J_istore d_Mo_follow_59 (by decide) rfl ?_
          refine J_iinc (j := 1) d_Mo_follow_61 rfl (by decide) rfl ?_
          refine J_goto (tgt := 22) d_Mo_follow_64 rfl ?_
          exact ih31 (q + 1, n + (if it1 (572 * i + 52 * (q + 1) + 13 * 0 + i) = true then 0 else 1), upI it1 (572 * i + 52 * (q + 1) + 13 * 0 + i) true) (show (0 ≤ (q + 1) ∧ (q + 1) ≤ nr) ∧ (Ext i it (upI it1 (572 * i + 52 * (q + 1) + 13 * 0 + i) true) (n + (if it1 (572 * i + 52 * (q + 1) + 13 * 0 + i) = true then 0 else 1))) ∧ (Snd lp nr lf ln bd i it (upI it1 (572 * i + 52 * (q + 1) + 13 * 0 + i) true)) ∧ ((n + (if it1 (572 * i + 52 * (q + 1) + 13 * 0 + i) = true then 0 else 1)) ≤ (q + 1)) ∧ ((n + (if it1 (572 * i + 52 * (q + 1) + 13 * 0 + i) = true then 0 else 1)) = 0 → ∀ q', 0 ≤ q' → q' < (q + 1) → lf q' = bc ln bd c → it (572 * i + (52 * (q' + 1) + i)) = true) by
              rw [show 572 * i + 52 * (q + 1) + 13 * 0 + i = 572 * i + (52 * (q + 1) + i) by omega]
              have hst : stp lp nr lf ln bd it1 i c (52 * (q + 1) + i) := Or.inl ⟨‹ntB _ = true›, q, by omega, by omega, ‹lf q = _›, rfl⟩
              obtain ⟨hE', hS'⟩ := fol_add hi.1 hc hin hE hS (by omega) hst
              have hr9 := if_rng (P := it1 (572 * i + (52 * (q + 1) + i)) = true)
              refine ⟨by omega, hE', hS', by omega, fun h0 q' a1 a2 a3 => ?_⟩
              obtain ⟨b1, b2⟩ := if_zero hE.2.2.1 h0
              by_cases hqq : q' = q
              · rw [hqq, ← ext_eq hE b2]
                exact b1
              · exact hz b2 q' a1 (by omega) a3) (show (nr - (q + 1)).toNat < (nr - q).toNat by
              omega)
    · show (0 ≤ (0 : Int) ∧ (0 : Int) ≤ nr) ∧ (Ext i it it (0 : Int)) ∧ (Snd lp nr lf ln bd i it it) ∧ ((0 : Int) ≤ (0 : Int)) ∧ ((0 : Int) = 0 → ∀ q', 0 ≤ q' → q' < (0 : Int) → lf q' = bc ln bd c → it (572 * i + (52 * (q' + 1) + i)) = true)
      exact ⟨by omega, Ext.rf, Snd.rf, by omega, fun _ q' _ _ => by omega⟩
end M2
