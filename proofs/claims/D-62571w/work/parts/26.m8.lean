section M8
variable {l : Launch} {D : jD} {b : Nat} {w : jW} {ad : Nat → Nat} {r : Nat → Option jE} {lp : Bool} {rf : Int} {nr : Int} {lf : Int → Int} {ln : Int → Int} {bd : Int → Int} {fd : Int} {tm : Int → Int} {it : Int → Bool} {wk : Bool} {dv : Int → Bool} {ct : Int → Bool} {nu : Int → Int} {mt : Int → Bool} {c1 : Int} {c2 : Int} {td : Int → Int} {tt : Int → Int} {tc : Int}
set_option maxHeartbeats 4000000 in
theorem c_Mo_work  (hg : gOK nr lf ln bd) (htm : ∀ x, 0 ≤ x → x < 12 → -2147483648 ≤ tm x ∧ tm x ≤ 2147483647) (hf : 0 ≤ fd ∧ fd ≤ 12) (hwk : wk = true → Wkd nr lf ln bd tm fd dv ct nu) : Ct l D b Y_Mo_work { frames := 5, cells := 0, slots := 0, locals := 122 } [Value.ref (ad 0)] (ad, cM ad r lp rf nr lf ln bd fd tm it wk dv ct nu mt c1 c2 td tt tc) (fun v w' => v = none ∧ ∃ dv' ct' nu' d1 d2, w' = (ad, cM ad r lp rf nr lf ln bd fd tm it true dv' ct' nu' mt d1 d2 td tt tc) ∧ Wkd nr lf ln bd tm fd dv' ct' nu') := by
  refine Ct_of (by decide) (Nat.le_of_ble_eq_true rfl) ?_
  have hg1 := hg.1
  show J l D b Y_Mo_work _ _ (ad, cM ad r lp rf nr lf ln bd fd tm it wk dv ct nu mt c1 c2 td tt tc) 0 0 0 [(0, Value.ref (ad 0))] []
  refine J_aload_n d_Mo_work_0 rfl 0 rfl ?_
  refine J_get fs_Mo_85 rfl rfl d_Mo_work_1 ?_
  refine J_ifB_eq (tgt := 8) d_Mo_work_4 rfl (fun h4_1 => ?_) (fun h4_1 => ?_)
  · refine J_aload_n d_Mo_work_8 rfl 0 rfl ?_
    refine J_iconst d_Mo_work_9 ?_
    refine J.top (show Value.int (iI 1) = Value.int (iI (bz true)) from rfl) ?_
    refine J_put fs_Mo_85 rfl (Nat.le_of_ble_eq_true rfl) (fun _ h => by cases h; exact Or.inl rfl) (nar_z _) (fit_z _) uM_obj d_Mo_work_10 ?_
    refine J_aload_n d_Mo_work_13 rfl 0 rfl ?_
    refine J_callV (st := []) [] ms_Mo_155 rfl (c_Mo_findDerived hg htm (by omega)) rfl rfl ⟨Nat.le_of_ble_eq_true rfl, Nat.le_of_ble_eq_true rfl⟩ ⟨Nat.le_of_ble_eq_true rfl, Nat.le_of_ble_eq_true rfl⟩ (Nat.le_of_ble_eq_true rfl) d_Mo_work_14 (fun v w' hp => ?_)
    obtain ⟨rfl, dvW, x2, y2, rfl, hDW⟩ := hp
    show J l D b Y_Mo_work _ _ (ad, cM ad r lp rf nr lf ln bd fd tm it true dvW ct nu mt x2 y2 td tt tc) 0 0 17 [(0, Value.ref (ad 0))] []
    refine J_iconst d_Mo_work_17 ?_
    refine J_istore_n d_Mo_work_18 rfl (by decide) rfl ?_
    refine J.loop (σ := Int × (Int → Bool)) (fun xx_ => match xx_ with | (k, ct0) => (0 ≤ k ∧ k ≤ 845) ∧ (ct0 = clr0 ct k)) (fun xx_ => match xx_ with | (k, ct0) => (845 - k).toNat) (ws := fun xx_ => match xx_ with | (k, ct0) => (ad, cM ad r lp rf nr lf ln bd fd tm it true dvW ct0 nu mt x2 y2 td tt tc)) (ks := fun _ => 0) (ns := fun _ => 0) (lvs := fun xx_ => match xx_ with | (k, ct0) => [(1, Value.int (iI k)), (0, Value.ref (ad 0))]) (sts := fun _ => []) ?_ (0, ct) ?_
    · rintro ⟨k, ct0⟩ hI ih3
      have hI : (0 ≤ k ∧ k ≤ 845) ∧ (ct0 = clr0 ct k) := hI
      obtain ⟨hk, hc0⟩ := hI
      show J l D b Y_Mo_work _ _ (ad, cM ad r lp rf nr lf ln bd fd tm it true dvW ct0 nu mt x2 y2 td tt tc) 0 0 19 [(1, Value.int (iI k)), (0, Value.ref (ad 0))] []
      refine J_iload_n d_Mo_work_19 rfl 0 rfl ?_
      refine J_sipush d_Mo_work_20 (by decide) ?_
      refine J_icmp_ge (tgt := 39) d_Mo_work_23 rfl (by omega) (by omega) (fun h23_4 => ?_) (fun h23_4 => ?_)
      · have hk845 : k = 845 := by omega
        refine J.cell (i := 7) (g := fun j => Value.int (iI (bz ((fun _ => false) j)))) rfl (fun j a1 a2 => by rw [hc0, hk845]; unfold clr0; rw [if_pos (by omega)]) uM_ct ?_
        refine J_iconst d_Mo_work_39 ?_
        refine J_istore_n d_Mo_work_40 rfl (by decide) rfl ?_
        refine J.loop (σ := Bool × (Int → Bool) × (Int → Int) × Int × Int) (fun xx_ => match xx_ with | (mo, ct1, nu1, x1, y1) => (CSn nr lf ln bd tm fd dvW ct1) ∧ (CEq nr lf ln bd tm fd dvW ct1 nu1) ∧ (mo = false → CCl nr lf ln bd tm fd dvW ct1)) (fun xx_ => match xx_ with | (mo, ct1, nu1, x1, y1) => (845 - cnt ct1 845).toNat + (if mo = true then 1 else 0)) (ws := fun xx_ => match xx_ with | (mo, ct1, nu1, x1, y1) => (ad, cM ad r lp rf nr lf ln bd fd tm it true dvW ct1 nu1 mt x1 y1 td tt tc)) (ks := fun _ => 0) (ns := fun _ => 0) (lvs := fun xx_ => match xx_ with | (mo, ct1, nu1, x1, y1) => [(1, Value.int (iI (bz mo))), (0, Value.ref (ad 0))]) (sts := fun _ => []) ?_ (true, (fun _ => false), nu, x2, y2) ?_
        · rintro ⟨mo, ct1, nu1, x1, y1⟩ hI ih5
          have hI : (CSn nr lf ln bd tm fd dvW ct1) ∧ (CEq nr lf ln bd tm fd dvW ct1 nu1) ∧ (mo = false → CCl nr lf ln bd tm fd dvW ct1) := hI
          obtain ⟨hS, hE, hC⟩ := hI
          show J l D b Y_Mo_work _ _ (ad, cM ad r lp rf nr lf ln bd fd tm it true dvW ct1 nu1 mt x1 y1 td tt tc) 0 0 41 [(1, Value.int (iI (bz mo))), (0, Value.ref (ad 0))] []
          refine J_iload_n d_Mo_work_41 rfl 0 rfl ?_
          refine J_ifB_eq (tgt := 158) d_Mo_work_42 rfl (fun h42_6 => ?_) (fun h42_6 => ?_)
          · refine J_vret rfl d_Mo_work_158 ⟨Nat.le_of_ble_eq_true rfl, Nat.le_of_ble_eq_true rfl⟩ ?_
            exact ⟨rfl, _, _, _, _, _, rfl, hDW, hC ‹_›, hE, hS⟩
          · refine J_iconst d_Mo_work_45 ?_
            refine J_istore_n d_Mo_work_46 rfl (by decide) rfl ?_
            refine J_iconst d_Mo_work_47 ?_
            refine J_istore_n d_Mo_work_48 rfl (by decide) rfl ?_
            refine J.loop (σ := Int × Bool × (Int → Bool) × (Int → Int) × Int × Int) (fun xx_ => match xx_ with | (s, mo2, ct2, nu2, x2, y2) => (0 ≤ s ∧ s ≤ 5) ∧ (PW nr lf ln bd tm fd dvW ct1 ct2 nu2 mo2 s 0 0)) (fun xx_ => match xx_ with | (s, mo2, ct2, nu2, x2, y2) => (5 - s).toNat) (ws := fun xx_ => match xx_ with | (s, mo2, ct2, nu2, x2, y2) => (ad, cM ad r lp rf nr lf ln bd fd tm it true dvW ct2 nu2 mt x2 y2 td tt tc)) (ks := fun _ => 0) (ns := fun _ => 0) (lvs := fun xx_ => match xx_ with | (s, mo2, ct2, nu2, x2, y2) => [(2, Value.int (iI s)), (1, Value.int (iI (bz mo2))), (0, Value.ref (ad 0))]) (sts := fun _ => []) ?_ (0, false, ct1, nu1, x1, y1) ?_
            · rintro ⟨s, mo2, ct2, nu2, x2, y2⟩ hI ih7
              have hI : (0 ≤ s ∧ s ≤ 5) ∧ (PW nr lf ln bd tm fd dvW ct1 ct2 nu2 mo2 s 0 0) := hI
              obtain ⟨hs, hP2⟩ := hI
              show J l D b Y_Mo_work _ _ (ad, cM ad r lp rf nr lf ln bd fd tm it true dvW ct2 nu2 mt x2 y2 td tt tc) 0 0 49 [(2, Value.int (iI s)), (1, Value.int (iI (bz mo2))), (0, Value.ref (ad 0))] []
              refine J_iload_n d_Mo_work_49 rfl 0 rfl ?_
              refine J_iconst d_Mo_work_50 ?_
              refine J_icmp_ge (tgt := 155) d_Mo_work_51 rfl (by omega) (by omega) (fun h51_8 => ?_) (fun h51_8 => ?_)
              · refine J_goto (tgt := 41) d_Mo_work_155 rfl ?_
                refine J.sub [1, 2] rfl ?_
                exact ih5 (mo2, ct2, nu2, x2, y2) (show (CSn nr lf ln bd tm fd dvW ct2) ∧ (CEq nr lf ln bd tm fd dvW ct2 nu2) ∧ (mo2 = false → CCl nr lf ln bd tm fd dvW ct2) by
                    exact ⟨hP2.2.1, hP2.2.2.1, fun h => pw_cl hP2 (by omega) h⟩) (show ((845 - cnt ct2 845).toNat + (if mo2 = true then 1 else 0)) < ((845 - cnt ct1 845).toNat + (if mo = true then 1 else 0)) by
                    rw [show mo = true by assumption]
                    exact pw_mu hP2)
              · refine J_iconst d_Mo_work_54 ?_
                refine J_istore_n d_Mo_work_55 rfl (by decide) rfl ?_
                refine J.loop (σ := Int × Bool × (Int → Bool) × (Int → Int) × Int × Int) (fun xx_ => match xx_ with | (i, mo3, ct3, nu3, x3, y3) => (0 ≤ i ∧ i ≤ fd + 1) ∧ (PW nr lf ln bd tm fd dvW ct1 ct3 nu3 mo3 s i i)) (fun xx_ => match xx_ with | (i, mo3, ct3, nu3, x3, y3) => (fd + 1 - i).toNat) (ws := fun xx_ => match xx_ with | (i, mo3, ct3, nu3, x3, y3) => (ad, cM ad r lp rf nr lf ln bd fd tm it true dvW ct3 nu3 mt x3 y3 td tt tc)) (ks := fun _ => 0) (ns := fun _ => 0) (lvs := fun xx_ => match xx_ with | (i, mo3, ct3, nu3, x3, y3) => [(3, Value.int (iI i)), (2, Value.int (iI s)), (1, Value.int (iI (bz mo3))), (0, Value.ref (ad 0))]) (sts := fun _ => []) ?_ (0, mo2, ct2, nu2, x2, y2) ?_
                · rintro ⟨i, mo3, ct3, nu3, x3, y3⟩ hI ih9
                  have hI : (0 ≤ i ∧ i ≤ fd + 1) ∧ (PW nr lf ln bd tm fd dvW ct1 ct3 nu3 mo3 s i i) := hI
                  obtain ⟨hi, hP3⟩ := hI
                  show J l D b Y_Mo_work _ _ (ad, cM ad r lp rf nr lf ln bd fd tm it true dvW ct3 nu3 mt x3 y3 td tt tc) 0 0 56 [(3, Value.int (iI i)), (2, Value.int (iI s)), (1, Value.int (iI (bz mo3))), (0, Value.ref (ad 0))] []
                  refine J_iload_n d_Mo_work_56 rfl 0 rfl ?_
                  refine J_aload_n d_Mo_work_57 rfl 3 rfl ?_
                  refine J_get fs_Mo_97 rfl rfl d_Mo_work_58 ?_
                  refine J_icmp_gt (tgt := 149) d_Mo_work_61 rfl (by omega) (by omega) (fun h61_10 => ?_) (fun h61_10 => ?_)
                  · refine J_iinc (j := 1) d_Mo_work_149 rfl (by decide) rfl ?_
                    refine J_goto (tgt := 49) d_Mo_work_152 rfl ?_
                    refine J.sub [0, 2, 3] rfl ?_
                    exact ih7 (s + 1, mo3, ct3, nu3, x3, y3) (show (0 ≤ (s + 1) ∧ (s + 1) ≤ 5) ∧ (PW nr lf ln bd tm fd dvW ct1 ct3 nu3 mo3 (s + 1) 0 0) by
                        exact ⟨by omega, pw_move hP3 (by omega)⟩) (show ((5 - (s + 1)).toNat) < ((5 - s).toNat) by
                        omega)
                  · refine J_iload_n d_Mo_work_64 rfl 0 rfl ?_
                    refine J_istore d_Mo_work_65 (by decide) rfl ?_
                    refine J.loop (σ := Int × Bool × (Int → Bool) × (Int → Int) × Int × Int) (fun xx_ => match xx_ with | (j, mo4, ct4, nu4, x4, y4) => (i ≤ j ∧ j ≤ fd + 1) ∧ (PW nr lf ln bd tm fd dvW ct1 ct4 nu4 mo4 s i j)) (fun xx_ => match xx_ with | (j, mo4, ct4, nu4, x4, y4) => (fd + 1 - j).toNat) (ws := fun xx_ => match xx_ with | (j, mo4, ct4, nu4, x4, y4) => (ad, cM ad r lp rf nr lf ln bd fd tm it true dvW ct4 nu4 mt x4 y4 td tt tc)) (ks := fun _ => 0) (ns := fun _ => 0) (lvs := fun xx_ => match xx_ with | (j, mo4, ct4, nu4, x4, y4) => [(4, Value.int (iI j)), (3, Value.int (iI i)), (2, Value.int (iI s)), (1, Value.int (iI (bz mo4))), (0, Value.ref (ad 0))]) (sts := fun _ => []) ?_ (i, mo3, ct3, nu3, x3, y3) ?_
                    · rintro ⟨j, mo4, ct4, nu4, x4, y4⟩ hI ih11
                      have hI : (i ≤ j ∧ j ≤ fd + 1) ∧ (PW nr lf ln bd tm fd dvW ct1 ct4 nu4 mo4 s i j) := hI
                      obtain ⟨hj, hP⟩ := hI
                      show J l D b Y_Mo_work _ _ (ad, cM ad r lp rf nr lf ln bd fd tm it true dvW ct4 nu4 mt x4 y4 td tt tc) 0 0 67 [(4, Value.int (iI j)), (3, Value.int (iI i)), (2, Value.int (iI s)), (1, Value.int (iI (bz mo4))), (0, Value.ref (ad 0))] []
                      refine J_iload d_Mo_work_67 0 rfl ?_
                      refine J_aload_n d_Mo_work_69 rfl 4 rfl ?_
                      refine J_get fs_Mo_97 rfl rfl d_Mo_work_70 ?_
                      refine J_icmp_gt (tgt := 143) d_Mo_work_73 rfl (by omega) (by omega) (fun h73_12 => ?_) (fun h73_12 => ?_)
                      · refine J_iinc (j := 1) d_Mo_work_143 rfl (by decide) rfl ?_
                        refine J_goto (tgt := 56) d_Mo_work_146 rfl ?_
                        refine J.sub [0, 2, 3, 4] rfl ?_
                        exact ih9 (i + 1, mo4, ct4, nu4, x4, y4) (show (0 ≤ (i + 1) ∧ (i + 1) ≤ fd + 1) ∧ (PW nr lf ln bd tm fd dvW ct1 ct4 nu4 mo4 s (i + 1) (i + 1)) by
                            exact ⟨by omega, pw_move hP (by omega)⟩) (show ((fd + 1 - (i + 1)).toNat) < ((fd + 1 - i).toNat) by
                            omega)
                      · refine J_iload_n d_Mo_work_76 rfl 2 rfl ?_
                        refine J_iload_n d_Mo_work_77 rfl 1 rfl ?_
                        refine J_iload d_Mo_work_78 0 rfl ?_
                        refine J_callS (st := []) [Value.int (iI s), Value.int (iI i), Value.int (iI j)] ms_Mo_113 (c_Mo_node) rfl rfl ⟨Nat.le_of_ble_eq_true rfl, Nat.le_of_ble_eq_true rfl⟩ ⟨Nat.le_of_ble_eq_true rfl, Nat.le_of_ble_eq_true rfl⟩ (Nat.le_of_ble_eq_true rfl) d_Mo_work_80 (fun v w' hp => ?_)
                        obtain ⟨rfl, rfl⟩ := hp
                        show J l D b Y_Mo_work _ _ (ad, cM ad r lp rf nr lf ln bd fd tm it true dvW ct4 nu4 mt x4 y4 td tt tc) 0 0 83 [(4, Value.int (iI j)), (3, Value.int (iI i)), (2, Value.int (iI s)), (1, Value.int (iI (bz mo4))), (0, Value.ref (ad 0))] [Value.int (iI (169 * s + 13 * i + j))]
                        refine J_istore d_Mo_work_83 (by decide) rfl ?_
                        refine J_aload_n d_Mo_work_85 rfl 5 rfl ?_
                        refine J_get fs_Mo_29 rfl rfl d_Mo_work_86 ?_
                        refine J_iload d_Mo_work_89 0 rfl ?_
                        refine J_zald rfl (by omega) (by decide) d_Mo_work_91 ?_
                        refine J_ifB_eq (tgt := 101) d_Mo_work_92 rfl (fun h92_14 => ?_) (fun h92_14 => ?_)
                        · refine J_aload_n d_Mo_work_101 rfl 5 rfl ?_
                          refine J_iload_n d_Mo_work_102 rfl 3 rfl ?_
                          refine J_iload_n d_Mo_work_103 rfl 2 rfl ?_
                          refine J_iload d_Mo_work_104 1 rfl ?_
                          refine J_callV (st := []) [Value.int (iI s), Value.int (iI i), Value.int (iI j)] ms_Mo_158 rfl (c_Mo_sum hg htm (by omega) (by omega) hP.2.2.1.2) rfl rfl ⟨Nat.le_of_ble_eq_true rfl, Nat.le_of_ble_eq_true rfl⟩ ⟨Nat.le_of_ble_eq_true rfl, Nat.le_of_ble_eq_true rfl⟩ (Nat.le_of_ble_eq_true rfl) d_Mo_work_106 (fun v w' hp => ?_)
                          obtain ⟨z15, x15, y15, rfl, rfl, hZ15⟩ := hp
                          show J l D b Y_Mo_work _ _ (ad, cM ad r lp rf nr lf ln bd fd tm it true dvW ct4 nu4 mt x15 y15 td tt tc) 0 0 109 [(5, Value.int (iI (169 * s + 13 * i + j))), (4, Value.int (iI j)), (3, Value.int (iI i)), (2, Value.int (iI s)), (1, Value.int (iI (bz mo4))), (0, Value.ref (ad 0))] [Value.long (iL z15)]
                          refine J_lstore d_Mo_work_109 (by decide) rfl ?_
                          have hzr : -1 ≤ z15 ∧ z15 ≤ 1000000000000 := by
                            rcases ‹_ ∨ (_ ∧ z15 = -1)› with h | h <;> omega
                          refine J_lload d_Mo_work_111 0 rfl ?_
                          refine J_lconst (z := 0) d_Mo_work_113 rfl ?_
                          refine J_lcmp_lt (tgt := 137) d_Mo_work_114 d_Mo_work_115 rfl (by omega) (by omega) (fun h114_16 => ?_) (fun h114_16 => ?_)
                          · refine J_iinc (j := 2) d_Mo_work_137 rfl (by decide) rfl ?_
                            refine J_goto (tgt := 67) d_Mo_work_140 rfl ?_
                            refine J.sub [0, 3, 4, 5, 6] rfl ?_
                            exact ih11 (j + 1, mo4, ct4, nu4, x15, y15) (show (i ≤ (j + 1) ∧ (j + 1) ≤ fd + 1) ∧ (PW nr lf ln bd tm fd dvW ct1 ct4 nu4 mo4 s i (j + 1)) by
                                refine ⟨by omega, pw_skip hP (Or.inr ?_)⟩
                                rcases ‹_ ∨ (_ ∧ z15 = -1)› with h | h
                                · omega
                                · exact h.1) (show ((fd + 1 - (j + 1)).toNat) < ((fd + 1 - j).toNat) by
                                omega)
                          · refine J_aload_n d_Mo_work_118 rfl 6 rfl ?_
                            refine J_get fs_Mo_29 rfl rfl d_Mo_work_119 ?_
                            refine J_iload d_Mo_work_122 1 rfl ?_
                            refine J_iconst d_Mo_work_124 ?_
                            refine J.top (show Value.int (iI 1) = Value.int (iI (bz true)) from rfl) ?_
                            refine J_zast rfl (by omega) (by decide) uM_ct d_Mo_work_125 ?_
                            refine J_aload_n d_Mo_work_126 rfl 6 rfl ?_
                            refine J_get fs_Mo_32 rfl rfl d_Mo_work_127 ?_
                            refine J_iload d_Mo_work_130 1 rfl ?_
                            refine J_lload d_Mo_work_132 0 rfl ?_
                            refine J_last rfl (by omega) (by decide) uM_nu d_Mo_work_134 ?_
                            refine J_iconst d_Mo_work_135 ?_
                            refine J_istore_n d_Mo_work_136 rfl (by decide) rfl ?_
                            refine J_iinc (j := 3) d_Mo_work_137 rfl (by decide) rfl ?_
                            refine J_goto (tgt := 67) d_Mo_work_140 rfl ?_
                            refine J.sub [0, 4, 5, 1, 6] rfl ?_
                            exact ih11 (j + 1, true, upI ct4 (169 * s + 13 * i + j) true, upI nu4 (169 * s + 13 * i + j) z15, x15, y15) (show (i ≤ (j + 1) ∧ (j + 1) ≤ fd + 1) ∧ (PW nr lf ln bd tm fd dvW ct1 (upI ct4 (169 * s + 13 * i + j) true) (upI nu4 (169 * s + 13 * i + j) z15) true s i (j + 1)) by
                                have hz : okN nr lf ln bd tm dvW ct4 s i j ∧ z15 = sumN nr lf ln bd tm dvW nu4 s i j ∧ 0 ≤ z15 ∧ z15 ≤ 1000000000000 := by
                                  rcases ‹_ ∨ (_ ∧ z15 = -1)› with h | h
                                  · exact h
                                  · omega
                                exact ⟨by omega, pw_set hP hg (by omega) (by omega) ‹_› hz.1 hz.2.1 hz.2.2⟩) (show ((fd + 1 - (j + 1)).toNat) < ((fd + 1 - j).toNat) by
                                omega)
                        · refine J_ldc2 (z := -1) d_Mo_work_95 cst_Mo_145 rfl ?_
                          refine J_goto (tgt := 109) d_Mo_work_98 rfl ?_
                          refine J_lstore d_Mo_work_109 (by decide) rfl ?_
                          refine J_lload d_Mo_work_111 0 rfl ?_
                          refine J_lconst (z := 0) d_Mo_work_113 rfl ?_
                          refine J_lcmp_lt (tgt := 137) d_Mo_work_114 d_Mo_work_115 rfl (by omega) (by omega) (fun h114_17 => ?_) (fun h114_17 => ?_)
                          · refine J_iinc (j := 2) d_Mo_work_137 rfl (by decide) rfl ?_
                            refine J_goto (tgt := 67) d_Mo_work_140 rfl ?_
                            refine J.sub [0, 3, 4, 5, 6] rfl ?_
                            exact ih11 (j + 1, mo4, ct4, nu4, x4, y4) (show (i ≤ (j + 1) ∧ (j + 1) ≤ fd + 1) ∧ (PW nr lf ln bd tm fd dvW ct1 ct4 nu4 mo4 s i (j + 1)) by
                                exact ⟨by omega, pw_skip hP (Or.inl ‹_›)⟩) (show ((fd + 1 - (j + 1)).toNat) < ((fd + 1 - j).toNat) by
                                omega)
                          · exact absurd h114_17 (by decide)
                    · show (i ≤ i ∧ i ≤ fd + 1) ∧ (PW nr lf ln bd tm fd dvW ct1 ct3 nu3 mo3 s i i)
                      exact ⟨by omega, hP3⟩
                · show (0 ≤ (0 : Int) ∧ (0 : Int) ≤ fd + 1) ∧ (PW nr lf ln bd tm fd dvW ct1 ct2 nu2 mo2 s (0 : Int) (0 : Int))
                  exact ⟨by omega, pw_move hP2 (by omega)⟩
            · show (0 ≤ (0 : Int) ∧ (0 : Int) ≤ 5) ∧ (PW nr lf ln bd tm fd dvW ct1 ct1 nu1 false (0 : Int) 0 0)
              exact ⟨by omega, pw_0 hS hE⟩
        · show (CSn nr lf ln bd tm fd dvW (fun _ => false)) ∧ (CEq nr lf ln bd tm fd dvW (fun _ => false) nu) ∧ (true = false → CCl nr lf ln bd tm fd dvW (fun _ => false))
          exact ⟨(fun T _ k h => by cases h), ⟨(fun s' i' j' _ _ _ _ _ h => by cases h), (fun x _ _ h => by cases h)⟩, (fun h => by cases h)⟩
      · refine J_aload_n d_Mo_work_26 rfl 1 rfl ?_
        refine J_get fs_Mo_29 rfl rfl d_Mo_work_27 ?_
        refine J_iload_n d_Mo_work_30 rfl 0 rfl ?_
        refine J_iconst d_Mo_work_31 ?_
        refine J.top (show Value.int (iI 0) = Value.int (iI (bz false)) from rfl) ?_
        refine J_zast rfl (by omega) (by decide) uM_ct d_Mo_work_32 ?_
        refine J_iinc (j := 0) d_Mo_work_33 rfl (by decide) rfl ?_
        refine J_goto (tgt := 19) d_Mo_work_36 rfl ?_
        exact ih3 (k + 1, upI ct0 k false) (show (0 ≤ (k + 1) ∧ (k + 1) ≤ 845) ∧ ((upI ct0 k false) = clr0 ct (k + 1)) by
            exact ⟨by omega, by rw [hc0, clr0_s (by omega)]⟩) (show ((845 - (k + 1)).toNat) < ((845 - k).toNat) by
            omega)
    · show (0 ≤ (0 : Int) ∧ (0 : Int) ≤ 845) ∧ (ct = clr0 ct (0 : Int))
      exact ⟨by omega, (clr0_0 _).symm⟩
  · refine J_vret rfl d_Mo_work_7 ⟨Nat.le_of_ble_eq_true rfl, Nat.le_of_ble_eq_true rfl⟩ ?_
    exact ⟨rfl, dv, ct, nu, c1, c2, by rw [‹wk = true›], hwk ‹_›⟩
set_option maxHeartbeats 4000000 in
theorem c_Mo_isStretch {s : Int} {i : Int} {j : Int} (hf : 0 ≤ fd ∧ fd ≤ 12) (hs : -2147483648 ≤ s ∧ s ≤ 2147483647) (hi : -2147483648 ≤ i ∧ i ≤ 2147483647) (hj : -2147483648 ≤ j ∧ j ≤ 2147483647) : Ct l D b Y_Mo_isStretch { frames := 1, cells := 0, slots := 0, locals := 20 } [Value.ref (ad 0), Value.int (iI s), Value.int (iI i), Value.int (iI j)] (ad, cM ad r lp rf nr lf ln bd fd tm it wk dv ct nu mt c1 c2 td tt tc) (fun v w' => v = some (.int (iI (bz (strB fd s i j)))) ∧ w' = (ad, cM ad r lp rf nr lf ln bd fd tm it wk dv ct nu mt c1 c2 td tt tc)) := by
  refine Ct_of (by decide) (Nat.le_of_ble_eq_true rfl) ?_
  show J l D b Y_Mo_isStretch _ _ (ad, cM ad r lp rf nr lf ln bd fd tm it wk dv ct nu mt c1 c2 td tt tc) 0 0 0 [(0, Value.ref (ad 0)), (1, Value.int (iI s)), (2, Value.int (iI i)), (3, Value.int (iI j))] []
  refine J_iload_n d_Mo_isStretch_0 rfl 1 rfl ?_
  refine J_callS (st := []) [Value.int (iI s)] ms_Mo_69 (c_Mo_isNonterminal (by omega)) rfl rfl ⟨Nat.le_of_ble_eq_true rfl, Nat.le_of_ble_eq_true rfl⟩ ⟨Nat.le_of_ble_eq_true rfl, Nat.le_of_ble_eq_true rfl⟩ (Nat.le_of_ble_eq_true rfl) d_Mo_isStretch_1 (fun v w' hp => ?_)
  obtain ⟨rfl, rfl⟩ := hp
  show J l D b Y_Mo_isStretch _ _ (ad, cM ad r lp rf nr lf ln bd fd tm it wk dv ct nu mt c1 c2 td tt tc) 0 0 4 [(0, Value.ref (ad 0)), (1, Value.int (iI s)), (2, Value.int (iI i)), (3, Value.int (iI j))] [Value.int (iI (bz (ntB s)))]
  refine J_ifB_eq (tgt := 28) d_Mo_isStretch_4 rfl (fun h4_2 => ?_) (fun h4_2 => ?_)
  · have hnt := ntB_no ‹_›
    refine J_iconst d_Mo_isStretch_28 ?_
    refine J.top (show Value.int (iI 0) = Value.int (iI (bz false)) from rfl) ?_
    refine J_zret rfl d_Mo_isStretch_29 ⟨Nat.le_of_ble_eq_true rfl, Nat.le_of_ble_eq_true rfl⟩ ?_
    exact ⟨by unfold strB; rw [decide_eq_false (by omega)], rfl⟩
  · have hnt := ntB_of ‹_›
    refine J_iload_n d_Mo_isStretch_7 rfl 2 rfl ?_
    refine J_if_lt (tgt := 28) d_Mo_isStretch_8 rfl (by omega) (fun h8_3 => ?_) (fun h8_3 => ?_)
    · refine J_iconst d_Mo_isStretch_28 ?_
      refine J.top (show Value.int (iI 0) = Value.int (iI (bz false)) from rfl) ?_
      refine J_zret rfl d_Mo_isStretch_29 ⟨Nat.le_of_ble_eq_true rfl, Nat.le_of_ble_eq_true rfl⟩ ?_
      exact ⟨by unfold strB; rw [decide_eq_false (by omega)], rfl⟩
    · refine J_iload_n d_Mo_isStretch_11 rfl 2 rfl ?_
      refine J_iload_n d_Mo_isStretch_12 rfl 3 rfl ?_
      refine J_icmp_gt (tgt := 28) d_Mo_isStretch_13 rfl (by omega) (by omega) (fun h13_4 => ?_) (fun h13_4 => ?_)
      · refine J_iconst d_Mo_isStretch_28 ?_
        refine J.top (show Value.int (iI 0) = Value.int (iI (bz false)) from rfl) ?_
        refine J_zret rfl d_Mo_isStretch_29 ⟨Nat.le_of_ble_eq_true rfl, Nat.le_of_ble_eq_true rfl⟩ ?_
        exact ⟨by unfold strB; rw [decide_eq_false (by omega)], rfl⟩
      · refine J_iload_n d_Mo_isStretch_16 rfl 3 rfl ?_
        refine J_aload_n d_Mo_isStretch_17 rfl 0 rfl ?_
        refine J_get fs_Mo_97 rfl rfl d_Mo_isStretch_18 ?_
        refine J_icmp_gt (tgt := 28) d_Mo_isStretch_21 rfl (by omega) (by omega) (fun h21_5 => ?_) (fun h21_5 => ?_)
        · refine J_iconst d_Mo_isStretch_28 ?_
          refine J.top (show Value.int (iI 0) = Value.int (iI (bz false)) from rfl) ?_
          refine J_zret rfl d_Mo_isStretch_29 ⟨Nat.le_of_ble_eq_true rfl, Nat.le_of_ble_eq_true rfl⟩ ?_
          exact ⟨by unfold strB; rw [decide_eq_false (by omega)], rfl⟩
        · refine J_iconst d_Mo_isStretch_24 ?_
          refine J_goto (tgt := 29) d_Mo_isStretch_25 rfl ?_
          refine J.top (show Value.int (iI 1) = Value.int (iI (bz true)) from rfl) ?_
          refine J_zret rfl d_Mo_isStretch_29 ⟨Nat.le_of_ble_eq_true rfl, Nat.le_of_ble_eq_true rfl⟩ ?_
          exact ⟨by unfold strB; rw [decide_eq_true (by omega)], rfl⟩
set_option maxHeartbeats 4000000 in
theorem c_Mo_ways {s : Int} {i : Int} {j : Int} (hg : gOK nr lf ln bd) (htm : ∀ x, 0 ≤ x → x < 12 → -2147483648 ≤ tm x ∧ tm x ≤ 2147483647) (hf : 0 ≤ fd ∧ fd ≤ 12) (hwk : wk = true → Wkd nr lf ln bd tm fd dv ct nu) (hs : -2147483648 ≤ s ∧ s ≤ 2147483647) (hi : -2147483648 ≤ i ∧ i ≤ 2147483647) (hj : -2147483648 ≤ j ∧ j ≤ 2147483647) : Ct l D b Y_Mo_ways { frames := 6, cells := 0, slots := 0, locals := 149 } [Value.ref (ad 0), Value.int (iI s), Value.int (iI i), Value.int (iI j)] (ad, cM ad r lp rf nr lf ln bd fd tm it wk dv ct nu mt c1 c2 td tt tc) (fun v w' => ∃ z rf' wk' dv' ct' nu' d1 d2, v = some (.int (iI z)) ∧ w' = (ad, cM ad r lp rf' nr lf ln bd fd tm it wk' dv' ct' nu' mt d1 d2 td tt tc) ∧ ((strB fd s i j = false ∧ z = 0 ∧ rf' = 1 ∧ wk' = wk ∧ dv' = dv ∧ ct' = ct ∧ nu' = nu) ∨ (strB fd s i j = true ∧ rf' = 0 ∧ wk' = true ∧ Wkd nr lf ln bd tm fd dv' ct' nu' ∧ z = cntW (wayT tm (dvT dv') ln (bsM bd) i j) (wl nr lf ln s i j 0)))) := by
  refine Ct_of (by decide) (Nat.le_of_ble_eq_true rfl) ?_
  have hg1 := hg.1
  show J l D b Y_Mo_ways _ _ (ad, cM ad r lp rf nr lf ln bd fd tm it wk dv ct nu mt c1 c2 td tt tc) 0 0 0 [(0, Value.ref (ad 0)), (1, Value.int (iI s)), (2, Value.int (iI i)), (3, Value.int (iI j))] []
  refine J_aload_n d_Mo_ways_0 rfl 0 rfl ?_
  refine J_iconst d_Mo_ways_1 ?_
  refine J_put fs_Mo_53 rfl (Nat.le_of_ble_eq_true rfl) (fun _ h => by cases h; exact Or.inl rfl) rfl rfl uM_obj d_Mo_ways_2 ?_
  refine J_aload_n d_Mo_ways_5 rfl 0 rfl ?_
  refine J_iload_n d_Mo_ways_6 rfl 1 rfl ?_
  refine J_iload_n d_Mo_ways_7 rfl 2 rfl ?_
  refine J_iload_n d_Mo_ways_8 rfl 3 rfl ?_
  refine J_callV (st := []) [Value.int (iI s), Value.int (iI i), Value.int (iI j)] ms_Mo_161 rfl (c_Mo_isStretch (by omega) (by omega) (by omega) (by omega)) rfl rfl ⟨Nat.le_of_ble_eq_true rfl, Nat.le_of_ble_eq_true rfl⟩ ⟨Nat.le_of_ble_eq_true rfl, Nat.le_of_ble_eq_true rfl⟩ (Nat.le_of_ble_eq_true rfl) d_Mo_ways_9 (fun v w' hp => ?_)
  obtain ⟨rfl, rfl⟩ := hp
  show J l D b Y_Mo_ways _ _ (ad, cM ad r lp 0 nr lf ln bd fd tm it wk dv ct nu mt c1 c2 td tt tc) 0 0 12 [(0, Value.ref (ad 0)), (1, Value.int (iI s)), (2, Value.int (iI i)), (3, Value.int (iI j))] [Value.int (iI (bz (strB fd s i j)))]
  refine J_ifB_ne (tgt := 21) d_Mo_ways_12 rfl (fun h12_2 => ?_) (fun h12_2 => ?_)
  · have hst := of_decide_eq_true (show decide (0 ≤ s ∧ s ≤ 4 ∧ 0 ≤ i ∧ i ≤ j ∧ j ≤ fd) = true from ‹strB _ _ _ _ = true›)
    refine J_aload_n d_Mo_ways_21 rfl 0 rfl ?_
    refine J_callV (st := []) [] ms_Mo_164 rfl (c_Mo_work hg htm (by omega) hwk) rfl rfl ⟨Nat.le_of_ble_eq_true rfl, Nat.le_of_ble_eq_true rfl⟩ ⟨Nat.le_of_ble_eq_true rfl, Nat.le_of_ble_eq_true rfl⟩ (Nat.le_of_ble_eq_true rfl) d_Mo_ways_22 (fun v w' hp => ?_)
    obtain ⟨rfl, dvV, ctV, nuV, xV, yV, rfl, hWV⟩ := hp
    show J l D b Y_Mo_ways _ _ (ad, cM ad r lp 0 nr lf ln bd fd tm it true dvV ctV nuV mt xV yV td tt tc) 0 0 25 [(0, Value.ref (ad 0)), (1, Value.int (iI s)), (2, Value.int (iI i)), (3, Value.int (iI j))] []
    refine J_iconst d_Mo_ways_25 ?_
    refine J_istore d_Mo_ways_26 (by decide) rfl ?_
    refine J_iconst d_Mo_ways_28 ?_
    refine J_istore d_Mo_ways_29 (by decide) rfl ?_
    refine J.loop (σ := Int × Int × Int × Int) (fun xx_ => match xx_ with | (r', n, x1, y1) => (0 ≤ r' ∧ r' ≤ nr) ∧ (0 ≤ n ∧ n ≤ 300 * r') ∧ (n + cntW (wayT tm (dvT dvV) ln (bsM bd) i j) (wl nr lf ln s i j r') = cntW (wayT tm (dvT dvV) ln (bsM bd) i j) (wl nr lf ln s i j 0))) (fun xx_ => match xx_ with | (r', n, x1, y1) => (nr - r').toNat) (ws := fun xx_ => match xx_ with | (r', n, x1, y1) => (ad, cM ad r lp 0 nr lf ln bd fd tm it true dvV ctV nuV mt x1 y1 td tt tc)) (ks := fun _ => 0) (ns := fun _ => 0) (lvs := fun xx_ => match xx_ with | (r', n, x1, y1) => [(5, Value.int (iI r')), (4, Value.int (iI n)), (0, Value.ref (ad 0)), (1, Value.int (iI s)), (2, Value.int (iI i)), (3, Value.int (iI j))]) (sts := fun _ => []) ?_ (0, 0, xV, yV) ?_
    · rintro ⟨r', n, x1, y1⟩ hI ih4
      have hI : (0 ≤ r' ∧ r' ≤ nr) ∧ (0 ≤ n ∧ n ≤ 300 * r') ∧ (n + cntW (wayT tm (dvT dvV) ln (bsM bd) i j) (wl nr lf ln s i j r') = cntW (wayT tm (dvT dvV) ln (bsM bd) i j) (wl nr lf ln s i j 0)) := hI
      obtain ⟨hr, hnr, hn⟩ := hI
      show J l D b Y_Mo_ways _ _ (ad, cM ad r lp 0 nr lf ln bd fd tm it true dvV ctV nuV mt x1 y1 td tt tc) 0 0 31 [(5, Value.int (iI r')), (4, Value.int (iI n)), (0, Value.ref (ad 0)), (1, Value.int (iI s)), (2, Value.int (iI i)), (3, Value.int (iI j))] []
      refine J_iload d_Mo_ways_31 0 rfl ?_
      refine J_aload_n d_Mo_ways_33 rfl 2 rfl ?_
      refine J_get fs_Mo_73 rfl rfl d_Mo_ways_34 ?_
      refine J_icmp_ge (tgt := 74) d_Mo_ways_37 rfl (by omega) (by omega) (fun h37_5 => ?_) (fun h37_5 => ?_)
      · refine J_iload d_Mo_ways_74 1 rfl ?_
        refine J_iret rfl d_Mo_ways_76 ⟨Nat.le_of_ble_eq_true rfl, Nat.le_of_ble_eq_true rfl⟩ ?_
        refine ⟨_, _, _, _, _, _, _, _, rfl, rfl, Or.inr ⟨‹_›, rfl, rfl, ‹_›, ?_⟩⟩
        rw [wl_end (r := r') (by omega)] at hn
        exact (show n = n + cntW _ [] from by show n = n + 0; omega).trans hn
      · refine J_iload d_Mo_ways_40 1 rfl ?_
        refine J_aload_n d_Mo_ways_42 rfl 2 rfl ?_
        refine J_get fs_Mo_7 rfl rfl d_Mo_ways_43 ?_
        refine J_iload d_Mo_ways_46 0 rfl ?_
        refine J_iald rfl (by omega) (by decide) d_Mo_ways_48 ?_
        have hlr := hg.2.1 r' (by omega) (by omega)
        refine J_iload_n d_Mo_ways_49 rfl 3 rfl ?_
        refine J_icmp_ne (tgt := 64) d_Mo_ways_50 rfl (by omega) (by omega) (fun h50_6 => ?_) (fun h50_6 => ?_)
        · refine J_iconst d_Mo_ways_64 ?_
          refine J_iadd d_Mo_ways_65 ?_
          refine J_istore d_Mo_ways_66 (by decide) rfl ?_
          refine J_iinc (j := 1) d_Mo_ways_68 rfl (by decide) rfl ?_
          refine J_goto (tgt := 31) d_Mo_ways_71 rfl ?_
          exact ih4 (r' + 1, n + 0, x1, y1) (show (0 ≤ (r' + 1) ∧ (r' + 1) ≤ nr) ∧ (0 ≤ (n + 0) ∧ (n + 0) ≤ 300 * (r' + 1)) ∧ ((n + 0) + cntW (wayT tm (dvT dvV) ln (bsM bd) i j) (wl nr lf ln s i j (r' + 1)) = cntW (wayT tm (dvT dvV) ln (bsM bd) i j) (wl nr lf ln s i j 0)) by
              refine ⟨by omega, by omega, ?_⟩
              rw [← hn, wl_eq (r := r') (by omega), if_neg ‹_›, List.nil_append, Int.add_zero]) (show ((nr - (r' + 1)).toNat) < ((nr - r').toNat) by
              omega)
        · refine J_aload_n d_Mo_ways_53 rfl 2 rfl ?_
          refine J_iload d_Mo_ways_54 0 rfl ?_
          refine J_iload_n d_Mo_ways_56 rfl 4 rfl ?_
          refine J_iload_n d_Mo_ways_57 rfl 5 rfl ?_
          refine J_callV (st := [Value.int (iI n)]) [Value.int (iI r'), Value.int (iI i), Value.int (iI j)] ms_Mo_140 rfl (c_Mo_waysBy hg htm (by omega) (by omega)) rfl rfl ⟨Nat.le_of_ble_eq_true rfl, Nat.le_of_ble_eq_true rfl⟩ ⟨Nat.le_of_ble_eq_true rfl, Nat.le_of_ble_eq_true rfl⟩ (Nat.le_of_ble_eq_true rfl) d_Mo_ways_58 (fun v w' hp => ?_)
          obtain ⟨x7, y7, rfl, rfl⟩ := hp
          show J l D b Y_Mo_ways _ _ (ad, cM ad r lp 0 nr lf ln bd fd tm it true dvV ctV nuV mt x7 y7 td tt tc) 0 0 61 [(5, Value.int (iI r')), (4, Value.int (iI n)), (0, Value.ref (ad 0)), (1, Value.int (iI s)), (2, Value.int (iI i)), (3, Value.int (iI j))] [Value.int (iI (nWays (fun p => wayB tm (dvT dvV) (ln r') (bsM bd r') p.1 p.2 i j) (sfx (ln r') j i i))), Value.int (iI n)]
          have hw7 := nWays_sfx (f := fun p => wayB tm (dvT dvV) (ln r') (bsM bd r') p.1 p.2 i j) (hg.2.2.1 r' (by omega) (by omega)) (i := i) (j := j) (by omega)
          refine J_goto (tgt := 65) d_Mo_ways_61 rfl ?_
          refine J_iadd d_Mo_ways_65 ?_
          refine J_istore d_Mo_ways_66 (by decide) rfl ?_
          refine J_iinc (j := 1) d_Mo_ways_68 rfl (by decide) rfl ?_
          refine J_goto (tgt := 31) d_Mo_ways_71 rfl ?_
          exact ih4 (r' + 1, n + (nWays (fun p => wayB tm (dvT dvV) (ln r') (bsM bd r') p.1 p.2 i j) (sfx (ln r') j i i)), x7, y7) (show (0 ≤ (r' + 1) ∧ (r' + 1) ≤ nr) ∧ (0 ≤ (n + (nWays (fun p => wayB tm (dvT dvV) (ln r') (bsM bd r') p.1 p.2 i j) (sfx (ln r') j i i))) ∧ (n + (nWays (fun p => wayB tm (dvT dvV) (ln r') (bsM bd r') p.1 p.2 i j) (sfx (ln r') j i i))) ≤ 300 * (r' + 1)) ∧ ((n + (nWays (fun p => wayB tm (dvT dvV) (ln r') (bsM bd r') p.1 p.2 i j) (sfx (ln r') j i i))) + cntW (wayT tm (dvT dvV) ln (bsM bd) i j) (wl nr lf ln s i j (r' + 1)) = cntW (wayT tm (dvT dvV) ln (bsM bd) i j) (wl nr lf ln s i j 0)) by
              refine ⟨by omega, by omega, ?_⟩
              rw [← hn, wl_eq (r := r') (by omega), if_pos ‹_›, cntW_app, cntW_map, ← Int.add_assoc]
              rfl) (show ((nr - (r' + 1)).toNat) < ((nr - r').toNat) by
              omega)
    · show (0 ≤ (0 : Int) ∧ (0 : Int) ≤ nr) ∧ (0 ≤ (0 : Int) ∧ (0 : Int) ≤ 300 * (0 : Int)) ∧ ((0 : Int) + cntW (wayT tm (dvT dvV) ln (bsM bd) i j) (wl nr lf ln s i j (0 : Int)) = cntW (wayT tm (dvT dvV) ln (bsM bd) i j) (wl nr lf ln s i j 0))
      exact ⟨by omega, by omega, by rw [Int.zero_add]⟩
  · refine J_aload_n d_Mo_ways_15 rfl 0 rfl ?_
    refine J_iconst d_Mo_ways_16 ?_
    refine J_callV (st := []) [Value.int (iI 1)] ms_Mo_91 rfl (c_Mo_refuse) rfl rfl ⟨Nat.le_of_ble_eq_true rfl, Nat.le_of_ble_eq_true rfl⟩ ⟨Nat.le_of_ble_eq_true rfl, Nat.le_of_ble_eq_true rfl⟩ (Nat.le_of_ble_eq_true rfl) d_Mo_ways_17 (fun v w' hp => ?_)
    obtain ⟨rfl, rfl⟩ := hp
    show J l D b Y_Mo_ways _ _ (ad, cM ad r lp 1 nr lf ln bd fd tm it wk dv ct nu mt c1 c2 td tt tc) 0 0 20 [(0, Value.ref (ad 0)), (1, Value.int (iI s)), (2, Value.int (iI i)), (3, Value.int (iI j))] [Value.int (iI 0)]
    refine J_iret rfl d_Mo_ways_20 ⟨Nat.le_of_ble_eq_true rfl, Nat.le_of_ble_eq_true rfl⟩ ?_
    exact ⟨_, _, _, _, _, _, _, _, rfl, rfl, Or.inl ⟨‹_›, rfl, rfl, rfl, rfl, rfl, rfl⟩⟩
set_option maxHeartbeats 4000000 in
theorem c_Mo_treesOf {s : Int} {i : Int} {j : Int} (hx : 0 ≤ 169 * s + 13 * i + j ∧ 169 * s + 13 * i + j < 845) : Ct l D b Y_Mo_treesOf { frames := 1, cells := 0, slots := 0, locals := 22 } [Value.ref (ad 0), Value.int (iI s), Value.int (iI i), Value.int (iI j)] (ad, cM ad r lp rf nr lf ln bd fd tm it wk dv ct nu mt c1 c2 td tt tc) (fun v w' => v = some (.long (iL (if ct (169 * s + 13 * i + j) = true then nu (169 * s + 13 * i + j) else -1))) ∧ w' = (ad, cM ad r lp rf nr lf ln bd fd tm it wk dv ct nu mt c1 c2 td tt tc)) := by
  refine Ct_of (by decide) (Nat.le_of_ble_eq_true rfl) ?_
  show J l D b Y_Mo_treesOf _ _ (ad, cM ad r lp rf nr lf ln bd fd tm it wk dv ct nu mt c1 c2 td tt tc) 0 0 0 [(0, Value.ref (ad 0)), (1, Value.int (iI s)), (2, Value.int (iI i)), (3, Value.int (iI j))] []
  refine J_iload_n d_Mo_treesOf_0 rfl 1 rfl ?_
  refine J_iload_n d_Mo_treesOf_1 rfl 2 rfl ?_
  refine J_iload_n d_Mo_treesOf_2 rfl 3 rfl ?_
  refine J_callS (st := []) [Value.int (iI s), Value.int (iI i), Value.int (iI j)] ms_Mo_113 (c_Mo_node) rfl rfl ⟨Nat.le_of_ble_eq_true rfl, Nat.le_of_ble_eq_true rfl⟩ ⟨Nat.le_of_ble_eq_true rfl, Nat.le_of_ble_eq_true rfl⟩ (Nat.le_of_ble_eq_true rfl) d_Mo_treesOf_3 (fun v w' hp => ?_)
  obtain ⟨rfl, rfl⟩ := hp
  show J l D b Y_Mo_treesOf _ _ (ad, cM ad r lp rf nr lf ln bd fd tm it wk dv ct nu mt c1 c2 td tt tc) 0 0 6 [(0, Value.ref (ad 0)), (1, Value.int (iI s)), (2, Value.int (iI i)), (3, Value.int (iI j))] [Value.int (iI (169 * s + 13 * i + j))]
  refine J_istore d_Mo_treesOf_6 (by decide) rfl ?_
  refine J_aload_n d_Mo_treesOf_8 rfl 1 rfl ?_
  refine J_get fs_Mo_29 rfl rfl d_Mo_treesOf_9 ?_
  refine J_iload d_Mo_treesOf_12 0 rfl ?_
  refine J_zald rfl (by omega) (by decide) d_Mo_treesOf_14 ?_
  refine J_ifB_eq (tgt := 28) d_Mo_treesOf_15 rfl (fun h15_2 => ?_) (fun h15_2 => ?_)
  · refine J_ldc2 (z := -1) d_Mo_treesOf_28 cst_Mo_145 rfl ?_
    refine J_lret rfl d_Mo_treesOf_31 ⟨Nat.le_of_ble_eq_true rfl, Nat.le_of_ble_eq_true rfl⟩ ?_
    exact ⟨by rw [if_neg (by rw [‹ct _ = false›]; decide)], rfl⟩
  · refine J_aload_n d_Mo_treesOf_18 rfl 1 rfl ?_
    refine J_get fs_Mo_32 rfl rfl d_Mo_treesOf_19 ?_
    refine J_iload d_Mo_treesOf_22 0 rfl ?_
    refine J_lald rfl (by omega) (by decide) d_Mo_treesOf_24 ?_
    refine J_goto (tgt := 31) d_Mo_treesOf_25 rfl ?_
    refine J_lret rfl d_Mo_treesOf_31 ⟨Nat.le_of_ble_eq_true rfl, Nat.le_of_ble_eq_true rfl⟩ ?_
    exact ⟨by rw [if_pos ‹_›], rfl⟩
set_option maxHeartbeats 4000000 in
theorem c_Mo_trees {s : Int} {i : Int} {j : Int} (hg : gOK nr lf ln bd) (htm : ∀ x, 0 ≤ x → x < 12 → -2147483648 ≤ tm x ∧ tm x ≤ 2147483647) (hf : 0 ≤ fd ∧ fd ≤ 12) (hwk : wk = true → Wkd nr lf ln bd tm fd dv ct nu) (hs : -2147483648 ≤ s ∧ s ≤ 2147483647) (hi : -2147483648 ≤ i ∧ i ≤ 2147483647) (hj : -2147483648 ≤ j ∧ j ≤ 2147483647) : Ct l D b Y_Mo_trees { frames := 6, cells := 0, slots := 0, locals := 149 } [Value.ref (ad 0), Value.int (iI s), Value.int (iI i), Value.int (iI j)] (ad, cM ad r lp rf nr lf ln bd fd tm it wk dv ct nu mt c1 c2 td tt tc) (fun v w' => ∃ z rf' wk' dv' ct' nu' d1 d2, v = some (.long (iL z)) ∧ w' = (ad, cM ad r lp rf' nr lf ln bd fd tm it wk' dv' ct' nu' mt d1 d2 td tt tc) ∧ ((strB fd s i j = false ∧ z = 0 ∧ rf' = 1 ∧ wk' = wk ∧ dv' = dv ∧ ct' = ct ∧ nu' = nu) ∨ (strB fd s i j = true ∧ rf' = 0 ∧ wk' = true ∧ Wkd nr lf ln bd tm fd dv' ct' nu' ∧ z = if ct' (169 * s + 13 * i + j) = true then nu' (169 * s + 13 * i + j) else -1))) := by
  refine Ct_of (by decide) (Nat.le_of_ble_eq_true rfl) ?_
  have hg1 := hg.1
  show J l D b Y_Mo_trees _ _ (ad, cM ad r lp rf nr lf ln bd fd tm it wk dv ct nu mt c1 c2 td tt tc) 0 0 0 [(0, Value.ref (ad 0)), (1, Value.int (iI s)), (2, Value.int (iI i)), (3, Value.int (iI j))] []
  refine J_aload_n d_Mo_trees_0 rfl 0 rfl ?_
  refine J_iconst d_Mo_trees_1 ?_
  refine J_put fs_Mo_53 rfl (Nat.le_of_ble_eq_true rfl) (fun _ h => by cases h; exact Or.inl rfl) rfl rfl uM_obj d_Mo_trees_2 ?_
  refine J_aload_n d_Mo_trees_5 rfl 0 rfl ?_
  refine J_iload_n d_Mo_trees_6 rfl 1 rfl ?_
  refine J_iload_n d_Mo_trees_7 rfl 2 rfl ?_
  refine J_iload_n d_Mo_trees_8 rfl 3 rfl ?_
  refine J_callV (st := []) [Value.int (iI s), Value.int (iI i), Value.int (iI j)] ms_Mo_161 rfl (c_Mo_isStretch (by omega) (by omega) (by omega) (by omega)) rfl rfl ⟨Nat.le_of_ble_eq_true rfl, Nat.le_of_ble_eq_true rfl⟩ ⟨Nat.le_of_ble_eq_true rfl, Nat.le_of_ble_eq_true rfl⟩ (Nat.le_of_ble_eq_true rfl) d_Mo_trees_9 (fun v w' hp => ?_)
  obtain ⟨rfl, rfl⟩ := hp
  show J l D b Y_Mo_trees _ _ (ad, cM ad r lp 0 nr lf ln bd fd tm it wk dv ct nu mt c1 c2 td tt tc) 0 0 12 [(0, Value.ref (ad 0)), (1, Value.int (iI s)), (2, Value.int (iI i)), (3, Value.int (iI j))] [Value.int (iI (bz (strB fd s i j)))]
  refine J_ifB_ne (tgt := 22) d_Mo_trees_12 rfl (fun h12_2 => ?_) (fun h12_2 => ?_)
  · have hst := of_decide_eq_true (show decide (0 ≤ s ∧ s ≤ 4 ∧ 0 ≤ i ∧ i ≤ j ∧ j ≤ fd) = true from ‹strB _ _ _ _ = true›)
    refine J_aload_n d_Mo_trees_22 rfl 0 rfl ?_
    refine J_callV (st := []) [] ms_Mo_164 rfl (c_Mo_work hg htm (by omega) hwk) rfl rfl ⟨Nat.le_of_ble_eq_true rfl, Nat.le_of_ble_eq_true rfl⟩ ⟨Nat.le_of_ble_eq_true rfl, Nat.le_of_ble_eq_true rfl⟩ (Nat.le_of_ble_eq_true rfl) d_Mo_trees_23 (fun v w' hp => ?_)
    obtain ⟨rfl, dv3, ct3, nu3, x3, y3, rfl, hW3⟩ := hp
    show J l D b Y_Mo_trees _ _ (ad, cM ad r lp 0 nr lf ln bd fd tm it true dv3 ct3 nu3 mt x3 y3 td tt tc) 0 0 26 [(0, Value.ref (ad 0)), (1, Value.int (iI s)), (2, Value.int (iI i)), (3, Value.int (iI j))] []
    refine J_aload_n d_Mo_trees_26 rfl 0 rfl ?_
    refine J_iload_n d_Mo_trees_27 rfl 1 rfl ?_
    refine J_iload_n d_Mo_trees_28 rfl 2 rfl ?_
    refine J_iload_n d_Mo_trees_29 rfl 3 rfl ?_
    refine J_callV (st := []) [Value.int (iI s), Value.int (iI i), Value.int (iI j)] ms_Mo_167 rfl (c_Mo_treesOf (by omega)) rfl rfl ⟨Nat.le_of_ble_eq_true rfl, Nat.le_of_ble_eq_true rfl⟩ ⟨Nat.le_of_ble_eq_true rfl, Nat.le_of_ble_eq_true rfl⟩ (Nat.le_of_ble_eq_true rfl) d_Mo_trees_30 (fun v w' hp => ?_)
    obtain ⟨rfl, rfl⟩ := hp
    show J l D b Y_Mo_trees _ _ (ad, cM ad r lp 0 nr lf ln bd fd tm it true dv3 ct3 nu3 mt x3 y3 td tt tc) 0 0 33 [(0, Value.ref (ad 0)), (1, Value.int (iI s)), (2, Value.int (iI i)), (3, Value.int (iI j))] [Value.long (iL (if ct3 (169 * s + 13 * i + j) = true then nu3 (169 * s + 13 * i + j) else -1))]
    refine J_lret rfl d_Mo_trees_33 ⟨Nat.le_of_ble_eq_true rfl, Nat.le_of_ble_eq_true rfl⟩ ?_
    exact ⟨_, _, _, _, _, _, _, _, rfl, rfl, Or.inr ⟨‹_›, rfl, rfl, ‹_›, rfl⟩⟩
  · refine J_aload_n d_Mo_trees_15 rfl 0 rfl ?_
    refine J_iconst d_Mo_trees_16 ?_
    refine J_put fs_Mo_53 rfl (Nat.le_of_ble_eq_true rfl) (fun _ h => by cases h; exact Or.inl rfl) rfl rfl uM_obj d_Mo_trees_17 ?_
    refine J_lconst (z := 0) d_Mo_trees_20 rfl ?_
    refine J_lret rfl d_Mo_trees_21 ⟨Nat.le_of_ble_eq_true rfl, Nat.le_of_ble_eq_true rfl⟩ ?_
    exact ⟨_, _, _, _, _, _, _, _, rfl, rfl, Or.inl ⟨‹_›, rfl, rfl, rfl, rfl, rfl, rfl⟩⟩
end M8
