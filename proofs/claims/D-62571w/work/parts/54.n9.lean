section N9
variable {l : Launch} {D : jD} {b : Nat} {w : jW} {ad : Nat → Nat} {r : Nat → Option jE} {lp : Bool} {fd : Int} {nr : Int} {nc : Int} {nd : Int} {mc : Int} {lf : Int → Int} {ln : Int → Int} {bd : Int → Int} {tm : Int → Int} {it : Int → Int → Int} {th : Int → Int → Bool} {my : Int → Int} {lps : Int → Int → Int} {em : Int → Int} {mk : Int → Int → Int} {tr : Int → Int → Int → Int} {wg : Bool} {wr : Value} {we : Int} {wc : Int → Int} {wb : Bool} {vg : Bool} {vr : Value} {ve : Int} {vc : Int → Int} {vb : Bool} {sy : Int → Int} {sf : Int → Int} {so : Int → Int} {st : Int → Int} {sn : Int} {ne : Int → Int} {mt : Int → Int → Bool}
set_option maxHeartbeats 4000000 in
theorem c_CF_countAll {i : Int}  (hg : gOK nr lf ln bd) (htm : ∀ x, 0 ≤ x → x < 12 → -2147483648 ≤ tm x ∧ tm x ≤ 2147483647) (hmk : MkR mk) (htr : TrR tr) (hf : 0 ≤ fd ∧ fd ≤ 12) (hij : 0 ≤ i ∧ i ≤ fd) (hN : NRs (N0f nr lf ln bd tm (dvM mk) tr i fd) ne) : Ct l D b Y_CF_countAll { frames := 4, cells := 0, slots := 0, locals := 93 } [Value.ref (ad 100), Value.ref (ad (idX fd i)), Value.int (iI i)] (ad, cC ad r lp fd nr nr nr mc lf ln bd tm it th my lps em mk tr wg wr we wc wb vg vr ve vc vb sy sf so st sn ne mt) (fun v w' => v = none ∧ ∃ T g' r' e' cu' b', w' = (ad, cC ad r lp fd nr nr nr mc lf ln bd tm it th my lps em mk (trI tr i fd T) g' r' e' cu' b' vg vr ve vc vb sy sf so st sn ne mt) ∧ LCnt nr lf ln bd tm (dvM mk) tr i fd T) := by
  refine Ct_of (by decide) (Nat.le_of_ble_eq_true rfl) ?_
  show J l D b Y_CF_countAll _ _ (ad, cC ad r lp fd nr nr nr mc lf ln bd tm it th my lps em mk tr wg wr we wc wb vg vr ve vc vb sy sf so st sn ne mt) 0 0 0 [(0, Value.ref (ad 100)), (1, Value.ref (ad (idX fd i))), (2, Value.int (iI i))] []
  refine J_iconst d_CF_countAll_0 ?_
  refine J_istore_n d_CF_countAll_1 rfl (by decide) rfl ?_
  refine J_iconst d_CF_countAll_2 ?_
  refine J_istore d_CF_countAll_3 (by decide) rfl ?_
  refine J.loop (σ := Int × Int) (fun xx_ => match xx_ with | (s, e) => ((0 ≤ s ∧ s ≤ 5) ∧ (0 ≤ e ∧ e ≤ 31)) ∧ (∀ x, 0 ≤ x → x ≤ 4 → (bit e x = true ↔ x < s ∧ (bS (ne x) x ∨ bS (ne x) 30)))) (fun xx_ => match xx_ with | (s, e) => (5 - s).toNat) (ws := fun xx_ => match xx_ with | (s, e) => (ad, cC ad r lp fd nr nr nr mc lf ln bd tm it th my lps em mk tr wg wr we wc wb vg vr ve vc vb sy sf so st sn ne mt)) (ks := fun _ => 0) (ns := fun _ => 0) (lvs := fun xx_ => match xx_ with | (s, e) => [(4, Value.int (iI s)), (3, Value.int (iI e)), (0, Value.ref (ad 100)), (1, Value.ref (ad (idX fd i))), (2, Value.int (iI i))]) (sts := fun _ => []) ?_ (0, 0) ?_
  · rintro ⟨s, e⟩ hI ih1
    have hI : ((0 ≤ s ∧ s ≤ 5) ∧ (0 ≤ e ∧ e ≤ 31)) ∧ (∀ x, 0 ≤ x → x ≤ 4 → (bit e x = true ↔ x < s ∧ (bS (ne x) x ∨ bS (ne x) 30))) := hI
    obtain ⟨hs, hE⟩ := hI
    show J l D b Y_CF_countAll _ _ (ad, cC ad r lp fd nr nr nr mc lf ln bd tm it th my lps em mk tr wg wr we wc wb vg vr ve vc vb sy sf so st sn ne mt) 0 0 5 [(4, Value.int (iI s)), (3, Value.int (iI e)), (0, Value.ref (ad 100)), (1, Value.ref (ad (idX fd i))), (2, Value.int (iI i))] []
    refine J_iload d_CF_countAll_5 0 rfl ?_
    refine J_iconst d_CF_countAll_7 ?_
    refine J_icmp_ge (tgt := 57) d_CF_countAll_8 rfl (by omega) (by omega) (fun h8_2 => ?_) (fun h8_2 => ?_)
    · refine J_iconst d_CF_countAll_57 ?_
      refine J_istore d_CF_countAll_58 (by decide) rfl ?_
      refine J_iconst d_CF_countAll_60 ?_
      refine J_istore d_CF_countAll_61 (by decide) rfl ?_
      have hEE : EnE ne e := ⟨hs.2, fun x a b => by rw [hE x a b]; exact ⟨fun h => h.2, fun h => ⟨by omega, h⟩⟩⟩
      have hs0 := hs.2
      refine J.sub [0, 1, 2, 3, 4, 5] (lv' := [(5, Value.int (iI 0)), (4, Value.int (iI 0)), (3, Value.int (iI e)), (0, Value.ref (ad 100)), (1, Value.ref (ad (idX fd i))), (2, Value.int (iI i))]) rfl ?_
      refine J.loop (σ := Int × Int × (Int → Int → Int → Int) × (Int → Int)) (fun xx_ => match xx_ with | (s, d, tr1, T1) => ((0 ≤ s ∧ s ≤ 5) ∧ (0 ≤ d ∧ d ≤ 31)) ∧ (tr1 = trI tr i fd T1) ∧ (∀ x, 0 ≤ x → x ≤ 4 → (bit d x = true ↔ x < s ∧ EnA ne e x) ∧ (x < s → EnA ne e x → T1 x = -1))) (fun xx_ => match xx_ with | (s, d, tr1, T1) => (5 - s).toNat) (ws := fun xx_ => match xx_ with | (s, d, tr1, T1) => (ad, cC ad r lp fd nr nr nr mc lf ln bd tm it th my lps em mk tr1 wg wr we wc wb vg vr ve vc vb sy sf so st sn ne mt)) (ks := fun _ => 0) (ns := fun _ => 0) (lvs := fun xx_ => match xx_ with | (s, d, tr1, T1) => [(5, Value.int (iI s)), (4, Value.int (iI d)), (3, Value.int (iI e)), (0, Value.ref (ad 100)), (1, Value.ref (ad (idX fd i))), (2, Value.int (iI i))]) (sts := fun _ => []) ?_ (0, 0, tr, tr fd i) ?_
      · rintro ⟨s, d, tr1, T1⟩ hI ih3
        have hI : ((0 ≤ s ∧ s ≤ 5) ∧ (0 ≤ d ∧ d ≤ 31)) ∧ (tr1 = trI tr i fd T1) ∧ (∀ x, 0 ≤ x → x ≤ 4 → (bit d x = true ↔ x < s ∧ EnA ne e x) ∧ (x < s → EnA ne e x → T1 x = -1)) := hI
        obtain ⟨hs, ht1, hD⟩ := hI
        show J l D b Y_CF_countAll _ _ (ad, cC ad r lp fd nr nr nr mc lf ln bd tm it th my lps em mk tr1 wg wr we wc wb vg vr ve vc vb sy sf so st sn ne mt) 0 0 63 [(5, Value.int (iI s)), (4, Value.int (iI d)), (3, Value.int (iI e)), (0, Value.ref (ad 100)), (1, Value.ref (ad (idX fd i))), (2, Value.int (iI i))] []
        refine J_iload d_CF_countAll_63 0 rfl ?_
        refine J_iconst d_CF_countAll_65 ?_
        refine J_icmp_ge (tgt := 113) d_CF_countAll_66 rfl (by omega) (by omega) (fun h66_4 => ?_) (fun h66_4 => ?_)
        · refine J_iconst d_CF_countAll_113 ?_
          refine J_istore d_CF_countAll_114 (by decide) rfl ?_
          refine J.loop (σ := Int × Int × (Int → Int → Int → Int) × (Int → Int) × Bool × Value × Int × (Int → Int) × Bool) (fun xx_ => match xx_ with | (n, d2, tr2, T2, g2, r2, e2, cu2, b2) => ((0 ≤ n ∧ n ≤ 5) ∧ (0 ≤ d2 ∧ d2 ≤ 31)) ∧ (tr2 = trI tr i fd T2) ∧ (CP nr lf ln bd tm (dvM mk) tr i fd ne e d2 T2 n 0)) (fun xx_ => match xx_ with | (n, d2, tr2, T2, g2, r2, e2, cu2, b2) => (5 - n).toNat) (ws := fun xx_ => match xx_ with | (n, d2, tr2, T2, g2, r2, e2, cu2, b2) => (ad, cC ad r lp fd nr nr nr mc lf ln bd tm it th my lps em mk tr2 g2 r2 e2 cu2 b2 vg vr ve vc vb sy sf so st sn ne mt)) (ks := fun _ => 0) (ns := fun _ => 0) (lvs := fun xx_ => match xx_ with | (n, d2, tr2, T2, g2, r2, e2, cu2, b2) => [(5, Value.int (iI n)), (4, Value.int (iI d2)), (3, Value.int (iI e)), (0, Value.ref (ad 100)), (1, Value.ref (ad (idX fd i))), (2, Value.int (iI i))]) (sts := fun _ => []) ?_ (0, d, tr1, T1, wg, wr, we, wc, wb) ?_
          · rintro ⟨n, d2, tr2, T2, g2, r2, e2, cu2, b2⟩ hI ih5
            have hI : ((0 ≤ n ∧ n ≤ 5) ∧ (0 ≤ d2 ∧ d2 ≤ 31)) ∧ (tr2 = trI tr i fd T2) ∧ (CP nr lf ln bd tm (dvM mk) tr i fd ne e d2 T2 n 0) := hI
            obtain ⟨hn, ht2, hC2⟩ := hI
            show J l D b Y_CF_countAll _ _ (ad, cC ad r lp fd nr nr nr mc lf ln bd tm it th my lps em mk tr2 g2 r2 e2 cu2 b2 vg vr ve vc vb sy sf so st sn ne mt) 0 0 116 [(5, Value.int (iI n)), (4, Value.int (iI d2)), (3, Value.int (iI e)), (0, Value.ref (ad 100)), (1, Value.ref (ad (idX fd i))), (2, Value.int (iI i))] []
            refine J_iload d_CF_countAll_116 0 rfl ?_
            refine J_iconst d_CF_countAll_118 ?_
            refine J_icmp_ge (tgt := 195) d_CF_countAll_119 rfl (by omega) (by omega) (fun h119_6 => ?_) (fun h119_6 => ?_)
            · refine J_vret rfl d_CF_countAll_195 ⟨Nat.le_of_ble_eq_true rfl, Nat.le_of_ble_eq_true rfl⟩ ?_
              refine ⟨rfl, T2, _, _, _, _, _, by rw [ht2], cp_end hg (by omega) hN hEE (e := e) (d := d2) ?_⟩
              rw [show n = 5 by omega] at hC2
              exact hC2
            · refine J_iconst d_CF_countAll_122 ?_
              refine J_istore d_CF_countAll_123 (by decide) rfl ?_
              refine J.loop (σ := Int × Int × (Int → Int → Int → Int) × (Int → Int) × Bool × Value × Int × (Int → Int) × Bool) (fun xx_ => match xx_ with | (s, d3, tr3, T3, g3, r3, e3, cu3, b3) => ((0 ≤ s ∧ s ≤ 5) ∧ (0 ≤ d3 ∧ d3 ≤ 31)) ∧ (tr3 = trI tr i fd T3) ∧ (CP nr lf ln bd tm (dvM mk) tr i fd ne e d3 T3 n s)) (fun xx_ => match xx_ with | (s, d3, tr3, T3, g3, r3, e3, cu3, b3) => (5 - s).toNat) (ws := fun xx_ => match xx_ with | (s, d3, tr3, T3, g3, r3, e3, cu3, b3) => (ad, cC ad r lp fd nr nr nr mc lf ln bd tm it th my lps em mk tr3 g3 r3 e3 cu3 b3 vg vr ve vc vb sy sf so st sn ne mt)) (ks := fun _ => 0) (ns := fun _ => 0) (lvs := fun xx_ => match xx_ with | (s, d3, tr3, T3, g3, r3, e3, cu3, b3) => [(6, Value.int (iI s)), (5, Value.int (iI n)), (4, Value.int (iI d3)), (3, Value.int (iI e)), (0, Value.ref (ad 100)), (1, Value.ref (ad (idX fd i))), (2, Value.int (iI i))]) (sts := fun _ => []) ?_ (0, d2, tr2, T2, g2, r2, e2, cu2, b2) ?_
              · rintro ⟨s, d3, tr3, T3, g3, r3, e3, cu3, b3⟩ hI ih7
                have hI : ((0 ≤ s ∧ s ≤ 5) ∧ (0 ≤ d3 ∧ d3 ≤ 31)) ∧ (tr3 = trI tr i fd T3) ∧ (CP nr lf ln bd tm (dvM mk) tr i fd ne e d3 T3 n s) := hI
                obtain ⟨hs3, ht3, hC⟩ := hI
                show J l D b Y_CF_countAll _ _ (ad, cC ad r lp fd nr nr nr mc lf ln bd tm it th my lps em mk tr3 g3 r3 e3 cu3 b3 vg vr ve vc vb sy sf so st sn ne mt) 0 0 125 [(6, Value.int (iI s)), (5, Value.int (iI n)), (4, Value.int (iI d3)), (3, Value.int (iI e)), (0, Value.ref (ad 100)), (1, Value.ref (ad (idX fd i))), (2, Value.int (iI i))] []
                refine J_iload d_CF_countAll_125 0 rfl ?_
                refine J_iconst d_CF_countAll_127 ?_
                refine J_icmp_ge (tgt := 189) d_CF_countAll_128 rfl (by omega) (by omega) (fun h128_8 => ?_) (fun h128_8 => ?_)
                · refine J_iinc (j := 1) d_CF_countAll_189 rfl (by decide) rfl ?_
                  refine J_goto (tgt := 116) d_CF_countAll_192 rfl ?_
                  refine J.sub [0, 2, 3, 4, 5, 6] rfl ?_
                  exact ih5 (n + 1, d3, tr3, T3, g3, r3, e3, cu3, b3) (show ((0 ≤ (n + 1) ∧ (n + 1) ≤ 5) ∧ (0 ≤ d3 ∧ d3 ≤ 31)) ∧ (tr3 = trI tr i fd T3) ∧ (CP nr lf ln bd tm (dvM mk) tr i fd ne e d3 T3 (n + 1) 0) by
                      exact ⟨⟨by omega, hs3.2⟩, ht3, cp_s hC (by omega)⟩) (show ((5 - (n + 1)).toNat) < ((5 - n).toNat) by
                      omega)
                · refine J_iload d_CF_countAll_131 2 rfl ?_
                  refine J_iload d_CF_countAll_133 0 rfl ?_
                  refine J_ishr d_CF_countAll_135 (iI_shr (by omega) (by omega)) ?_
                  refine J_iconst d_CF_countAll_136 ?_
                  refine J_iand d_CF_countAll_137 (iI_bit (by omega)) ?_
                  refine J_ifB_ne (tgt := 183) d_CF_countAll_138 rfl (fun h138_9 => ?_) (fun h138_9 => ?_)
                  · refine J_iinc (j := 0) d_CF_countAll_183 rfl (by decide) rfl ?_
                    refine J_goto (tgt := 125) d_CF_countAll_186 rfl ?_
                    exact ih7 (s + 1, d3, tr3, T3, g3, r3, e3, cu3, b3) (show ((0 ≤ (s + 1) ∧ (s + 1) ≤ 5) ∧ (0 ≤ d3 ∧ d3 ≤ 31)) ∧ (tr3 = trI tr i fd T3) ∧ (CP nr lf ln bd tm (dvM mk) tr i fd ne e d3 T3 n (s + 1)) by
                        refine ⟨⟨by omega, hs3.2⟩, ht3, cp_no hN hEE hC (by omega) ?_⟩
                        first
                          | exact Or.inl ‹bit d3 s = true›
                          | (right
                             refine Classical.byContradiction fun h => ‹anC _ _ ≠ 0› (hanC.2.2.mpr fun t t1 t2 t3 => Classical.byContradiction fun t4 => h ⟨t, ⟨t1, t2⟩, ⟨t1, ?_⟩, t4⟩)
                             rw [bit_an, Bool.and_eq_true] at t3
                             exact t3.1)) (show ((5 - (s + 1)).toNat) < ((5 - s).toNat) by
                        omega)
                  · have hnr := hN.1 s (by omega) (by omega)
                    have han := anI_31 (a := ne s)
                    have hanC := iI_anC han hs3.2
                    refine J_aload_n d_CF_countAll_141 rfl 4 rfl ?_
                    refine J_get fs_CF_60 rfl rfl d_CF_countAll_142 ?_
                    refine J_iload d_CF_countAll_145 0 rfl ?_
                    refine J_iald rfl (by omega) (by decide) d_CF_countAll_147 ?_
                    refine J_bipush d_CF_countAll_148 (by decide) ?_
                    refine J_iand d_CF_countAll_150 (iI_and hnr (by omega)) ?_
                    refine J_iload d_CF_countAll_151 2 rfl ?_
                    refine J_iconst d_CF_countAll_153 ?_
                    refine J_ixor d_CF_countAll_154 rfl ?_
                    refine J_iand d_CF_countAll_155 hanC.1 ?_
                    refine J_if_ne (tgt := 183) d_CF_countAll_156 rfl (by omega) (fun h156_10 => ?_) (fun h156_10 => ?_)
                    · refine J_iinc (j := 0) d_CF_countAll_183 rfl (by decide) rfl ?_
                      refine J_goto (tgt := 125) d_CF_countAll_186 rfl ?_
                      exact ih7 (s + 1, d3, tr3, T3, g3, r3, e3, cu3, b3) (show ((0 ≤ (s + 1) ∧ (s + 1) ≤ 5) ∧ (0 ≤ d3 ∧ d3 ≤ 31)) ∧ (tr3 = trI tr i fd T3) ∧ (CP nr lf ln bd tm (dvM mk) tr i fd ne e d3 T3 n (s + 1)) by
                          refine ⟨⟨by omega, hs3.2⟩, ht3, cp_no hN hEE hC (by omega) ?_⟩
                          first
                            | exact Or.inl ‹bit d3 s = true›
                            | (right
                               refine Classical.byContradiction fun h => ‹anC _ _ ≠ 0› (hanC.2.2.mpr fun t t1 t2 t3 => Classical.byContradiction fun t4 => h ⟨t, ⟨t1, t2⟩, ⟨t1, ?_⟩, t4⟩)
                               rw [bit_an, Bool.and_eq_true] at t3
                               exact t3.1)) (show ((5 - (s + 1)).toNat) < ((5 - s).toNat) by
                          omega)
                    · have hbs : ¬ bit d3 s = true := by rw [‹bit d3 s = false›]; decide
                      have hcn : ∀ t, 0 ≤ t → t ≤ 4 → bS (ne s) t → bit d3 t = true := by
                        intro t t1 t2 t3
                        refine hanC.2.2.mp ‹_› t t1 t2 ?_
                        rw [bit_an, t3.2]
                        have : t = 0 ∨ t = 1 ∨ t = 2 ∨ t = 3 ∨ t = 4 := by omega
                        rcases this with rfl | rfl | rfl | rfl | rfl <;> decide
                      have hka : ∀ q ∈ wl nr lf ln s i fd 0, wayT tm (dvM mk) ln (bsM bd) i fd q = true → ∀ k, 0 ≤ k → k < ln q.1 → bsM bd q.1 k < 8 → 0 ≤ nuM tr3 (bsM bd q.1 k) (cutV (ln q.1) q.2.1 q.2.2 k i fd) (cutV (ln q.1) q.2.1 q.2.2 (k + 1) i fd) ∧ nuM tr3 (bsM bd q.1 k) (cutV (ln q.1) q.2.1 q.2.2 k i fd) (cutV (ln q.1) q.2.1 q.2.2 (k + 1) i fd) ≤ 1000000000000 := by
                        rw [ht3]
                        exact cp_kids hN hEE hg (by omega) htr hC (by omega) hbs hcn
                      refine J_aload_n d_CF_countAll_159 rfl 5 rfl ?_
                      refine J_iload d_CF_countAll_160 0 rfl ?_
                      refine J_aload_n d_CF_countAll_162 rfl 4 rfl ?_
                      refine J_iload d_CF_countAll_163 0 rfl ?_
                      refine J_iload_n d_CF_countAll_165 rfl 6 rfl ?_
                      refine J_aload_n d_CF_countAll_166 rfl 4 rfl ?_
                      refine J_get fs_CF_109 rfl rfl d_CF_countAll_167 ?_
                      refine J_callV (st := [Value.int (iI s), Value.ref (ad (idX fd i))]) [Value.int (iI s), Value.int (iI i), Value.int (iI fd)] ms_CF_234 rfl (c_CF_counted hg htm hmk (by omega) (by omega) hka) rfl rfl ⟨Nat.le_of_ble_eq_true rfl, Nat.le_of_ble_eq_true rfl⟩ ⟨Nat.le_of_ble_eq_true rfl, Nat.le_of_ble_eq_true rfl⟩ (Nat.le_of_ble_eq_true rfl) d_CF_countAll_170 (fun v w' hp => ?_)
                      obtain ⟨z11, g11, r11, e11, cu11, b11, rfl, rfl, hY11⟩ := hp
                      show J l D b Y_CF_countAll _ _ (ad, cC ad r lp fd nr nr nr mc lf ln bd tm it th my lps em mk tr3 g11 r11 e11 cu11 b11 vg vr ve vc vb sy sf so st sn ne mt) 0 0 173 [(6, Value.int (iI s)), (5, Value.int (iI n)), (4, Value.int (iI d3)), (3, Value.int (iI e)), (0, Value.ref (ad 100)), (1, Value.ref (ad (idX fd i))), (2, Value.int (iI i))] [Value.long (iL z11), Value.int (iI s), Value.ref (ad (idX fd i))]
                      refine J_last (hidX (k := fd) (j := i) (by omega) (by omega)) (by omega) (by decide) (uidX_tr (k := fd) (j := i) (by omega) (by omega)) d_CF_countAll_173 ?_
                      refine J_iload d_CF_countAll_174 2 rfl ?_
                      refine J_iconst d_CF_countAll_176 ?_
                      refine J_iload d_CF_countAll_177 0 rfl ?_
                      refine J_ishl d_CF_countAll_179 (iI_shl1 (by omega)) ?_
                      refine J_ior d_CF_countAll_180 (iI_or (by omega) (by have := p2_rng (s := s) (by omega); omega)) ?_
                      refine J_istore d_CF_countAll_181 (by decide) rfl ?_
                      refine J_iinc (j := 1) d_CF_countAll_183 rfl (by decide) rfl ?_
                      refine J_goto (tgt := 125) d_CF_countAll_186 rfl ?_
                      refine J.sub [0, 2, 1, 3, 4, 5, 6] rfl ?_
                      exact ih7 (s + 1, orI d3 (p2 s), upI tr3 fd (upI (tr3 fd) i (upI (tr3 fd i) s z11)), upI T3 s z11, g11, r11, e11, cu11, b11) (show ((0 ≤ (s + 1) ∧ (s + 1) ≤ 5) ∧ (0 ≤ (orI d3 (p2 s)) ∧ (orI d3 (p2 s)) ≤ 31)) ∧ ((upI tr3 fd (upI (tr3 fd) i (upI (tr3 fd i) s z11))) = trI tr i fd (upI T3 s z11)) ∧ (CP nr lf ln bd tm (dvM mk) tr i fd ne e (orI d3 (p2 s)) (upI T3 s z11) n (s + 1)) by
                          have hp9 := p2_31 (s := s) (by omega)
                          refine ⟨⟨by omega, by have := orI_31 hs3.2 (show 0 ≤ p2 s ∧ p2 s ≤ 31 by omega); omega⟩, ?_, cp_yes hg (by omega) hN hEE hC (by omega) hbs hcn ?_ hY11.2⟩
                          · rw [ht3, trI_up]
                          · rw [hY11.1, ht3, nuM_trI]
                            rfl) (show ((5 - (s + 1)).toNat) < ((5 - s).toNat) by
                          omega)
              · show ((0 ≤ (0 : Int) ∧ (0 : Int) ≤ 5) ∧ (0 ≤ d2 ∧ d2 ≤ 31)) ∧ (tr2 = trI tr i fd T2) ∧ (CP nr lf ln bd tm (dvM mk) tr i fd ne e d2 T2 n (0 : Int))
                exact ⟨⟨by omega, hn.2⟩, ht2, hC2⟩
          · show ((0 ≤ (0 : Int) ∧ (0 : Int) ≤ 5) ∧ (0 ≤ d ∧ d ≤ 31)) ∧ (tr1 = trI tr i fd T1) ∧ (CP nr lf ln bd tm (dvM mk) tr i fd ne e d T1 (0 : Int) 0)
            refine ⟨⟨by omega, hs.2⟩, ht1, cp_0 hs.2 (fun x a b => ?_)⟩
            obtain ⟨k1, k2⟩ := hD x a b
            exact ⟨by rw [k1]; exact ⟨fun h => h.2, fun h => ⟨by omega, h⟩⟩, fun h => k2 (by omega) h⟩
        · refine J_iload_n d_CF_countAll_69 rfl 2 rfl ?_
          refine J_iload d_CF_countAll_70 0 rfl ?_
          refine J_ishr d_CF_countAll_72 (iI_shr (by omega) (by omega)) ?_
          refine J_iconst d_CF_countAll_73 ?_
          refine J_iand d_CF_countAll_74 (iI_bit (by omega)) ?_
          refine J_iconst d_CF_countAll_75 ?_
          refine J_icmpB_eq (tgt := 91) d_CF_countAll_76 rfl (fun h76_12 => ?_) (fun h76_12 => ?_)
          · refine J_aload_n d_CF_countAll_91 rfl 4 rfl ?_
            refine J_iload d_CF_countAll_92 0 rfl ?_
            refine J_ldc2 (z := -1) d_CF_countAll_94 cst_CF_199 rfl ?_
            refine J_last (hidX (k := fd) (j := i) (by omega) (by omega)) (by omega) (by decide) (uidX_tr (k := fd) (j := i) (by omega) (by omega)) d_CF_countAll_97 ?_
            refine J_iload d_CF_countAll_98 1 rfl ?_
            refine J_iconst d_CF_countAll_100 ?_
            refine J_iload d_CF_countAll_101 0 rfl ?_
            refine J_ishl d_CF_countAll_103 (iI_shl1 (by omega)) ?_
            refine J_ior d_CF_countAll_104 (iI_or (by omega) (by have := p2_rng (s := s) (by omega); omega)) ?_
            refine J_istore d_CF_countAll_105 (by decide) rfl ?_
            refine J_iinc (j := 1) d_CF_countAll_107 rfl (by decide) rfl ?_
            refine J_goto (tgt := 63) d_CF_countAll_110 rfl ?_
            exact ih3 (s + 1, orI d (p2 s), upI tr1 fd (upI (tr1 fd) i (upI (tr1 fd i) s (-1))), upI T1 s (-1)) (show ((0 ≤ (s + 1) ∧ (s + 1) ≤ 5) ∧ (0 ≤ (orI d (p2 s)) ∧ (orI d (p2 s)) ≤ 31)) ∧ ((upI tr1 fd (upI (tr1 fd) i (upI (tr1 fd i) s (-1)))) = trI tr i fd (upI T1 s (-1))) ∧ (∀ x, 0 ≤ x → x ≤ 4 → (bit (orI d (p2 s)) x = true ↔ x < (s + 1) ∧ EnA ne e x) ∧ (x < (s + 1) → EnA ne e x → (upI T1 s (-1)) x = -1)) by
                have hp9 := p2_31 (s := s) (by omega)
                have hen : EnA ne e s := by
                  first
                    | exact Or.inl ‹bit e s = true›
                    | (refine Classical.byContradiction fun h => absurd (anI_0.mpr fun t t1 t2 => h (Or.inr ⟨t, ⟨t1.1, bit_31 hs0 t2⟩, t1, t2.2⟩)) ‹_›)
                refine ⟨⟨by omega, orI_31 hs.2 (by omega)⟩, ?_, fun x a b => ?_⟩
                · rw [ht1, trI_up]
                · obtain ⟨k1, k2⟩ := hD x a b
                  rw [bit_or, bit_p2 (by omega) a, Bool.or_eq_true, decide_eq_true_iff, k1, upI_ap]
                  by_cases hx : s = x
                  · subst hx
                    rw [if_pos rfl]
                    exact ⟨⟨fun _ => ⟨by omega, hen⟩, fun _ => Or.inr rfl⟩, fun _ _ => rfl⟩
                  · rw [if_neg (fun h => hx h.symm)]
                    refine ⟨⟨?_, fun h => Or.inl ⟨by omega, h.2⟩⟩, fun h1 h2 => k2 (by omega) h2⟩
                    rintro (h | h)
                    · exact ⟨by omega, h.2⟩
                    · exact absurd h hx) (show ((5 - (s + 1)).toNat) < ((5 - s).toNat) by
                omega)
          · have hnr := hN.1 s (by omega) (by omega)
            have han := anI_rng (b := e) hnr
            refine J_aload_n d_CF_countAll_79 rfl 3 rfl ?_
            refine J_get fs_CF_60 rfl rfl d_CF_countAll_80 ?_
            refine J_iload d_CF_countAll_83 0 rfl ?_
            refine J_iald rfl (by omega) (by decide) d_CF_countAll_85 ?_
            refine J_iload_n d_CF_countAll_86 rfl 2 rfl ?_
            refine J_iand d_CF_countAll_87 (iI_and hnr (by omega)) ?_
            refine J_if_eq (tgt := 107) d_CF_countAll_88 rfl (by omega) (fun h88_13 => ?_) (fun h88_13 => ?_)
            · refine J_iinc (j := 0) d_CF_countAll_107 rfl (by decide) rfl ?_
              refine J_goto (tgt := 63) d_CF_countAll_110 rfl ?_
              exact ih3 (s + 1, d, tr1, T1) (show ((0 ≤ (s + 1) ∧ (s + 1) ≤ 5) ∧ (0 ≤ d ∧ d ≤ 31)) ∧ (tr1 = trI tr i fd T1) ∧ (∀ x, 0 ≤ x → x ≤ 4 → (bit d x = true ↔ x < (s + 1) ∧ EnA ne e x) ∧ (x < (s + 1) → EnA ne e x → T1 x = -1)) by
                  refine ⟨by omega, ht1, fun x a b => ?_⟩
                  obtain ⟨k1, k2⟩ := hD x a b
                  by_cases hx : x = s
                  · subst hx
                    have hna : ¬ EnA ne e x := by
                      rintro (h | ⟨t, t1, t2, t3⟩)
                      · rw [‹bit e x = false›] at h
                        cases h
                      · exact anI_0.mp ‹anI (ne x) e = 0› t t2 ⟨t1.1, t3⟩
                    exact ⟨by rw [k1]; exact ⟨fun h => by omega, fun h => absurd h.2 hna⟩, fun _ h => absurd h hna⟩
                  · exact ⟨by rw [k1]; exact ⟨fun h => ⟨by omega, h.2⟩, fun h => ⟨by omega, h.2⟩⟩, fun h1 h2 => k2 (by omega) h2⟩) (show ((5 - (s + 1)).toNat) < ((5 - s).toNat) by
                  omega)
            · refine J_aload_n d_CF_countAll_91 rfl 4 rfl ?_
              refine J_iload d_CF_countAll_92 0 rfl ?_
              refine J_ldc2 (z := -1) d_CF_countAll_94 cst_CF_199 rfl ?_
              refine J_last (hidX (k := fd) (j := i) (by omega) (by omega)) (by omega) (by decide) (uidX_tr (k := fd) (j := i) (by omega) (by omega)) d_CF_countAll_97 ?_
              refine J_iload d_CF_countAll_98 1 rfl ?_
              refine J_iconst d_CF_countAll_100 ?_
              refine J_iload d_CF_countAll_101 0 rfl ?_
              refine J_ishl d_CF_countAll_103 (iI_shl1 (by omega)) ?_
              refine J_ior d_CF_countAll_104 (iI_or (by omega) (by have := p2_rng (s := s) (by omega); omega)) ?_
              refine J_istore d_CF_countAll_105 (by decide) rfl ?_
              refine J_iinc (j := 1) d_CF_countAll_107 rfl (by decide) rfl ?_
              refine J_goto (tgt := 63) d_CF_countAll_110 rfl ?_
              exact ih3 (s + 1, orI d (p2 s), upI tr1 fd (upI (tr1 fd) i (upI (tr1 fd i) s (-1))), upI T1 s (-1)) (show ((0 ≤ (s + 1) ∧ (s + 1) ≤ 5) ∧ (0 ≤ (orI d (p2 s)) ∧ (orI d (p2 s)) ≤ 31)) ∧ ((upI tr1 fd (upI (tr1 fd) i (upI (tr1 fd i) s (-1)))) = trI tr i fd (upI T1 s (-1))) ∧ (∀ x, 0 ≤ x → x ≤ 4 → (bit (orI d (p2 s)) x = true ↔ x < (s + 1) ∧ EnA ne e x) ∧ (x < (s + 1) → EnA ne e x → (upI T1 s (-1)) x = -1)) by
                  have hp9 := p2_31 (s := s) (by omega)
                  have hen : EnA ne e s := by
                    first
                      | exact Or.inl ‹bit e s = true›
                      | (refine Classical.byContradiction fun h => absurd (anI_0.mpr fun t t1 t2 => h (Or.inr ⟨t, ⟨t1.1, bit_31 hs0 t2⟩, t1, t2.2⟩)) ‹_›)
                  refine ⟨⟨by omega, orI_31 hs.2 (by omega)⟩, ?_, fun x a b => ?_⟩
                  · rw [ht1, trI_up]
                  · obtain ⟨k1, k2⟩ := hD x a b
                    rw [bit_or, bit_p2 (by omega) a, Bool.or_eq_true, decide_eq_true_iff, k1, upI_ap]
                    by_cases hx : s = x
                    · subst hx
                      rw [if_pos rfl]
                      exact ⟨⟨fun _ => ⟨by omega, hen⟩, fun _ => Or.inr rfl⟩, fun _ _ => rfl⟩
                    · rw [if_neg (fun h => hx h.symm)]
                      refine ⟨⟨?_, fun h => Or.inl ⟨by omega, h.2⟩⟩, fun h1 h2 => k2 (by omega) h2⟩
                      rintro (h | h)
                      · exact ⟨by omega, h.2⟩
                      · exact absurd h hx) (show ((5 - (s + 1)).toNat) < ((5 - s).toNat) by
                  omega)
      · show ((0 ≤ (0 : Int) ∧ (0 : Int) ≤ 5) ∧ (0 ≤ (0 : Int) ∧ (0 : Int) ≤ 31)) ∧ (tr = trI tr i fd (tr fd i)) ∧ (∀ x, 0 ≤ x → x ≤ 4 → (bit (0 : Int) x = true ↔ x < (0 : Int) ∧ EnA ne e x) ∧ (x < (0 : Int) → EnA ne e x → (tr fd i) x = -1))
        exact ⟨by omega, (trI_id _ _ _).symm, fun x a b => ⟨by rw [bit_0]; exact ⟨(fun h => by cases h), fun h => by omega⟩, fun h => by omega⟩⟩
    · have hnr := hN.1 s (by omega) (by omega)
      refine J_iload_n d_CF_countAll_11 rfl 1 rfl ?_
      refine J_aload_n d_CF_countAll_12 rfl 2 rfl ?_
      refine J_get fs_CF_60 rfl rfl d_CF_countAll_13 ?_
      refine J_iload d_CF_countAll_16 0 rfl ?_
      refine J_iald rfl (by omega) (by decide) d_CF_countAll_18 ?_
      refine J_iload d_CF_countAll_19 0 rfl ?_
      refine J_ishr d_CF_countAll_21 (iI_shr hnr (by omega)) ?_
      refine J_iconst d_CF_countAll_22 ?_
      refine J_iand d_CF_countAll_23 (iI_bit hnr) ?_
      refine J_iconst d_CF_countAll_24 ?_
      refine J_icmpB_eq (tgt := 41) d_CF_countAll_25 rfl (fun h25_14 => ?_) (fun h25_14 => ?_)
      · refine J_iconst d_CF_countAll_41 ?_
        refine J_iload d_CF_countAll_42 0 rfl ?_
        refine J_ishl d_CF_countAll_44 (iI_shl1 (by omega)) ?_
        refine J_goto (tgt := 49) d_CF_countAll_45 rfl ?_
        refine J_ior d_CF_countAll_49 (iI_or (by omega) (by first | omega | (have := p2_rng (s := s) (by omega); omega))) ?_
        refine J_istore_n d_CF_countAll_50 rfl (by decide) rfl ?_
        refine J_iinc (j := 1) d_CF_countAll_51 rfl (by decide) rfl ?_
        refine J_goto (tgt := 5) d_CF_countAll_54 rfl ?_
        exact ih1 (s + 1, orI e (p2 s)) (show ((0 ≤ (s + 1) ∧ (s + 1) ≤ 5) ∧ (0 ≤ (orI e (p2 s)) ∧ (orI e (p2 s)) ≤ 31)) ∧ (∀ x, 0 ≤ x → x ≤ 4 → (bit (orI e (p2 s)) x = true ↔ x < (s + 1) ∧ (bS (ne x) x ∨ bS (ne x) 30))) by
            have hp9 := p2_31 (s := s) (by omega)
            refine ⟨⟨by omega, orI_31 hs.2 (by omega)⟩, fun x a b => ?_⟩
            rw [bit_or, bit_p2 (by omega) a, Bool.or_eq_true, decide_eq_true_iff, hE x a b]
            by_cases hx : s = x
            · subst hx
              refine ⟨fun _ => ⟨by omega, ?_⟩, fun _ => Or.inr rfl⟩
              first
                | exact Or.inl ⟨a, ‹bit (ne s) s = true›⟩
                | exact Or.inr (Classical.byContradiction fun h => absurd ((top_30 (hN.1 s a b)).mpr h) ‹_›)
            · constructor
              · rintro (⟨h1, h2⟩ | h)
                · exact ⟨by omega, h2⟩
                · exact absurd h hx
              · rintro ⟨h1, h2⟩
                exact Or.inl ⟨by omega, h2⟩) (show ((5 - (s + 1)).toNat) < ((5 - s).toNat) by
            omega)
      · refine J_aload_n d_CF_countAll_28 rfl 2 rfl ?_
        refine J_get fs_CF_60 rfl rfl d_CF_countAll_29 ?_
        refine J_iload d_CF_countAll_32 0 rfl ?_
        refine J_iald rfl (by omega) (by decide) d_CF_countAll_34 ?_
        refine J_bipush d_CF_countAll_35 (by decide) ?_
        refine J_ishr d_CF_countAll_37 (show iI (ne s) >>> (iI 30 &&& 31) = iI (ne s / 1073741824) from iI_shr hnr (by omega)) ?_
        refine J_if_eq (tgt := 48) d_CF_countAll_38 rfl (by omega) (fun h38_15 => ?_) (fun h38_15 => ?_)
        · refine J_iconst d_CF_countAll_48 ?_
          refine J_ior d_CF_countAll_49 (iI_or (by omega) (by first | omega | (have := p2_rng (s := s) (by omega); omega))) ?_
          refine J_istore_n d_CF_countAll_50 rfl (by decide) rfl ?_
          refine J_iinc (j := 1) d_CF_countAll_51 rfl (by decide) rfl ?_
          refine J_goto (tgt := 5) d_CF_countAll_54 rfl ?_
          exact ih1 (s + 1, orI e 0) (show ((0 ≤ (s + 1) ∧ (s + 1) ≤ 5) ∧ (0 ≤ (orI e 0) ∧ (orI e 0) ≤ 31)) ∧ (∀ x, 0 ≤ x → x ≤ 4 → (bit (orI e 0) x = true ↔ x < (s + 1) ∧ (bS (ne x) x ∨ bS (ne x) 30))) by
              refine ⟨⟨by omega, orI_31 hs.2 (by omega)⟩, fun x a b => ?_⟩
              rw [bit_or, bit_0, Bool.or_false, hE x a b]
              by_cases hx : x = s
              · subst hx
                refine ⟨fun h => ⟨by omega, h.2⟩, fun h => ?_⟩
                rcases h.2 with h | h
                · rw [h.2] at *
                  contradiction
                · exact absurd h ((top_30 (hN.1 x a b)).mp ‹_›)
              · exact ⟨fun h => ⟨by omega, h.2⟩, fun h => ⟨by omega, h.2⟩⟩) (show ((5 - (s + 1)).toNat) < ((5 - s).toNat) by
              omega)
        · refine J_iconst d_CF_countAll_41 ?_
          refine J_iload d_CF_countAll_42 0 rfl ?_
          refine J_ishl d_CF_countAll_44 (iI_shl1 (by omega)) ?_
          refine J_goto (tgt := 49) d_CF_countAll_45 rfl ?_
          refine J_ior d_CF_countAll_49 (iI_or (by omega) (by first | omega | (have := p2_rng (s := s) (by omega); omega))) ?_
          refine J_istore_n d_CF_countAll_50 rfl (by decide) rfl ?_
          refine J_iinc (j := 1) d_CF_countAll_51 rfl (by decide) rfl ?_
          refine J_goto (tgt := 5) d_CF_countAll_54 rfl ?_
          exact ih1 (s + 1, orI e (p2 s)) (show ((0 ≤ (s + 1) ∧ (s + 1) ≤ 5) ∧ (0 ≤ (orI e (p2 s)) ∧ (orI e (p2 s)) ≤ 31)) ∧ (∀ x, 0 ≤ x → x ≤ 4 → (bit (orI e (p2 s)) x = true ↔ x < (s + 1) ∧ (bS (ne x) x ∨ bS (ne x) 30))) by
              have hp9 := p2_31 (s := s) (by omega)
              refine ⟨⟨by omega, orI_31 hs.2 (by omega)⟩, fun x a b => ?_⟩
              rw [bit_or, bit_p2 (by omega) a, Bool.or_eq_true, decide_eq_true_iff, hE x a b]
              by_cases hx : s = x
              · subst hx
                refine ⟨fun _ => ⟨by omega, ?_⟩, fun _ => Or.inr rfl⟩
                first
                  | exact Or.inl ⟨a, ‹bit (ne s) s = true›⟩
                  | exact Or.inr (Classical.byContradiction fun h => absurd ((top_30 (hN.1 s a b)).mpr h) ‹_›)
              · constructor
                · rintro (⟨h1, h2⟩ | h)
                  · exact ⟨by omega, h2⟩
                  · exact absurd h hx
                · rintro ⟨h1, h2⟩
                  exact Or.inl ⟨by omega, h2⟩) (show ((5 - (s + 1)).toNat) < ((5 - s).toNat) by
              omega)
  · show ((0 ≤ (0 : Int) ∧ (0 : Int) ≤ 5) ∧ (0 ≤ (0 : Int) ∧ (0 : Int) ≤ 31)) ∧ (∀ x, 0 ≤ x → x ≤ 4 → (bit (0 : Int) x = true ↔ x < (0 : Int) ∧ (bS (ne x) x ∨ bS (ne x) 30)))
    exact ⟨by omega, fun x a b => by rw [bit_0]; exact ⟨(fun h => by cases h), fun h => by omega⟩⟩
end N9
