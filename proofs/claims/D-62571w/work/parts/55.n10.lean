section N10
variable {l : Launch} {D : jD} {b : Nat} {w : jW} {ad : Nat → Nat} {r : Nat → Option jE} {lp : Bool} {fd : Int} {nr : Int} {nc : Int} {nd : Int} {mc : Int} {lf : Int → Int} {ln : Int → Int} {bd : Int → Int} {tm : Int → Int} {it : Int → Int → Int} {th : Int → Int → Bool} {my : Int → Int} {lps : Int → Int → Int} {em : Int → Int} {mk : Int → Int → Int} {tr : Int → Int → Int → Int} {wg : Bool} {wr : Value} {we : Int} {wc : Int → Int} {wb : Bool} {vg : Bool} {vr : Value} {ve : Int} {vc : Int → Int} {vb : Bool} {sy : Int → Int} {sf : Int → Int} {so : Int → Int} {st : Int → Int} {sn : Int} {ne : Int → Int} {mt : Int → Int → Bool}
set_option maxHeartbeats 4000000 in
theorem c_CF_grow {i : Int}  (hg : gOK nr lf ln bd) (htm : ∀ x, 0 ≤ x → x < 12 → -2147483648 ≤ tm x ∧ tm x ≤ 2147483647) (hmk : MkR mk) (htr : TrR tr) (hf : 0 ≤ fd ∧ fd ≤ 12) (hij : 0 ≤ i ∧ i ≤ fd) (hz : mk fd i = 0) : Ct l D b Y_CF_grow { frames := 5, cells := 0, slots := 0, locals := 119 } [Value.ref (ad 100), Value.int (iI i)] (ad, cC ad r lp fd nr nr nr mc lf ln bd tm it th my lps em mk tr wg wr we wc wb vg vr ve vc vb sy sf so st sn ne mt) (fun v w' => v = none ∧ ∃ m T ne' g' r' e' cu' b', w' = (ad, cC ad r lp fd nr nr nr mc lf ln bd tm it th my lps em (mkI mk i fd m) (trI tr i fd T) g' r' e' cu' b' vg vr ve vc vb sy sf so st sn ne' mt) ∧ (0 ≤ m ∧ m ≤ 31) ∧ LClD nr lf ln bd tm (dvM mk) i fd (bit m) ∧ LSnD nr lf ln bd tm (dvM mk) i fd (bit m) ∧ LCnt nr lf ln bd tm (dvM (mkI mk i fd m)) tr i fd T) := by
  refine Ct_of (by decide) (Nat.le_of_ble_eq_true rfl) ?_
  show J l D b Y_CF_grow _ _ (ad, cC ad r lp fd nr nr nr mc lf ln bd tm it th my lps em mk tr wg wr we wc wb vg vr ve vc vb sy sf so st sn ne mt) 0 0 0 [(0, Value.ref (ad 100)), (1, Value.int (iI i))] []
  refine J_aload_n d_CF_grow_0 rfl 0 rfl ?_
  refine J_get fs_CF_39 rfl rfl d_CF_grow_1 ?_
  refine J_aload_n d_CF_grow_4 rfl 0 rfl ?_
  refine J_get fs_CF_109 rfl rfl d_CF_grow_5 ?_
  refine J_aald (v := Value.ref (ad (idC fd))) rfl rfl (by omega) (by decide) rfl d_CF_grow_8 ?_
  refine J_astore_n d_CF_grow_9 rfl (by decide) rfl ?_
  refine J_iconst d_CF_grow_10 ?_
  refine J_istore_n d_CF_grow_11 rfl (by decide) rfl ?_
  refine J.sub [0, 1, 2, 3] (lv' := [(3, Value.int (iI 1)), (2, Value.ref (ad (idC fd))), (0, Value.ref (ad 100)), (1, Value.int (iI i))]) rfl ?_
  refine J.loop (σ := Bool × (Int → Int → Int) × Int × Bool × Value × Int × (Int → Int) × Bool) (fun xx_ => match xx_ with | (mo, mk1, m1, g1, r1, e1, cu1, b1) => (0 ≤ m1 ∧ m1 ≤ 31) ∧ (mk1 = mkI mk i fd m1) ∧ (LSnD nr lf ln bd tm (dvM mk) i fd (bit m1)) ∧ (mo = false → LClD nr lf ln bd tm (dvM mk) i fd (bit m1))) (fun xx_ => match xx_ with | (mo, mk1, m1, g1, r1, e1, cu1, b1) => (5 - cnt (bit m1) 5).toNat + (if mo = true then 1 else 0)) (ws := fun xx_ => match xx_ with | (mo, mk1, m1, g1, r1, e1, cu1, b1) => (ad, cC ad r lp fd nr nr nr mc lf ln bd tm it th my lps em mk1 tr g1 r1 e1 cu1 b1 vg vr ve vc vb sy sf so st sn ne mt)) (ks := fun _ => 0) (ns := fun _ => 0) (lvs := fun xx_ => match xx_ with | (mo, mk1, m1, g1, r1, e1, cu1, b1) => [(3, Value.int (iI (bz mo))), (2, Value.ref (ad (idC fd))), (0, Value.ref (ad 100)), (1, Value.int (iI i))]) (sts := fun _ => []) ?_ (true, mk, 0, wg, wr, we, wc, wb) ?_
  · rintro ⟨mo, mk1, m1, g1, r1, e1, cu1, b1⟩ hI ih1
    have hI : (0 ≤ m1 ∧ m1 ≤ 31) ∧ (mk1 = mkI mk i fd m1) ∧ (LSnD nr lf ln bd tm (dvM mk) i fd (bit m1)) ∧ (mo = false → LClD nr lf ln bd tm (dvM mk) i fd (bit m1)) := hI
    obtain ⟨hm1, hk1, hS1, hC1⟩ := hI
    show J l D b Y_CF_grow _ _ (ad, cC ad r lp fd nr nr nr mc lf ln bd tm it th my lps em mk1 tr g1 r1 e1 cu1 b1 vg vr ve vc vb sy sf so st sn ne mt) 0 0 12 [(3, Value.int (iI (bz mo))), (2, Value.ref (ad (idC fd))), (0, Value.ref (ad 100)), (1, Value.int (iI i))] []
    refine J_iload_n d_CF_grow_12 rfl 0 rfl ?_
    refine J_ifB_eq (tgt := 79) d_CF_grow_13 rfl (fun h13_2 => ?_) (fun h13_2 => ?_)
    · refine J_iconst d_CF_grow_79 ?_
      refine J_istore d_CF_grow_80 (by decide) rfl ?_
      have hmk1 : MkR mk1 := by
        rw [hk1]
        exact hmk.mkI hm1
      have hCl := hC1 ‹_›
      refine J.sub [0, 1, 2, 3, 4] (lv' := [(4, Value.int (iI 0)), (3, Value.int (iI (bz mo))), (2, Value.ref (ad (idC fd))), (0, Value.ref (ad 100)), (1, Value.int (iI i))]) rfl ?_
      refine J.loop (σ := Int × (Int → Int) × Bool × Value × Int × (Int → Int) × Bool) (fun xx_ => match xx_ with | (s, ne1, g3, r3, e3, cu3, b3) => (0 ≤ s ∧ s ≤ 5) ∧ (∀ x, 0 ≤ x → x < s → (0 ≤ ne1 x ∧ ne1 x ≤ 2147483647) ∧ ∀ y, bS (ne1 x) y ↔ (N0f nr lf ln bd tm (dvM mk1) tr i fd) x y)) (fun xx_ => match xx_ with | (s, ne1, g3, r3, e3, cu3, b3) => (5 - s).toNat) (ws := fun xx_ => match xx_ with | (s, ne1, g3, r3, e3, cu3, b3) => (ad, cC ad r lp fd nr nr nr mc lf ln bd tm it th my lps em mk1 tr g3 r3 e3 cu3 b3 vg vr ve vc vb sy sf so st sn ne1 mt)) (ks := fun _ => 0) (ns := fun _ => 0) (lvs := fun xx_ => match xx_ with | (s, ne1, g3, r3, e3, cu3, b3) => [(4, Value.int (iI s)), (3, Value.int (iI (bz mo))), (2, Value.ref (ad (idC fd))), (0, Value.ref (ad 100)), (1, Value.int (iI i))]) (sts := fun _ => []) ?_ (0, ne, g1, r1, e1, cu1, b1) ?_
      · rintro ⟨s, ne1, g3, r3, e3, cu3, b3⟩ hI ih3
        have hI : (0 ≤ s ∧ s ≤ 5) ∧ (∀ x, 0 ≤ x → x < s → (0 ≤ ne1 x ∧ ne1 x ≤ 2147483647) ∧ ∀ y, bS (ne1 x) y ↔ (N0f nr lf ln bd tm (dvM mk1) tr i fd) x y) := hI
        obtain ⟨hs, hn1⟩ := hI
        show J l D b Y_CF_grow _ _ (ad, cC ad r lp fd nr nr nr mc lf ln bd tm it th my lps em mk1 tr g3 r3 e3 cu3 b3 vg vr ve vc vb sy sf so st sn ne1 mt) 0 0 82 [(4, Value.int (iI s)), (3, Value.int (iI (bz mo))), (2, Value.ref (ad (idC fd))), (0, Value.ref (ad 100)), (1, Value.int (iI i))] []
        refine J_iload d_CF_grow_82 0 rfl ?_
        refine J_iconst d_CF_grow_84 ?_
        refine J_icmp_ge (tgt := 112) d_CF_grow_85 rfl (by omega) (by omega) (fun h85_4 => ?_) (fun h85_4 => ?_)
        · refine J_iconst d_CF_grow_112 ?_
          refine J_istore d_CF_grow_113 (by decide) rfl ?_
          refine J.loop (σ := Int × (Int → Int)) (fun xx_ => match xx_ with | (n, ne2) => (0 ≤ n ∧ n ≤ 5) ∧ (KI (N0f nr lf ln bd tm (dvM mk1) tr i fd) n.toNat 0 0 ne2)) (fun xx_ => match xx_ with | (n, ne2) => (5 - n).toNat) (ws := fun xx_ => match xx_ with | (n, ne2) => (ad, cC ad r lp fd nr nr nr mc lf ln bd tm it th my lps em mk1 tr g3 r3 e3 cu3 b3 vg vr ve vc vb sy sf so st sn ne2 mt)) (ks := fun _ => 0) (ns := fun _ => 0) (lvs := fun xx_ => match xx_ with | (n, ne2) => [(4, Value.int (iI n)), (3, Value.int (iI (bz mo))), (2, Value.ref (ad (idC fd))), (0, Value.ref (ad 100)), (1, Value.int (iI i))]) (sts := fun _ => []) ?_ (0, ne1) ?_
          · rintro ⟨n, ne2⟩ hI ih5
            have hI : (0 ≤ n ∧ n ≤ 5) ∧ (KI (N0f nr lf ln bd tm (dvM mk1) tr i fd) n.toNat 0 0 ne2) := hI
            obtain ⟨hn, hK⟩ := hI
            show J l D b Y_CF_grow _ _ (ad, cC ad r lp fd nr nr nr mc lf ln bd tm it th my lps em mk1 tr g3 r3 e3 cu3 b3 vg vr ve vc vb sy sf so st sn ne2 mt) 0 0 115 [(4, Value.int (iI n)), (3, Value.int (iI (bz mo))), (2, Value.ref (ad (idC fd))), (0, Value.ref (ad 100)), (1, Value.int (iI i))] []
            refine J_iload d_CF_grow_115 0 rfl ?_
            refine J_iconst d_CF_grow_117 ?_
            refine J_icmp_ge (tgt := 194) d_CF_grow_118 rfl (by omega) (by omega) (fun h118_6 => ?_) (fun h118_6 => ?_)
            · have hN : NRs (N0f nr lf ln bd tm (dvM mk1) tr i fd) ne2 := by
                rw [show n.toNat = 5 by omega] at hK
                exact ki_end hK (fun x y hx h => n0_bits hg (by omega) h)
              refine J_aload_n d_CF_grow_194 rfl 3 rfl ?_
              refine J_aload_n d_CF_grow_195 rfl 2 rfl ?_
              refine J_get fs_CF_195 (hidC (k := fd) (by omega)) rfl d_CF_grow_196 ?_
              refine J_iload_n d_CF_grow_199 rfl 4 rfl ?_
              refine J_aald (v := Value.ref (ad (idX fd i))) (hidW (k := fd) (by omega)) rfl (by omega) (by omega) rfl d_CF_grow_200 ?_
              refine J_iload_n d_CF_grow_201 rfl 4 rfl ?_
              refine J_callV (st := []) [Value.ref (ad (idX fd i)), Value.int (iI i)] ms_CF_230 rfl (c_CF_countAll hg htm hmk1 htr (by omega) (by omega) hN) rfl rfl ⟨Nat.le_of_ble_eq_true rfl, Nat.le_of_ble_eq_true rfl⟩ ⟨Nat.le_of_ble_eq_true rfl, Nat.le_of_ble_eq_true rfl⟩ (Nat.le_of_ble_eq_true rfl) d_CF_grow_202 (fun v w' hp => ?_)
              obtain ⟨rfl, T7, g7, r7, e7, cu7, b7, rfl, hL7⟩ := hp
              show J l D b Y_CF_grow _ _ (ad, cC ad r lp fd nr nr nr mc lf ln bd tm it th my lps em mk1 (trI tr i fd T7) g7 r7 e7 cu7 b7 vg vr ve vc vb sy sf so st sn ne2 mt) 0 0 205 [(4, Value.int (iI n)), (3, Value.int (iI (bz mo))), (2, Value.ref (ad (idC fd))), (0, Value.ref (ad 100)), (1, Value.int (iI i))] []
              refine J_vret rfl d_CF_grow_205 ⟨Nat.le_of_ble_eq_true rfl, Nat.le_of_ble_eq_true rfl⟩ ?_
              have hL := hL7
              rw [hk1] at hL
              exact ⟨rfl, m1, _, _, _, _, _, _, _, by rw [hk1], hm1, hCl, hS1, hL⟩
            · refine J_iconst d_CF_grow_121 ?_
              refine J_istore d_CF_grow_122 (by decide) rfl ?_
              refine J.loop (σ := Int × (Int → Int)) (fun xx_ => match xx_ with | (s, ne3) => (0 ≤ s ∧ s ≤ 5) ∧ (KI (N0f nr lf ln bd tm (dvM mk1) tr i fd) n.toNat s 0 ne3)) (fun xx_ => match xx_ with | (s, ne3) => (5 - s).toNat) (ws := fun xx_ => match xx_ with | (s, ne3) => (ad, cC ad r lp fd nr nr nr mc lf ln bd tm it th my lps em mk1 tr g3 r3 e3 cu3 b3 vg vr ve vc vb sy sf so st sn ne3 mt)) (ks := fun _ => 0) (ns := fun _ => 0) (lvs := fun xx_ => match xx_ with | (s, ne3) => [(5, Value.int (iI s)), (4, Value.int (iI n)), (3, Value.int (iI (bz mo))), (2, Value.ref (ad (idC fd))), (0, Value.ref (ad 100)), (1, Value.int (iI i))]) (sts := fun _ => []) ?_ (0, ne2) ?_
              · rintro ⟨s, ne3⟩ hI ih8
                have hI : (0 ≤ s ∧ s ≤ 5) ∧ (KI (N0f nr lf ln bd tm (dvM mk1) tr i fd) n.toNat s 0 ne3) := hI
                obtain ⟨hs3, hK3⟩ := hI
                show J l D b Y_CF_grow _ _ (ad, cC ad r lp fd nr nr nr mc lf ln bd tm it th my lps em mk1 tr g3 r3 e3 cu3 b3 vg vr ve vc vb sy sf so st sn ne3 mt) 0 0 124 [(5, Value.int (iI s)), (4, Value.int (iI n)), (3, Value.int (iI (bz mo))), (2, Value.ref (ad (idC fd))), (0, Value.ref (ad 100)), (1, Value.int (iI i))] []
                refine J_iload d_CF_grow_124 0 rfl ?_
                refine J_iconst d_CF_grow_126 ?_
                refine J_icmp_ge (tgt := 188) d_CF_grow_127 rfl (by omega) (by omega) (fun h127_9 => ?_) (fun h127_9 => ?_)
                · refine J_iinc (j := 1) d_CF_grow_188 rfl (by decide) rfl ?_
                  refine J_goto (tgt := 115) d_CF_grow_191 rfl ?_
                  refine J.sub [0, 2, 3, 4, 5] rfl ?_
                  exact ih5 (n + 1, ne3) (show (0 ≤ (n + 1) ∧ (n + 1) ≤ 5) ∧ (KI (N0f nr lf ln bd tm (dvM mk1) tr i fd) (n + 1).toNat 0 0 ne3) by
                      refine ⟨by omega, ?_⟩
                      rw [show (n + 1).toNat = n.toNat + 1 by omega]
                      exact ki_s hK3 (by omega)) (show ((5 - (n + 1)).toNat) < ((5 - n).toNat) by
                      omega)
                · refine J_iconst d_CF_grow_130 ?_
                  refine J_istore d_CF_grow_131 (by decide) rfl ?_
                  refine J.loop (σ := Int × (Int → Int)) (fun xx_ => match xx_ with | (t, ne4) => (0 ≤ t ∧ t ≤ 5) ∧ (KI (N0f nr lf ln bd tm (dvM mk1) tr i fd) n.toNat s t ne4)) (fun xx_ => match xx_ with | (t, ne4) => (5 - t).toNat) (ws := fun xx_ => match xx_ with | (t, ne4) => (ad, cC ad r lp fd nr nr nr mc lf ln bd tm it th my lps em mk1 tr g3 r3 e3 cu3 b3 vg vr ve vc vb sy sf so st sn ne4 mt)) (ks := fun _ => 0) (ns := fun _ => 0) (lvs := fun xx_ => match xx_ with | (t, ne4) => [(6, Value.int (iI t)), (5, Value.int (iI s)), (4, Value.int (iI n)), (3, Value.int (iI (bz mo))), (2, Value.ref (ad (idC fd))), (0, Value.ref (ad 100)), (1, Value.int (iI i))]) (sts := fun _ => []) ?_ (0, ne3) ?_
                  · rintro ⟨t, ne4⟩ hI ih10
                    have hI : (0 ≤ t ∧ t ≤ 5) ∧ (KI (N0f nr lf ln bd tm (dvM mk1) tr i fd) n.toNat s t ne4) := hI
                    obtain ⟨ht, hK4⟩ := hI
                    show J l D b Y_CF_grow _ _ (ad, cC ad r lp fd nr nr nr mc lf ln bd tm it th my lps em mk1 tr g3 r3 e3 cu3 b3 vg vr ve vc vb sy sf so st sn ne4 mt) 0 0 133 [(6, Value.int (iI t)), (5, Value.int (iI s)), (4, Value.int (iI n)), (3, Value.int (iI (bz mo))), (2, Value.ref (ad (idC fd))), (0, Value.ref (ad 100)), (1, Value.int (iI i))] []
                    refine J_iload d_CF_grow_133 0 rfl ?_
                    refine J_iconst d_CF_grow_135 ?_
                    refine J_icmp_ge (tgt := 182) d_CF_grow_136 rfl (by omega) (by omega) (fun h136_11 => ?_) (fun h136_11 => ?_)
                    · refine J_iinc (j := 1) d_CF_grow_182 rfl (by decide) rfl ?_
                      refine J_goto (tgt := 124) d_CF_grow_185 rfl ?_
                      refine J.sub [0, 2, 3, 4, 5, 6] rfl ?_
                      exact ih8 (s + 1, ne4) (show (0 ≤ (s + 1) ∧ (s + 1) ≤ 5) ∧ (KI (N0f nr lf ln bd tm (dvM mk1) tr i fd) n.toNat (s + 1) 0 ne4) by
                          exact ⟨by omega, ki_t hK4 (by omega) (by omega)⟩) (show ((5 - (s + 1)).toNat) < ((5 - s).toNat) by
                          omega)
                    · have hnr := hK4.1 s (by omega) (by omega)
                      have hnt := hK4.1 t (by omega) (by omega)
                      refine J_aload_n d_CF_grow_139 rfl 5 rfl ?_
                      refine J_get fs_CF_60 rfl rfl d_CF_grow_140 ?_
                      refine J_iload d_CF_grow_143 1 rfl ?_
                      refine J_dup2 d_CF_grow_145 rfl rfl ?_
                      refine J_iald rfl (by omega) (by decide) d_CF_grow_146 ?_
                      refine J_aload_n d_CF_grow_147 rfl 5 rfl ?_
                      refine J_get fs_CF_60 rfl rfl d_CF_grow_148 ?_
                      refine J_iload d_CF_grow_151 1 rfl ?_
                      refine J_iald rfl (by omega) (by decide) d_CF_grow_153 ?_
                      refine J_iload d_CF_grow_154 0 rfl ?_
                      refine J_ishr d_CF_grow_156 (iI_shr hnr (by omega)) ?_
                      refine J_iconst d_CF_grow_157 ?_
                      refine J_iand d_CF_grow_158 (iI_bit hnr) ?_
                      refine J_iconst d_CF_grow_159 ?_
                      refine J_icmpB_ne (tgt := 173) d_CF_grow_160 rfl (fun h160_12 => ?_) (fun h160_12 => ?_)
                      · refine J_iconst d_CF_grow_173 ?_
                        refine J_ior d_CF_grow_174 (iI_or hnr (by first | omega | exact hnt)) ?_
                        refine J_iast rfl (by omega) (by decide) u_117 d_CF_grow_175 ?_
                        refine J_iinc (j := 0) d_CF_grow_176 rfl (by decide) rfl ?_
                        refine J_goto (tgt := 133) d_CF_grow_179 rfl ?_
                        exact ih10 (t + 1, upI ne4 s (orI (ne4 s) 0)) (show (0 ≤ (t + 1) ∧ (t + 1) ≤ 5) ∧ (KI (N0f nr lf ln bd tm (dvM mk1) tr i fd) n.toNat s (t + 1) (upI ne4 s (orI (ne4 s) 0))) by
                            exact ⟨by omega, ki_step hK4 (by omega) (by omega) (by first | (rw [if_pos ‹_›]; done) | (rw [if_neg (by rw [‹bit _ _ = false›]; decide)]; done))⟩) (show ((5 - (t + 1)).toNat) < ((5 - t).toNat) by
                            omega)
                      · refine J_aload_n d_CF_grow_163 rfl 5 rfl ?_
                        refine J_get fs_CF_60 rfl rfl d_CF_grow_164 ?_
                        refine J_iload d_CF_grow_167 0 rfl ?_
                        refine J_iald rfl (by omega) (by decide) d_CF_grow_169 ?_
                        refine J_goto (tgt := 174) d_CF_grow_170 rfl ?_
                        refine J_ior d_CF_grow_174 (iI_or hnr (by first | omega | exact hnt)) ?_
                        refine J_iast rfl (by omega) (by decide) u_117 d_CF_grow_175 ?_
                        refine J_iinc (j := 0) d_CF_grow_176 rfl (by decide) rfl ?_
                        refine J_goto (tgt := 133) d_CF_grow_179 rfl ?_
                        exact ih10 (t + 1, upI ne4 s (orI (ne4 s) (ne4 t))) (show (0 ≤ (t + 1) ∧ (t + 1) ≤ 5) ∧ (KI (N0f nr lf ln bd tm (dvM mk1) tr i fd) n.toNat s (t + 1) (upI ne4 s (orI (ne4 s) (ne4 t)))) by
                            exact ⟨by omega, ki_step hK4 (by omega) (by omega) (by first | (rw [if_pos ‹_›]; done) | (rw [if_neg (by rw [‹bit _ _ = false›]; decide)]; done))⟩) (show ((5 - (t + 1)).toNat) < ((5 - t).toNat) by
                            omega)
                  · show (0 ≤ (0 : Int) ∧ (0 : Int) ≤ 5) ∧ (KI (N0f nr lf ln bd tm (dvM mk1) tr i fd) n.toNat s (0 : Int) ne3)
                    exact ⟨by omega, hK3⟩
              · show (0 ≤ (0 : Int) ∧ (0 : Int) ≤ 5) ∧ (KI (N0f nr lf ln bd tm (dvM mk1) tr i fd) n.toNat (0 : Int) 0 ne2)
                exact ⟨by omega, hK⟩
          · show (0 ≤ (0 : Int) ∧ (0 : Int) ≤ 5) ∧ (KI (N0f nr lf ln bd tm (dvM mk1) tr i fd) (0 : Int).toNat 0 0 ne1)
            exact ⟨by omega, ki_0 (fun x a b => (hn1 x a (by omega)).1) (fun x a b => (hn1 x a (by omega)).2)⟩
        · refine J_aload_n d_CF_grow_88 rfl 3 rfl ?_
          refine J_get fs_CF_60 rfl rfl d_CF_grow_89 ?_
          refine J_iload d_CF_grow_92 0 rfl ?_
          refine J_aload_n d_CF_grow_94 rfl 3 rfl ?_
          refine J_iload d_CF_grow_95 0 rfl ?_
          refine J_iload_n d_CF_grow_97 rfl 4 rfl ?_
          refine J_aload_n d_CF_grow_98 rfl 3 rfl ?_
          refine J_get fs_CF_109 rfl rfl d_CF_grow_99 ?_
          refine J_callV (st := [Value.int (iI s), Value.ref (ad 117)]) [Value.int (iI s), Value.int (iI i), Value.int (iI fd)] ms_CF_227 rfl (c_CF_nearOf hg htm hmk1 htr (by omega) (by omega)) rfl rfl ⟨Nat.le_of_ble_eq_true rfl, Nat.le_of_ble_eq_true rfl⟩ ⟨Nat.le_of_ble_eq_true rfl, Nat.le_of_ble_eq_true rfl⟩ (Nat.le_of_ble_eq_true rfl) d_CF_grow_102 (fun v w' hp => ?_)
          obtain ⟨m13, g13, r13, e13, cu13, b13, rfl, rfl, hm13, hY13⟩ := hp
          show J l D b Y_CF_grow _ _ (ad, cC ad r lp fd nr nr nr mc lf ln bd tm it th my lps em mk1 tr g13 r13 e13 cu13 b13 vg vr ve vc vb sy sf so st sn ne1 mt) 0 0 105 [(4, Value.int (iI s)), (3, Value.int (iI (bz mo))), (2, Value.ref (ad (idC fd))), (0, Value.ref (ad 100)), (1, Value.int (iI i))] [Value.int (iI m13), Value.int (iI s), Value.ref (ad 117)]
          refine J_iast rfl (by omega) (by decide) u_117 d_CF_grow_105 ?_
          refine J_iinc (j := 0) d_CF_grow_106 rfl (by decide) rfl ?_
          refine J_goto (tgt := 82) d_CF_grow_109 rfl ?_
          exact ih3 (s + 1, upI ne1 s m13, g13, r13, e13, cu13, b13) (show (0 ≤ (s + 1) ∧ (s + 1) ≤ 5) ∧ (∀ x, 0 ≤ x → x < (s + 1) → (0 ≤ (upI ne1 s m13) x ∧ (upI ne1 s m13) x ≤ 2147483647) ∧ ∀ y, bS ((upI ne1 s m13) x) y ↔ (N0f nr lf ln bd tm (dvM mk1) tr i fd) x y) by
              refine ⟨by omega, fun x a b => ?_⟩
              rw [upI_ap]
              by_cases hx : x = s
              · rw [if_pos hx, hx]
                exact ⟨hm13, hY13⟩
              · rw [if_neg hx]
                exact hn1 x a (by omega)) (show ((5 - (s + 1)).toNat) < ((5 - s).toNat) by
              omega)
      · show (0 ≤ (0 : Int) ∧ (0 : Int) ≤ 5) ∧ (∀ x, 0 ≤ x → x < (0 : Int) → (0 ≤ ne x ∧ ne x ≤ 2147483647) ∧ ∀ y, bS (ne x) y ↔ (N0f nr lf ln bd tm (dvM mk1) tr i fd) x y)
        exact ⟨by omega, fun x a b => by omega⟩
    · refine J_iconst d_CF_grow_16 ?_
      refine J_istore_n d_CF_grow_17 rfl (by decide) rfl ?_
      refine J_iconst d_CF_grow_18 ?_
      refine J_istore d_CF_grow_19 (by decide) rfl ?_
      refine J.loop (σ := Int × Bool × (Int → Int → Int) × Int × Bool × Value × Int × (Int → Int) × Bool) (fun xx_ => match xx_ with | (s, mo2, mk2, m2, g2, r2, e2, cu2, b2) => (0 ≤ s ∧ s ≤ 5) ∧ (mk2 = mkI mk i fd m2) ∧ (GD nr lf ln bd tm (dvM mk) i fd m1 m2 mo2 s)) (fun xx_ => match xx_ with | (s, mo2, mk2, m2, g2, r2, e2, cu2, b2) => (5 - s).toNat) (ws := fun xx_ => match xx_ with | (s, mo2, mk2, m2, g2, r2, e2, cu2, b2) => (ad, cC ad r lp fd nr nr nr mc lf ln bd tm it th my lps em mk2 tr g2 r2 e2 cu2 b2 vg vr ve vc vb sy sf so st sn ne mt)) (ks := fun _ => 0) (ns := fun _ => 0) (lvs := fun xx_ => match xx_ with | (s, mo2, mk2, m2, g2, r2, e2, cu2, b2) => [(4, Value.int (iI s)), (3, Value.int (iI (bz mo2))), (2, Value.ref (ad (idC fd))), (0, Value.ref (ad 100)), (1, Value.int (iI i))]) (sts := fun _ => []) ?_ (0, false, mk1, m1, g1, r1, e1, cu1, b1) ?_
      · rintro ⟨s, mo2, mk2, m2, g2, r2, e2, cu2, b2⟩ hI ih14
        have hI : (0 ≤ s ∧ s ≤ 5) ∧ (mk2 = mkI mk i fd m2) ∧ (GD nr lf ln bd tm (dvM mk) i fd m1 m2 mo2 s) := hI
        obtain ⟨hs, hk2, hD2⟩ := hI
        show J l D b Y_CF_grow _ _ (ad, cC ad r lp fd nr nr nr mc lf ln bd tm it th my lps em mk2 tr g2 r2 e2 cu2 b2 vg vr ve vc vb sy sf so st sn ne mt) 0 0 21 [(4, Value.int (iI s)), (3, Value.int (iI (bz mo2))), (2, Value.ref (ad (idC fd))), (0, Value.ref (ad 100)), (1, Value.int (iI i))] []
        refine J_iload d_CF_grow_21 0 rfl ?_
        refine J_iconst d_CF_grow_23 ?_
        refine J_icmp_ge (tgt := 76) d_CF_grow_24 rfl (by omega) (by omega) (fun h24_15 => ?_) (fun h24_15 => ?_)
        · refine J_goto (tgt := 12) d_CF_grow_76 rfl ?_
          refine J.sub [1, 2, 3, 4] rfl ?_
          exact ih1 (mo2, mk2, m2, g2, r2, e2, cu2, b2) (show (0 ≤ m2 ∧ m2 ≤ 31) ∧ (mk2 = mkI mk i fd m2) ∧ (LSnD nr lf ln bd tm (dvM mk) i fd (bit m2)) ∧ (mo2 = false → LClD nr lf ln bd tm (dvM mk) i fd (bit m2)) by
              exact ⟨hD2.1, hk2, hD2.2.1, fun h => gd_end hD2 (by omega) h⟩) (show ((5 - cnt (bit m2) 5).toNat + (if mo2 = true then 1 else 0)) < ((5 - cnt (bit m1) 5).toNat + (if mo = true then 1 else 0)) by
              rw [show mo = true by assumption]
              exact gd_mu hD2)
        · have hm9 : 0 ≤ mk2 fd i ∧ mk2 fd i ≤ 2147483647 := by
            rw [hk2, mkI_at]
            have := hD2.1
            omega
          have hmk2 : MkR mk2 := by
            rw [hk2]
            exact hmk.mkI hD2.1
          refine J_aload_n d_CF_grow_27 rfl 2 rfl ?_
          refine J_get fs_CF_178 (hidC (k := fd) (by omega)) rfl d_CF_grow_28 ?_
          refine J_iload_n d_CF_grow_31 rfl 4 rfl ?_
          refine J_iald (hidK (k := fd) (by omega)) (by omega) (by omega) d_CF_grow_32 ?_
          refine J_iload d_CF_grow_33 0 rfl ?_
          refine J_ishr d_CF_grow_35 (iI_shr hm9 (by omega)) ?_
          refine J_iconst d_CF_grow_36 ?_
          refine J_iand d_CF_grow_37 (iI_bit hm9) ?_
          refine J_ifB_ne (tgt := 70) d_CF_grow_38 rfl (fun h38_16 => ?_) (fun h38_16 => ?_)
          · refine J_iinc (j := 0) d_CF_grow_70 rfl (by decide) rfl ?_
            refine J_goto (tgt := 21) d_CF_grow_73 rfl ?_
            exact ih14 (s + 1, mo2, mk2, m2, g2, r2, e2, cu2, b2) (show (0 ≤ (s + 1) ∧ (s + 1) ≤ 5) ∧ (mk2 = mkI mk i fd m2) ∧ (GD nr lf ln bd tm (dvM mk) i fd m1 m2 mo2 (s + 1)) by
                refine ⟨by omega, hk2, gd_no hD2 ?_⟩
                first
                  | (left; have h9 : bit (mk2 fd i) s = true := ‹_›; rw [hk2, mkI_at] at h9; exact h9)
                  | (right
                     intro h9
                     rw [← dvM_mkI, ← hk2] at h9
                     have h8 := hY0.mpr h9
                     rw [‹z0 = false›] at h8
                     cases h8)) (show ((5 - (s + 1)).toNat) < ((5 - s).toNat) by
                omega)
          · refine J_aload_n d_CF_grow_41 rfl 3 rfl ?_
            refine J_iload d_CF_grow_42 0 rfl ?_
            refine J_iload_n d_CF_grow_44 rfl 4 rfl ?_
            refine J_aload_n d_CF_grow_45 rfl 3 rfl ?_
            refine J_get fs_CF_109 rfl rfl d_CF_grow_46 ?_
            refine J_callV (st := []) [Value.int (iI s), Value.int (iI i), Value.int (iI fd)] ms_CF_223 rfl (c_CF_hasWay hg htm hmk2 (by omega) (by omega)) rfl rfl ⟨Nat.le_of_ble_eq_true rfl, Nat.le_of_ble_eq_true rfl⟩ ⟨Nat.le_of_ble_eq_true rfl, Nat.le_of_ble_eq_true rfl⟩ (Nat.le_of_ble_eq_true rfl) d_CF_grow_49 (fun v w' hp => ?_)
            obtain ⟨z17, g17, r17, e17, cu17, b17, rfl, rfl, hY17⟩ := hp
            show J l D b Y_CF_grow _ _ (ad, cC ad r lp fd nr nr nr mc lf ln bd tm it th my lps em mk2 tr g17 r17 e17 cu17 b17 vg vr ve vc vb sy sf so st sn ne mt) 0 0 52 [(4, Value.int (iI s)), (3, Value.int (iI (bz mo2))), (2, Value.ref (ad (idC fd))), (0, Value.ref (ad 100)), (1, Value.int (iI i))] [Value.int (iI (bz z17))]
            refine J_ifB_eq (tgt := 70) d_CF_grow_52 rfl (fun h52_18 => ?_) (fun h52_18 => ?_)
            · refine J_iinc (j := 0) d_CF_grow_70 rfl (by decide) rfl ?_
              refine J_goto (tgt := 21) d_CF_grow_73 rfl ?_
              exact ih14 (s + 1, mo2, mk2, m2, g17, r17, e17, cu17, b17) (show (0 ≤ (s + 1) ∧ (s + 1) ≤ 5) ∧ (mk2 = mkI mk i fd m2) ∧ (GD nr lf ln bd tm (dvM mk) i fd m1 m2 mo2 (s + 1)) by
                  refine ⟨by omega, hk2, gd_no hD2 ?_⟩
                  first
                    | (left; have h9 : bit (mk2 fd i) s = true := ‹_›; rw [hk2, mkI_at] at h9; exact h9)
                    | (right
                       intro h9
                       rw [← dvM_mkI, ← hk2] at h9
                       have h8 := hY17.mpr h9
                       rw [‹z17 = false›] at h8
                       cases h8)) (show ((5 - (s + 1)).toNat) < ((5 - s).toNat) by
                  omega)
            · refine J_aload_n d_CF_grow_55 rfl 2 rfl ?_
              refine J_get fs_CF_178 (hidC (k := fd) (by omega)) rfl d_CF_grow_56 ?_
              refine J_iload_n d_CF_grow_59 rfl 4 rfl ?_
              refine J_dup2 d_CF_grow_60 rfl rfl ?_
              refine J_iald (hidK (k := fd) (by omega)) (by omega) (by omega) d_CF_grow_61 ?_
              refine J_iconst d_CF_grow_62 ?_
              refine J_iload d_CF_grow_63 0 rfl ?_
              refine J_ishl d_CF_grow_65 (iI_shl1 (by omega)) ?_
              refine J_ior d_CF_grow_66 (iI_or hm9 (by have := p2_rng (s := s) (by omega); omega)) ?_
              refine J_iast (hidK (k := fd) (by omega)) (by omega) (by omega) (uidK_mk (k := fd) (by omega)) d_CF_grow_67 ?_
              refine J_iconst d_CF_grow_68 ?_
              refine J_istore_n d_CF_grow_69 rfl (by decide) rfl ?_
              refine J_iinc (j := 1) d_CF_grow_70 rfl (by decide) rfl ?_
              refine J_goto (tgt := 21) d_CF_grow_73 rfl ?_
              exact ih14 (s + 1, true, upI mk2 fd (upI (mk2 fd) i (orI (mk2 fd i) (p2 s))), orI m2 (p2 s), g17, r17, e17, cu17, b17) (show (0 ≤ (s + 1) ∧ (s + 1) ≤ 5) ∧ ((upI mk2 fd (upI (mk2 fd) i (orI (mk2 fd i) (p2 s)))) = mkI mk i fd (orI m2 (p2 s))) ∧ (GD nr lf ln bd tm (dvM mk) i fd m1 (orI m2 (p2 s)) true (s + 1)) by
                  have e9 : mk2 fd i = m2 := by rw [hk2, mkI_at]
                  refine ⟨by omega, ?_, gd_yes hg (by omega) hD2 (by omega) ?_ ?_⟩
                  · rw [e9, hk2, mkI_up]
                  · rw [← e9]
                    assumption
                  · rw [← dvM_mkI, ← hk2]
                    exact hY17.mp ‹_›) (show ((5 - (s + 1)).toNat) < ((5 - s).toNat) by
                  omega)
      · show (0 ≤ (0 : Int) ∧ (0 : Int) ≤ 5) ∧ (mk1 = mkI mk i fd m1) ∧ (GD nr lf ln bd tm (dvM mk) i fd m1 m1 false (0 : Int))
        exact ⟨by omega, hk1, gd_0 hm1 hS1⟩
  · show (0 ≤ (0 : Int) ∧ (0 : Int) ≤ 31) ∧ (mk = mkI mk i fd (0 : Int)) ∧ (LSnD nr lf ln bd tm (dvM mk) i fd (bit (0 : Int))) ∧ (true = false → LClD nr lf ln bd tm (dvM mk) i fd (bit (0 : Int)))
    exact ⟨by omega, (mkI_id hz).symm, (fun Y _ s _ _ h => by rw [bit_0] at h; cases h), (fun h => by cases h)⟩
end N10
