section N3
variable {l : Launch} {D : jD} {b : Nat} {w : jW} {ad : Nat → Nat} {r : Nat → Option jE} {lp : Bool} {fd : Int} {nr : Int} {nc : Int} {nd : Int} {mc : Int} {lf : Int → Int} {ln : Int → Int} {bd : Int → Int} {tm : Int → Int} {it : Int → Int → Int} {th : Int → Int → Bool} {my : Int → Int} {lps : Int → Int → Int} {em : Int → Int} {mk : Int → Int → Int} {tr : Int → Int → Int → Int} {wg : Bool} {wr : Value} {we : Int} {wc : Int → Int} {wb : Bool} {vg : Bool} {vr : Value} {ve : Int} {vc : Int → Int} {vb : Bool} {sy : Int → Int} {sf : Int → Int} {so : Int → Int} {st : Int → Int} {sn : Int} {ne : Int → Int} {mt : Int → Int → Bool}
set_option maxHeartbeats 4000000 in
theorem c_CF_close {i : Int}  (hg : gOK nr lf ln bd) (hi : 0 ≤ i ∧ i < 13) (hS : SO it th my) (hL : CL lp nr lf ln bd lps i th) (hIi : ∀ c, th i c = true → IOK nr ln i c) (he : em i = 0) (hlm : ∀ y, 0 ≤ y → y < 5 → lps i y = -1) : Ct l D b Y_CF_close { frames := 7, cells := 0, slots := 0, locals := 157 } [Value.ref (ad 100), Value.int (iI i)] (ad, cC ad r lp fd nr nr nr mc lf ln bd tm it th my lps em mk tr wg wr we wc wb vg vr ve vc vb sy sf so st sn ne mt) (fun v w' => v = none ∧ ∃ it' th' my' em' lps', w' = (ad, cC ad r lp fd nr nr nr mc lf ln bd tm it' th' my' lps' em' mk tr wg wr we wc wb vg vr ve vc vb sy sf so st sn ne mt) ∧ Gro i it th my it' th' my' ∧ Clo lp nr lf ln bd i (tab th) (tab th') ∧ (∀ c, th' i c = true → IOK nr ln i c) ∧ (∀ k', k' ≠ i → lps' k' = lps k') ∧ ∀ y, 0 ≤ y → y ≤ 4 → lps' i y = if lp = true then lpN (tab th') lf ln bd i.toNat y (-1) else -1) := by
  refine Ct_of (by decide) (Nat.le_of_ble_eq_true rfl) ?_
  have hn := hg.1
  show J l D b Y_CF_close _ _ (ad, cC ad r lp fd nr nr nr mc lf ln bd tm it th my lps em mk tr wg wr we wc wb vg vr ve vc vb sy sf so st sn ne mt) 0 0 0 [(0, Value.ref (ad 100)), (1, Value.int (iI i))] []
  refine J_aload_n d_CF_close_0 rfl 0 rfl ?_
  refine J_get fs_CF_29 rfl rfl d_CF_close_1 ?_
  refine J_iload_n d_CF_close_4 rfl 1 rfl ?_
  refine J_aald (v := Value.ref (ad (idS i))) rfl rfl (by omega) (by decide) rfl d_CF_close_5 ?_
  refine J_astore_n d_CF_close_6 rfl (by decide) rfl ?_
  refine J_iconst d_CF_close_7 ?_
  refine J_istore_n d_CF_close_8 rfl (by decide) rfl ?_
  refine J.sub [0, 1, 2, 3] (lv' := [(3, Value.int (iI 0)), (2, Value.ref (ad (idS i))), (0, Value.ref (ad 100)), (1, Value.int (iI i))]) rfl ?_
  refine J.loop (σ := Int × (Int → Int → Int) × (Int → Int → Bool) × (Int → Int) × (Int → Int)) (fun xx_ => match xx_ with | (k, it1, th1, my1, em1) => (0 ≤ k ∧ k ≤ my1 i) ∧ (CI lp nr lf ln bd lps i k it th my it1 th1 my1 em1)) (fun xx_ => match xx_ with | (k, it1, th1, my1, em1) => (573 - k).toNat) (ws := fun xx_ => match xx_ with | (k, it1, th1, my1, em1) => (ad, cC ad r lp fd nr nr nr mc lf ln bd tm it1 th1 my1 lps em1 mk tr wg wr we wc wb vg vr ve vc vb sy sf so st sn ne mt)) (ks := fun _ => 0) (ns := fun _ => 0) (lvs := fun xx_ => match xx_ with | (k, it1, th1, my1, em1) => [(3, Value.int (iI k)), (2, Value.ref (ad (idS i))), (0, Value.ref (ad 100)), (1, Value.int (iI i))]) (sts := fun _ => []) ?_ (0, it, th, my, em) ?_
  · rintro ⟨k, it1, th1, my1, em1⟩ hI ih1
    have hI : (0 ≤ k ∧ k ≤ my1 i) ∧ (CI lp nr lf ln bd lps i k it th my it1 th1 my1 em1) := hI
    obtain ⟨hk, hCI⟩ := hI
    show J l D b Y_CF_close _ _ (ad, cC ad r lp fd nr nr nr mc lf ln bd tm it1 th1 my1 lps em1 mk tr wg wr we wc wb vg vr ve vc vb sy sf so st sn ne mt) 0 0 9 [(3, Value.int (iI k)), (2, Value.ref (ad (idS i))), (0, Value.ref (ad 100)), (1, Value.int (iI i))] []
    have hm0 := (hCI.1.2.2.2.2 i hi.1 hi.2).rng
    refine J_iload_n d_CF_close_9 rfl 0 rfl ?_
    refine J_aload_n d_CF_close_10 rfl 1 rfl ?_
    refine J_get fs_CF_136 (hidS (k := i) (by omega)) rfl d_CF_close_11 ?_
    refine J_icmp_ge (tgt := 123) d_CF_close_14 rfl (by omega) (by omega) (fun h14_2 => ?_) (fun h14_2 => ?_)
    · have hS := hCI.1.2.2.2.2
      have hCl := ci_end hg hi hL hCI (by omega)
      have hL1 := hL.gro hCI.1
      refine J_iconst d_CF_close_123 ?_
      refine J_istore_n d_CF_close_124 rfl (by decide) rfl ?_
      refine J.loop (σ := Int × (Int → Int → Int)) (fun xx_ => match xx_ with | (y, lps1) => ((0 ≤ y ∧ y ≤ 5) ∧ (y = 0 ∨ lp = true)) ∧ ((∀ k', k' ≠ i → lps1 k' = lps k') ∧ ∀ y', 0 ≤ y' → y' < 5 → lps1 i y' = if y' < y then lpN (tab th1) lf ln bd i.toNat y' (-1) else -1)) (fun xx_ => match xx_ with | (y, lps1) => (5 - y).toNat) (ws := fun xx_ => match xx_ with | (y, lps1) => (ad, cC ad r lp fd nr nr nr mc lf ln bd tm it1 th1 my1 lps1 em1 mk tr wg wr we wc wb vg vr ve vc vb sy sf so st sn ne mt)) (ks := fun _ => 0) (ns := fun _ => 0) (lvs := fun xx_ => match xx_ with | (y, lps1) => [(3, Value.int (iI y)), (2, Value.ref (ad (idS i))), (0, Value.ref (ad 100)), (1, Value.int (iI i))]) (sts := fun _ => []) ?_ (0, lps) ?_
      · rintro ⟨y, lps1⟩ hI ih3
        have hI : ((0 ≤ y ∧ y ≤ 5) ∧ (y = 0 ∨ lp = true)) ∧ ((∀ k', k' ≠ i → lps1 k' = lps k') ∧ ∀ y', 0 ≤ y' → y' < 5 → lps1 i y' = if y' < y then lpN (tab th1) lf ln bd i.toNat y' (-1) else -1) := hI
        obtain ⟨hy, hP⟩ := hI
        show J l D b Y_CF_close _ _ (ad, cC ad r lp fd nr nr nr mc lf ln bd tm it1 th1 my1 lps1 em1 mk tr wg wr we wc wb vg vr ve vc vb sy sf so st sn ne mt) 0 0 125 [(3, Value.int (iI y)), (2, Value.ref (ad (idS i))), (0, Value.ref (ad 100)), (1, Value.int (iI i))] []
        refine J_iload_n d_CF_close_125 rfl 0 rfl ?_
        refine J_iconst d_CF_close_126 ?_
        refine J_icmp_ge (tgt := 156) d_CF_close_127 rfl (by omega) (by omega) (fun h127_4 => ?_) (fun h127_4 => ?_)
        · refine J_vret rfl d_CF_close_156 ⟨Nat.le_of_ble_eq_true rfl, Nat.le_of_ble_eq_true rfl⟩ ?_
          refine ⟨rfl, _, _, _, _, _, rfl, hCI.1, hCl, hCI.2.2.2.2, hP.1, fun y' a1 a2 => ?_⟩
          rw [hP.2 y' a1 (by omega)]
          first
            | (rw [if_neg (show ¬ y' < y by rcases hy.2 with e | e; omega; (rw [‹lp = false›] at e; cases e)), if_neg (by rw [‹lp = false›]; decide)]; done)
            | (rcases hy.2 with e | e
               · omega
               · rw [if_pos (by omega), if_pos e])
        · refine J_aload_n d_CF_close_130 rfl 2 rfl ?_
          refine J_get fs_CF_68 rfl rfl d_CF_close_131 ?_
          refine J_ifB_eq (tgt := 156) d_CF_close_134 rfl (fun h134_5 => ?_) (fun h134_5 => ?_)
          · refine J_vret rfl d_CF_close_156 ⟨Nat.le_of_ble_eq_true rfl, Nat.le_of_ble_eq_true rfl⟩ ?_
            refine ⟨rfl, _, _, _, _, _, rfl, hCI.1, hCl, hCI.2.2.2.2, hP.1, fun y' a1 a2 => ?_⟩
            rw [hP.2 y' a1 (by omega)]
            first
              | (rw [if_neg (show ¬ y' < y by rcases hy.2 with e | e; omega; (rw [‹lp = false›] at e; cases e)), if_neg (by rw [‹lp = false›]; decide)]; done)
              | (rcases hy.2 with e | e
                 · omega
                 · rw [if_pos (by omega), if_pos e])
          · have hIo : ∀ o, 0 ≤ o → o ≤ i → ∀ c, th1 o c = true → IOK nr ln o c := by
              intro o a1 a2 c hc
              by_cases ho : o = i
              · rw [ho] at hc ⊢
                exact hCI.2.2.2.2 c hc
              · exact (hL1 o a1 (by omega)).1 c hc
            have hlp : ∀ o y, 0 ≤ o → o < i → 0 ≤ y → y ≤ 4 → lps1 o y = lpN (tab th1) lf ln bd o.toNat y (-1) := by
              intro o y a1 a2 a3 a4
              rw [hP.1 o (by omega), (hL1 o a1 a2).2 y a3 a4, if_pos ‹_›]
            refine J_aload_n d_CF_close_137 rfl 1 rfl ?_
            refine J_get fs_CF_154 (hidS (k := i) (by omega)) rfl d_CF_close_138 ?_
            refine J_iload_n d_CF_close_141 rfl 0 rfl ?_
            refine J_aload_n d_CF_close_142 rfl 2 rfl ?_
            refine J_aload_n d_CF_close_143 rfl 1 rfl ?_
            refine J_iload_n d_CF_close_144 rfl 3 rfl ?_
            refine J_iload_n d_CF_close_145 rfl 0 rfl ?_
            refine J_callV (st := [Value.int (iI y), Value.ref (ad (idL i))]) [Value.ref (ad (idS i)), Value.int (iI i), Value.int (iI y)] ms_CF_168 rfl (c_CF_leapFor hg (by omega) (by omega) hS hIo hlp) rfl rfl ⟨Nat.le_of_ble_eq_true rfl, Nat.le_of_ble_eq_true rfl⟩ ⟨Nat.le_of_ble_eq_true rfl, Nat.le_of_ble_eq_true rfl⟩ (Nat.le_of_ble_eq_true rfl) d_CF_close_146 (fun v w' hp => ?_)
            obtain ⟨rfl, rfl⟩ := hp
            show J l D b Y_CF_close _ _ (ad, cC ad r lp fd nr nr nr mc lf ln bd tm it1 th1 my1 lps1 em1 mk tr wg wr we wc wb vg vr ve vc vb sy sf so st sn ne mt) 0 0 149 [(3, Value.int (iI y)), (2, Value.ref (ad (idS i))), (0, Value.ref (ad 100)), (1, Value.int (iI i))] [Value.int (iI (lpN (tab th1) lf ln bd i.toNat y (-1))), Value.int (iI y), Value.ref (ad (idL i))]
            refine J_iast (hidL (k := i) (by omega)) (by omega) (by decide) (uidL_lps (k := i) (by omega)) d_CF_close_149 ?_
            refine J_iinc (j := 0) d_CF_close_150 rfl (by decide) rfl ?_
            refine J_goto (tgt := 125) d_CF_close_153 rfl ?_
            exact ih3 (y + 1, upI lps1 i (upI (lps1 i) y (lpN (tab th1) lf ln bd i.toNat y (-1)))) (show ((0 ≤ (y + 1) ∧ (y + 1) ≤ 5) ∧ ((y + 1) = 0 ∨ lp = true)) ∧ ((∀ k', k' ≠ i → (upI lps1 i (upI (lps1 i) y (lpN (tab th1) lf ln bd i.toNat y (-1)))) k' = lps k') ∧ ∀ y', 0 ≤ y' → y' < 5 → (upI lps1 i (upI (lps1 i) y (lpN (tab th1) lf ln bd i.toNat y (-1)))) i y' = if y' < (y + 1) then lpN (tab th1) lf ln bd i.toNat y' (-1) else -1) by
                refine ⟨⟨by omega, Or.inr ‹_›⟩, fun k' h => by rw [upI_ne _ _ h]; exact hP.1 k' h, fun y' a1 a2 => ?_⟩
                rw [upI_self, upI_ap]
                by_cases hyy : y' = y
                · rw [if_pos hyy, if_pos (by omega), hyy]
                · rw [if_neg hyy, hP.2 y' a1 a2]
                  by_cases hlt : y' < y
                  · rw [if_pos hlt, if_pos (by omega)]
                  · rw [if_neg hlt, if_neg (by omega)]) (show ((5 - (y + 1)).toNat) < ((5 - y).toNat) by
                omega)
      · show ((0 ≤ (0 : Int) ∧ (0 : Int) ≤ 5) ∧ ((0 : Int) = 0 ∨ lp = true)) ∧ ((∀ k', k' ≠ i → lps k' = lps k') ∧ ∀ y', 0 ≤ y' → y' < 5 → lps i y' = if y' < (0 : Int) then lpN (tab th1) lf ln bd i.toNat y' (-1) else -1)
        exact ⟨by omega, fun _ _ => rfl, fun y' a1 a2 => by rw [if_neg (by omega)]; exact hlm y' a1 a2⟩
    · have hS := hCI.1.2.2.2.2
      have hK := hS i hi.1 hi.2
      have hm := hK.rng
      have hck := hK.2.1 k (by omega) (by omega)
      have hio := hCI.2.2.2.2 _ hck.2
      refine J_aload_n d_CF_close_17 rfl 1 rfl ?_
      refine J_get fs_CF_139 (hidS (k := i) (by omega)) rfl d_CF_close_18 ?_
      refine J_iload_n d_CF_close_21 rfl 0 rfl ?_
      refine J_sald (hidI (k := i) (by omega)) (by omega) (by decide) d_CF_close_22 ?_
      obtain ⟨c, ec⟩ : ∃ y, y = it1 i k := ⟨_, rfl⟩
      rw [← ec]
      refine J_istore d_CF_close_23 (by decide) rfl ?_
      rw [← ec] at hck hio
      have hck1 := hck.1
      have hio1 := hio.2.1
      have hio4 := hio.2.2.2
      have hbr := hg.bc hck1
      refine J_aload_n d_CF_close_25 rfl 3 rfl ?_
      refine J_iload d_CF_close_26 0 rfl ?_
      refine J_callV (st := []) [Value.int (iI c)] ms_CF_143 rfl (c_CF_behind hg (by omega)) rfl rfl ⟨Nat.le_of_ble_eq_true rfl, Nat.le_of_ble_eq_true rfl⟩ ⟨Nat.le_of_ble_eq_true rfl, Nat.le_of_ble_eq_true rfl⟩ (Nat.le_of_ble_eq_true rfl) d_CF_close_28 (fun v w' hp => ?_)
      obtain ⟨rfl, rfl⟩ := hp
      show J l D b Y_CF_close _ _ (ad, cC ad r lp fd nr nr nr mc lf ln bd tm it1 th1 my1 lps em1 mk tr wg wr we wc wb vg vr ve vc vb sy sf so st sn ne mt) 0 0 31 [(4, Value.int (iI c)), (3, Value.int (iI k)), (2, Value.ref (ad (idS i))), (0, Value.ref (ad 100)), (1, Value.int (iI i))] [Value.int (iI (bc ln bd c))]
      refine J_istore d_CF_close_31 (by decide) rfl ?_
      refine J_iload d_CF_close_33 0 rfl ?_
      refine J_callS (st := []) [Value.int (iI (bc ln bd c))] ms_CF_95 (c_CF_isNonterminal (by omega)) rfl rfl ⟨Nat.le_of_ble_eq_true rfl, Nat.le_of_ble_eq_true rfl⟩ ⟨Nat.le_of_ble_eq_true rfl, Nat.le_of_ble_eq_true rfl⟩ (Nat.le_of_ble_eq_true rfl) d_CF_close_35 (fun v w' hp => ?_)
      obtain ⟨rfl, rfl⟩ := hp
      show J l D b Y_CF_close _ _ (ad, cC ad r lp fd nr nr nr mc lf ln bd tm it1 th1 my1 lps em1 mk tr wg wr we wc wb vg vr ve vc vb sy sf so st sn ne mt) 0 0 38 [(5, Value.int (iI (bc ln bd c))), (4, Value.int (iI c)), (3, Value.int (iI k)), (2, Value.ref (ad (idS i))), (0, Value.ref (ad 100)), (1, Value.int (iI i))] [Value.int (iI (bz (ntB (bc ln bd c))))]
      refine J_ifB_eq (tgt := 74) d_CF_close_38 rfl (fun h38_9 => ?_) (fun h38_9 => ?_)
      · refine J_iload d_CF_close_74 0 rfl ?_
        refine J_iconst d_CF_close_76 ?_
        refine J_icmp_ne (tgt := 117) d_CF_close_77 rfl (by omega) (by omega) (fun h77_10 => ?_) (fun h77_10 => ?_)
        · refine J_iinc (j := 2) d_CF_close_117 rfl (by decide) rfl ?_
          refine J_goto (tgt := 9) d_CF_close_120 rfl ?_
          refine J.sub [0, 3, 4, 5] rfl ?_
          exact ih1 (k + 1, it1, th1, my1, em1) (show (0 ≤ (k + 1) ∧ (k + 1) ≤ my1 i) ∧ (CI lp nr lf ln bd lps i (k + 1) it th my it1 th1 my1 em1) by
              subst ec
              have hmm := ((hCI.1.2.2.2.2 i hi.1 hi.2)).rng
              exact ⟨by omega, ci_no hi hCI (by omega) ‹_› (fun e => by first | omega | exact absurd e ‹_›)⟩) (show ((573 - (k + 1)).toNat) < ((573 - k).toNat) by
              have := ((hCI.1.2.2.2.2 i hi.1 hi.2)).rng
              omega)
        · refine J_iload d_CF_close_80 1 rfl ?_
          refine J_callS (st := []) [Value.int (iI c)] ms_CF_122 (c_CF_ruleOf (by omega)) rfl rfl ⟨Nat.le_of_ble_eq_true rfl, Nat.le_of_ble_eq_true rfl⟩ ⟨Nat.le_of_ble_eq_true rfl, Nat.le_of_ble_eq_true rfl⟩ (Nat.le_of_ble_eq_true rfl) d_CF_close_82 (fun v w' hp => ?_)
          obtain ⟨rfl, rfl⟩ := hp
          show J l D b Y_CF_close _ _ (ad, cC ad r lp fd nr nr nr mc lf ln bd tm it1 th1 my1 lps em1 mk tr wg wr we wc wb vg vr ve vc vb sy sf so st sn ne mt) 0 0 85 [(5, Value.int (iI (bc ln bd c))), (4, Value.int (iI c)), (3, Value.int (iI k)), (2, Value.ref (ad (idS i))), (0, Value.ref (ad 100)), (1, Value.int (iI i))] [Value.int (iI (c / 52 - 1))]
          refine J_if_lt (tgt := 117) d_CF_close_85 rfl (by omega) (fun h85_12 => ?_) (fun h85_12 => ?_)
          · refine J_iinc (j := 2) d_CF_close_117 rfl (by decide) rfl ?_
            refine J_goto (tgt := 9) d_CF_close_120 rfl ?_
            refine J.sub [0, 3, 4, 5] rfl ?_
            exact ih1 (k + 1, it1, th1, my1, em1) (show (0 ≤ (k + 1) ∧ (k + 1) ≤ my1 i) ∧ (CI lp nr lf ln bd lps i (k + 1) it th my it1 th1 my1 em1) by
                subst ec
                have hmm := ((hCI.1.2.2.2.2 i hi.1 hi.2)).rng
                exact ⟨by omega, ci_no hi hCI (by omega) ‹_› (fun e => by first | omega | exact absurd e ‹_›)⟩) (show ((573 - (k + 1)).toNat) < ((573 - k).toNat) by
                have := ((hCI.1.2.2.2.2 i hi.1 hi.2)).rng
                omega)
          · have hlf := hg.2.1 (c / 52 - 1) (by omega) (by omega)
            have hE := hCI.2.2.1.1
            have hL1 := hL.gro hCI.1
            have hI1 : ∀ c, th1 i c = true → c / 52 - 1 < nr := fun c hc => (hCI.2.2.2.2 c hc).2.1
            have hI2 : ∀ c', th1 (c % 13) c' = true → c' / 52 - 1 < nr := by
              intro c' hc'
              by_cases ho : c % 13 = i
              · rw [ho] at hc'
                exact hI1 c' hc'
              · exact ((hL1 (c % 13) (by omega) (by omega)).1 c' hc').2.1
            have hl : c % 13 ≠ i → -1 ≤ lps (c % 13) (lf (c / 52 - 1)) ∧ lps (c % 13) (lf (c / 52 - 1)) < 572 := fun ho => (hL1.leap hS hg (by omega) hi.2 hlf).1
            refine J_aload_n d_CF_close_88 rfl 4 rfl ?_
            refine J_aload_n d_CF_close_89 rfl 3 rfl ?_
            refine J_iload_n d_CF_close_90 rfl 5 rfl ?_
            refine J_aload_n d_CF_close_91 rfl 4 rfl ?_
            refine J_get fs_CF_23 rfl rfl d_CF_close_92 ?_
            refine J_iload d_CF_close_95 1 rfl ?_
            refine J_callS (st := [Value.ref (ad 103), Value.int (iI i), Value.ref (ad (idS i)), Value.ref (ad 100)]) [Value.int (iI c)] ms_CF_122 (c_CF_ruleOf (by omega)) rfl rfl ⟨Nat.le_of_ble_eq_true rfl, Nat.le_of_ble_eq_true rfl⟩ ⟨Nat.le_of_ble_eq_true rfl, Nat.le_of_ble_eq_true rfl⟩ (Nat.le_of_ble_eq_true rfl) d_CF_close_97 (fun v w' hp => ?_)
            obtain ⟨rfl, rfl⟩ := hp
            show J l D b Y_CF_close _ _ (ad, cC ad r lp fd nr nr nr mc lf ln bd tm it1 th1 my1 lps em1 mk tr wg wr we wc wb vg vr ve vc vb sy sf so st sn ne mt) 0 0 100 [(5, Value.int (iI (bc ln bd c))), (4, Value.int (iI c)), (3, Value.int (iI k)), (2, Value.ref (ad (idS i))), (0, Value.ref (ad 100)), (1, Value.int (iI i))] [Value.int (iI (c / 52 - 1)), Value.ref (ad 103), Value.int (iI i), Value.ref (ad (idS i)), Value.ref (ad 100)]
            refine J_callV (st := [Value.int (iI i), Value.ref (ad (idS i)), Value.ref (ad 100)]) [Value.int (iI (c / 52 - 1))] ms_CF_87 rfl (c_Al_get (by omega)) rfl rfl ⟨Nat.le_of_ble_eq_true rfl, Nat.le_of_ble_eq_true rfl⟩ ⟨Nat.le_of_ble_eq_true rfl, Nat.le_of_ble_eq_true rfl⟩ (Nat.le_of_ble_eq_true rfl) d_CF_close_100 (fun v w' hp => ?_)
            obtain ⟨rfl, rfl⟩ := hp
            show J l D b Y_CF_close _ _ (ad, cC ad r lp fd nr nr nr mc lf ln bd tm it1 th1 my1 lps em1 mk tr wg wr we wc wb vg vr ve vc vb sy sf so st sn ne mt) 0 0 103 [(5, Value.int (iI (bc ln bd c))), (4, Value.int (iI c)), (3, Value.int (iI k)), (2, Value.ref (ad (idS i))), (0, Value.ref (ad 100)), (1, Value.int (iI i))] [Value.ref (ad (idR (c / 52 - 1))), Value.int (iI i), Value.ref (ad (idS i)), Value.ref (ad 100)]
            refine J_cast (hidR (k := (c / 52 - 1)) (by omega) (by omega)) rfl cl_CF_9 ca_Ru d_CF_close_103 ?_
            refine J_get fs_CF_144 (hidR (k := (c / 52 - 1)) (by omega) (by omega)) rfl d_CF_close_106 ?_
            refine J_iload d_CF_close_109 1 rfl ?_
            refine J_callS (st := [Value.int (iI (lf (c / 52 - 1))), Value.int (iI i), Value.ref (ad (idS i)), Value.ref (ad 100)]) [Value.int (iI c)] ms_CF_161 (c_CF_originOf (by omega)) rfl rfl ⟨Nat.le_of_ble_eq_true rfl, Nat.le_of_ble_eq_true rfl⟩ ⟨Nat.le_of_ble_eq_true rfl, Nat.le_of_ble_eq_true rfl⟩ (Nat.le_of_ble_eq_true rfl) d_CF_close_111 (fun v w' hp => ?_)
            obtain ⟨rfl, rfl⟩ := hp
            show J l D b Y_CF_close _ _ (ad, cC ad r lp fd nr nr nr mc lf ln bd tm it1 th1 my1 lps em1 mk tr wg wr we wc wb vg vr ve vc vb sy sf so st sn ne mt) 0 0 114 [(5, Value.int (iI (bc ln bd c))), (4, Value.int (iI c)), (3, Value.int (iI k)), (2, Value.ref (ad (idS i))), (0, Value.ref (ad 100)), (1, Value.int (iI i))] [Value.int (iI (c % 13)), Value.int (iI (lf (c / 52 - 1))), Value.int (iI i), Value.ref (ad (idS i)), Value.ref (ad 100)]
            refine J_callV (st := []) [Value.ref (ad (idS i)), Value.int (iI i), Value.int (iI (lf (c / 52 - 1))), Value.int (iI (c % 13))] ms_CF_164 rfl (c_CF_complete hg (by omega) (by omega) (by omega) hS hE hI1 hI2 hl) rfl rfl ⟨Nat.le_of_ble_eq_true rfl, Nat.le_of_ble_eq_true rfl⟩ ⟨Nat.le_of_ble_eq_true rfl, Nat.le_of_ble_eq_true rfl⟩ (Nat.le_of_ble_eq_true rfl) d_CF_close_114 (fun v w' hp => ?_)
            obtain ⟨rfl, it16, th16, my16, em16, rfl, hC16⟩ := hp
            show J l D b Y_CF_close _ _ (ad, cC ad r lp fd nr nr nr mc lf ln bd tm it16 th16 my16 lps em16 mk tr wg wr we wc wb vg vr ve vc vb sy sf so st sn ne mt) 0 0 117 [(5, Value.int (iI (bc ln bd c))), (4, Value.int (iI c)), (3, Value.int (iI k)), (2, Value.ref (ad (idS i))), (0, Value.ref (ad 100)), (1, Value.int (iI i))] []
            refine J_iinc (j := 2) d_CF_close_117 rfl (by decide) rfl ?_
            refine J_goto (tgt := 9) d_CF_close_120 rfl ?_
            refine J.sub [0, 3, 4, 5] rfl ?_
            exact ih1 (k + 1, it16, th16, my16, em16) (show (0 ≤ (k + 1) ∧ (k + 1) ≤ my16 i) ∧ (CI lp nr lf ln bd lps i (k + 1) it th my it16 th16 my16 em16) by
                subst ec
                have hmm := ((hCI.1.2.2.2.2 i hi.1 hi.2)).rng
                rcases ‹(_ ∨ _)› with ⟨o1, o2, o3⟩ | ⟨o1, o2, o3, o4⟩ | ⟨o1, o2, o3, o4⟩
                · rw [o2]
                  exact ⟨by have := o3.1.2.2.1; omega, ci_em hg hi hCI (by omega) ‹_› ‹_› o1 o3 (fun d => Iff.rfl)⟩
                · rw [o2]
                  exact ⟨by have := o3.1.2.2.1; omega, ci_co hg hi hL hCI (by omega) ‹_› ‹_› o1 o3 (Or.inl ⟨o4, fun d => Iff.rfl⟩)⟩
                · rw [o2]
                  exact ⟨by have := o3.1.2.2.1; omega, ci_co hg hi hL hCI (by omega) ‹_› ‹_› o1 o3 (Or.inr ⟨o4, fun d => Iff.rfl⟩)⟩) (show ((573 - (k + 1)).toNat) < ((573 - k).toNat) by
                have := ((hCI.1.2.2.2.2 i hi.1 hi.2)).rng
                omega)
      · have hnt := ntB_of ‹_›
        refine J_aload_n d_CF_close_41 rfl 4 rfl ?_
        refine J_aload_n d_CF_close_42 rfl 3 rfl ?_
        refine J_iload d_CF_close_43 0 rfl ?_
        refine J_iload_n d_CF_close_45 rfl 5 rfl ?_
        refine J_callV (st := []) [Value.ref (ad (idS i)), Value.int (iI (bc ln bd c)), Value.int (iI i)] ms_CF_157 rfl (c_CF_predict hg (by omega) (by omega) (by omega) hS) rfl rfl ⟨Nat.le_of_ble_eq_true rfl, Nat.le_of_ble_eq_true rfl⟩ ⟨Nat.le_of_ble_eq_true rfl, Nat.le_of_ble_eq_true rfl⟩ (Nat.le_of_ble_eq_true rfl) d_CF_close_46 (fun v w' hp => ?_)
        obtain ⟨rfl, it17, th17, my17, rfl, hP17⟩ := hp
        show J l D b Y_CF_close _ _ (ad, cC ad r lp fd nr nr nr mc lf ln bd tm it17 th17 my17 lps em1 mk tr wg wr we wc wb vg vr ve vc vb sy sf so st sn ne mt) 0 0 49 [(5, Value.int (iI (bc ln bd c))), (4, Value.int (iI c)), (3, Value.int (iI k)), (2, Value.ref (ad (idS i))), (0, Value.ref (ad 100)), (1, Value.int (iI i))] []
        have hS := (‹GroQ i it1 th1 my1 _ _ _ _›).1.2.2.2.2
        refine J_aload_n d_CF_close_49 rfl 3 rfl ?_
        refine J_get fs_CF_147 (hidS (k := i) (by omega)) rfl d_CF_close_50 ?_
        refine J_iload d_CF_close_53 0 rfl ?_
        refine J_ishr d_CF_close_55 (iI_shr (by have := hCI.2.2.1.1; omega) (by omega)) ?_
        refine J_iconst d_CF_close_56 ?_
        refine J_iand d_CF_close_57 (iI_bit (by have := hCI.2.2.1.1; omega)) ?_
        refine J_iconst d_CF_close_58 ?_
        refine J_icmpB_ne (tgt := 117) d_CF_close_59 rfl (fun h59_18 => ?_) (fun h59_18 => ?_)
        · refine J_iinc (j := 2) d_CF_close_117 rfl (by decide) rfl ?_
          refine J_goto (tgt := 9) d_CF_close_120 rfl ?_
          refine J.sub [0, 3, 4, 5] rfl ?_
          exact ih1 (k + 1, it17, th17, my17, em1) (show (0 ≤ (k + 1) ∧ (k + 1) ≤ my17 i) ∧ (CI lp nr lf ln bd lps i (k + 1) it th my it17 th17 my17 em1) by
              subst ec
              have hmm := ((hCI.1.2.2.2.2 i hi.1 hi.2)).rng
              exact ⟨by have := (‹GroQ i it1 th1 my1 _ _ _ _›).1.2.2.1; omega, ci_nt hg hi hCI (by omega) ‹_› ‹GroQ i it1 th1 my1 _ _ _ _› (fun d => ⟨fun h => Or.inl h, fun h => h.elim id (fun h => by rw [‹bit _ _ = false›] at h; exact absurd h.1 (by decide))⟩)⟩) (show ((573 - (k + 1)).toNat) < ((573 - k).toNat) by
              have := ((hCI.1.2.2.2.2 i hi.1 hi.2)).rng
              omega)
        · have hdot := bc_dot (ln := ln) (bd := bd) (c := c) (by omega)
          have hlk := hg.len (q := c / 52 - 1) (by omega)
          refine J_aload_n d_CF_close_62 rfl 3 rfl ?_
          refine J_iload d_CF_close_63 1 rfl ?_
          refine J_bipush d_CF_close_65 (by decide) ?_
          refine J_iadd d_CF_close_67 ?_
          refine J_callV (st := []) [Value.int (iI (c + 13))] ms_CF_81 (hidS (k := i) (by omega)) (c_Se_add (by omega) (by omega) hS) rfl rfl ⟨Nat.le_of_ble_eq_true rfl, Nat.le_of_ble_eq_true rfl⟩ ⟨Nat.le_of_ble_eq_true rfl, Nat.le_of_ble_eq_true rfl⟩ (Nat.le_of_ble_eq_true rfl) d_CF_close_68 (fun v w' hp => ?_)
          obtain ⟨rfl, it19, th19, my19, rfl, hG19⟩ := hp
          show J l D b Y_CF_close _ _ (ad, cC ad r lp fd nr nr nr mc lf ln bd tm it19 th19 my19 lps em1 mk tr wg wr we wc wb vg vr ve vc vb sy sf so st sn ne mt) 0 0 71 [(5, Value.int (iI (bc ln bd c))), (4, Value.int (iI c)), (3, Value.int (iI k)), (2, Value.ref (ad (idS i))), (0, Value.ref (ad 100)), (1, Value.int (iI i))] []
          refine J_goto (tgt := 117) d_CF_close_71 rfl ?_
          refine J_iinc (j := 2) d_CF_close_117 rfl (by decide) rfl ?_
          refine J_goto (tgt := 9) d_CF_close_120 rfl ?_
          refine J.sub [0, 3, 4, 5] rfl ?_
          exact ih1 (k + 1, it19, th19, my19, em1) (show (0 ≤ (k + 1) ∧ (k + 1) ≤ my19 i) ∧ (CI lp nr lf ln bd lps i (k + 1) it th my it19 th19 my19 em1) by
              subst ec
              have hmm := ((hCI.1.2.2.2.2 i hi.1 hi.2)).rng
              have hGG := (‹GroQ i it1 th1 my1 _ _ _ _›).trans ‹GroQ i it17 th17 my17 _ _ _ _›
              exact ⟨by have := hGG.1.2.2.1; omega, ci_nt hg hi hCI (by omega) ‹_› hGG (fun d => or_congr_right ⟨fun h => ⟨‹_›, h⟩, fun h => h.2⟩)⟩) (show ((573 - (k + 1)).toNat) < ((573 - k).toNat) by
              have := ((hCI.1.2.2.2.2 i hi.1 hi.2)).rng
              omega)
  · show (0 ≤ (0 : Int) ∧ (0 : Int) ≤ my i) ∧ (CI lp nr lf ln bd lps i (0 : Int) it th my it th my em)
    exact ⟨by have := (hS i hi.1 hi.2).rng; omega, ci_0 hS hIi he⟩
end N3
