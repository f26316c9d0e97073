section PN14
variable {lp : Bool} {nr : Int} {lf ln bd tm : Int → Int} {it it1 it2 : Int → Int → Int} {th th1 th2 : Int → Int → Bool} {my my1 my2 : Int → Int}
/-- the first set's first item -/
theorem first_in (h : GroQ 0 it (upI th 0 (fun _ => false)) (upI my 0 0) it1 th1 my1 (fun d => d = 0)) : (∀ d, th1 0 d = true ↔ d = 0) ∧ ∀ o, o ≠ 0 → th1 o = th o := by
  refine ⟨fun d => ?_, fun o ho => ?_⟩
  · rw [h.2 d, upI_self]
    exact ⟨fun e => e.elim (fun e => by cases e) id, Or.inr⟩
  · rw [(h.1.1 o ho).2.2, upI_ne _ _ ho]
theorem mks_first {t3 : Int → Bool} (h1 : ∀ d, th1 0 d = true ↔ d = 0) (h2 : ∀ o, o ≠ 0 → th1 o = th o) (hc : Clo lp nr lf ln bd 0 (tab th1) t3) : Mks lp nr lf ln bd tm 0 (tab th) t3 := by
  refine mks_ofC hc (fun p hp => ?_) (fun d a b => ?_) (fun d hd => ?_)
  · unfold tab
    rw [h2 _ (by omega)]
  · rw [tab_at th1 ⟨a, b⟩, h1]
    exact ⟨fun e => Or.inl ⟨rfl, e⟩, fun e => by rcases e with ⟨_, e⟩ | ⟨e, _⟩; exact e; omega⟩
  · rcases hd with ⟨_, e⟩ | ⟨e, _⟩ <;> omega
/-- the first items of the set behind the last -/
theorem next_in {k t : Int} (h : GroQ k it (upI th k (fun _ => false)) (upI my k 0) it1 th1 my1 (fun d => ∃ c, upI th k (fun _ => false) (k - 1) c = true ∧ bc ln bd c = t ∧ d = c + 13)) : (∀ d, th1 k d = true ↔ ∃ c, th (k - 1) c = true ∧ bc ln bd c = t ∧ d = c + 13) ∧ ∀ o, o ≠ k → th1 o = th o := by
  refine ⟨fun d => ?_, fun o ho => ?_⟩
  · rw [h.2 d, upI_self, upI_ne _ _ (by omega)]
    exact ⟨fun e => e.elim (fun e => by cases e) id, Or.inr⟩
  · rw [(h.1.1 o ho).2.2, upI_ne _ _ ho]
theorem mks_next {k t : Int} {t3 : Int → Bool} (hk : 0 < k) (ht : tm (k - 1) = t) (hI : ∀ c, th (k - 1) c = true → bc ln bd c = t → (0 ≤ c ∧ c < 572) ∧ c + 13 < 572) (h1 : ∀ d, th1 k d = true ↔ ∃ c, th (k - 1) c = true ∧ bc ln bd c = t ∧ d = c + 13) (h2 : ∀ o, o ≠ k → th1 o = th o) (hc : Clo lp nr lf ln bd k (tab th1) t3) : Mks lp nr lf ln bd tm k (tab th) t3 := by
  have st : ∀ d, stt tm ln bd (tab th) k d ↔ ∃ c, th (k - 1) c = true ∧ bc ln bd c = t ∧ d = c + 13 := by
    intro d
    constructor
    · rintro (⟨e, _⟩ | ⟨_, c, c1, c2, c3, c4, c5⟩)
      · omega
      · rw [tab_at th ⟨c1, c2⟩] at c3
        exact ⟨c, c3, c4.trans ht, c5⟩
    · rintro ⟨c, c1, c2, c3⟩
      have := (hI c c1 c2).1
      exact Or.inr ⟨hk, c, this.1, this.2, by rw [tab_at th this]; exact c1, c2.trans ht.symm, c3⟩
  refine mks_ofC hc (fun p hp => ?_) (fun d a b => ?_) (fun d hd => ?_)
  · unfold tab
    rw [h2 _ (by omega)]
  · rw [tab_at th1 ⟨a, b⟩, h1, st]
  · obtain ⟨c, c1, c2, c3⟩ := (st d).mp hd
    have := hI c c1 c2
    omega
end PN14
theorem CL.next {lp : Bool} {nr i : Int} {lf ln bd : Int → Int} {lps lps' : Int → Int → Int} {it it' : Int → Int → Int} {th th' : Int → Int → Bool} {my my' : Int → Int} (hL : CL lp nr lf ln bd lps i th) (g : Gro i it th my it' th' my') (h1 : ∀ c, th' i c = true → IOK nr ln i c) (h2 : ∀ k', k' ≠ i → lps' k' = lps k') (h3 : ∀ y, 0 ≤ y → y ≤ 4 → lps' i y = if lp = true then lpN (tab th') lf ln bd i.toNat y (-1) else -1) : CL lp nr lf ln bd lps' (i + 1) th' := by
  intro o a b
  by_cases ho : o = i
  · rw [ho]
    exact ⟨h1, h3⟩
  · exact (hL.of (th' := th') (lps' := lps') (fun o' a' b' => ⟨(g.1 o' (by omega)).2.2, h2 o' (by omega)⟩)) o a (by omega)
section N14
variable {l : Launch} {D : jD} {b : Nat} {w : jW} {ad : Nat → Nat} {r : Nat → Option jE} {lp : Bool} {fd : Int} {nr : Int} {nc : Int} {nd : Int} {mc : Int} {lf : Int → Int} {ln : Int → Int} {bd : Int → Int} {tm : Int → Int} {it : Int → Int → Int} {th : Int → Int → Bool} {my : Int → Int} {lps : Int → Int → Int} {em : Int → Int} {mk : Int → Int → Int} {tr : Int → Int → Int → Int} {wg : Bool} {wr : Value} {we : Int} {wc : Int → Int} {wb : Bool} {vg : Bool} {vr : Value} {ve : Int} {vc : Int → Int} {vb : Bool} {sy : Int → Int} {sf : Int → Int} {so : Int → Int} {st : Int → Int} {sn : Int} {ne : Int → Int} {mt : Int → Int → Bool}
set_option maxHeartbeats 4000000 in
theorem c_CF_restart   (hg : gOK nr lf ln bd) (htm : ∀ x, 0 ≤ x → x < 12 → -2147483648 ≤ tm x ∧ tm x ≤ 2147483647) (hS : SO it th my) (hmk : MkR mk) (htr : TrR tr) (hfd : fd = 0) : Ct l D b Y_CF_restart { frames := 8, cells := 0, slots := 0, locals := 182 } [Value.ref (ad 100)] (ad, cC ad r lp fd nr nr nr mc lf ln bd tm it th my lps em mk tr wg wr we wc wb vg vr ve vc vb sy sf so st sn ne mt) (fun v w' => v = none ∧ ∃ it' th' my' em' lps' mk' tr' ne' g' r' e' cu' b', w' = (ad, cC ad r lp fd nr nr nr mc lf ln bd tm it' th' my' lps' em' mk' tr' g' r' e' cu' b' vg vr ve vc vb sy sf so st sn ne' mt) ∧ Mks lp nr lf ln bd tm 0 (tab th) (tab th') ∧ SO it' th' my' ∧ CL lp nr lf ln bd lps' 1 th' ∧ (∀ k, k ≠ 0 → th' k = th k) ∧ (∀ b', b' ≠ 0 → mk' b' = mk b' ∧ tr' b' = tr b') ∧ MkR mk' ∧ TrR tr' ∧ LD nr lf ln bd tm mk' tr' 0 0) := by
  refine Ct_of (by decide) (Nat.le_of_ble_eq_true rfl) ?_
  have hn := hg.1
  show J l D b Y_CF_restart _ _ (ad, cC ad r lp fd nr nr nr mc lf ln bd tm it th my lps em mk tr wg wr we wc wb vg vr ve vc vb sy sf so st sn ne mt) 0 0 0 [(0, Value.ref (ad 100))] []
  refine J_aload_n d_CF_restart_0 rfl 0 rfl ?_
  refine J_get fs_CF_29 rfl rfl d_CF_restart_1 ?_
  refine J_iconst d_CF_restart_4 ?_
  refine J_aald (v := Value.ref (ad (idS 0))) rfl rfl (by omega) (by decide) rfl d_CF_restart_5 ?_
  refine J_callV (st := []) [] ms_CF_74 (hidS (ad := ad) (r := r) (lp := lp) (fd := fd) (nr := nr) (nc := nr) (nd := nr) (mc := mc) (lf := lf) (ln := ln) (bd := bd) (tm := tm) (it := it) (th := th) (my := my) (lps := lps) (em := em) (mk := mk) (tr := tr) (wg := wg) (wr := wr) (we := we) (wc := wc) (wb := wb) (vg := vg) (vr := vr) (ve := ve) (vc := vc) (vb := vb) (sy := sy) (sf := sf) (so := so) (st := st) (sn := sn) (ne := ne) (mt := mt) (k := 0) (by omega)) (c_Se_clear (by omega) hS) rfl rfl ⟨Nat.le_of_ble_eq_true rfl, Nat.le_of_ble_eq_true rfl⟩ ⟨Nat.le_of_ble_eq_true rfl, Nat.le_of_ble_eq_true rfl⟩ (Nat.le_of_ble_eq_true rfl) d_CF_restart_6 (fun v w' hp => ?_)
  obtain ⟨rfl, lps1, rfl, hl1, hm1, hS1⟩ := hp
  show J l D b Y_CF_restart _ _ (ad, cC ad r lp fd nr nr nr mc lf ln bd tm it (upI th 0 (fun _ => false)) (upI my 0 0) lps1 (upI em 0 0) mk tr wg wr we wc wb vg vr ve vc vb sy sf so st sn ne mt) 0 0 9 [(0, Value.ref (ad 100))] []
  refine J_aload_n d_CF_restart_9 rfl 0 rfl ?_
  refine J_get fs_CF_29 rfl rfl d_CF_restart_10 ?_
  refine J_iconst d_CF_restart_13 ?_
  refine J_aald (v := Value.ref (ad (idS 0))) rfl rfl (by omega) (by decide) rfl d_CF_restart_14 ?_
  refine J_iconst d_CF_restart_15 ?_
  refine J_iconst d_CF_restart_16 ?_
  refine J_iconst d_CF_restart_17 ?_
  refine J_callS (st := [Value.ref (ad (idS 0))]) [Value.int (iI (-1)), Value.int (iI 0), Value.int (iI 0)] ms_CF_77 (c_CF_pack) rfl rfl ⟨Nat.le_of_ble_eq_true rfl, Nat.le_of_ble_eq_true rfl⟩ ⟨Nat.le_of_ble_eq_true rfl, Nat.le_of_ble_eq_true rfl⟩ (Nat.le_of_ble_eq_true rfl) d_CF_restart_18 (fun v w' hp => ?_)
  obtain ⟨rfl, rfl⟩ := hp
  show J l D b Y_CF_restart _ _ (ad, cC ad r lp fd nr nr nr mc lf ln bd tm it (upI th 0 (fun _ => false)) (upI my 0 0) lps1 (upI em 0 0) mk tr wg wr we wc wb vg vr ve vc vb sy sf so st sn ne mt) 0 0 21 [(0, Value.ref (ad 100))] [Value.int (iI (52 * ((-1) + 1) + 13 * 0 + 0)), Value.ref (ad (idS 0))]
  refine J_callV (st := []) [Value.int (iI (52 * ((-1) + 1) + 13 * 0 + 0))] ms_CF_81 (hidS (ad := ad) (r := r) (lp := lp) (fd := fd) (nr := nr) (nc := nr) (nd := nr) (mc := mc) (lf := lf) (ln := ln) (bd := bd) (tm := tm) (it := it) (th := upI th 0 (fun _ => false)) (my := upI my 0 0) (lps := lps1) (em := upI em 0 0) (mk := mk) (tr := tr) (wg := wg) (wr := wr) (we := we) (wc := wc) (wb := wb) (vg := vg) (vr := vr) (ve := ve) (vc := vc) (vb := vb) (sy := sy) (sf := sf) (so := so) (st := st) (sn := sn) (ne := ne) (mt := mt) (k := 0) (by omega)) (c_Se_add (by omega) (by omega) hS1) rfl rfl ⟨Nat.le_of_ble_eq_true rfl, Nat.le_of_ble_eq_true rfl⟩ ⟨Nat.le_of_ble_eq_true rfl, Nat.le_of_ble_eq_true rfl⟩ (Nat.le_of_ble_eq_true rfl) d_CF_restart_21 (fun v w' hp => ?_)
  obtain ⟨rfl, it3, th3, my3, rfl, hG3⟩ := hp
  show J l D b Y_CF_restart _ _ (ad, cC ad r lp fd nr nr nr mc lf ln bd tm it3 th3 my3 lps1 (upI em 0 0) mk tr wg wr we wc wb vg vr ve vc vb sy sf so st sn ne mt) 0 0 24 [(0, Value.ref (ad 100))] []
  have hG := hG3
  obtain ⟨hf1, hf2⟩ := first_in hG
  have hL0 : CL lp nr lf ln bd lps1 0 th3 := fun o a b => by omega
  have hIi : ∀ c, th3 0 c = true → IOK nr ln 0 c := by
    intro c hc
    rw [(hf1 c).mp hc]
    refine ⟨by omega, by omega, ?_, by omega⟩
    unfold lenOf
    rw [if_pos (by omega)]
    omega
  have he0 : upI em 0 0 0 = 0 := upI_self _ _ _
  have hlm0 := hm1
  refine J_aload_n d_CF_restart_24 rfl 0 rfl ?_
  refine J_iconst d_CF_restart_25 ?_
  refine J_callV (st := []) [Value.int (iI 0)] ms_CF_84 rfl (c_CF_close hg (by omega) hG.1.2.2.2.2 hL0 hIi he0 hlm0) rfl rfl ⟨Nat.le_of_ble_eq_true rfl, Nat.le_of_ble_eq_true rfl⟩ ⟨Nat.le_of_ble_eq_true rfl, Nat.le_of_ble_eq_true rfl⟩ (Nat.le_of_ble_eq_true rfl) d_CF_restart_26 (fun v w' hp => ?_)
  obtain ⟨rfl, it4, th4, my4, em4, lps4, rfl, hC4⟩ := hp
  show J l D b Y_CF_restart _ _ (ad, cC ad r lp fd nr nr nr mc lf ln bd tm it4 th4 my4 lps4 em4 mk tr wg wr we wc wb vg vr ve vc vb sy sf so st sn ne mt) 0 0 29 [(0, Value.ref (ad 100))] []
  refine J_aload_n d_CF_restart_29 rfl 0 rfl ?_
  refine J_get fs_CF_39 rfl rfl d_CF_restart_30 ?_
  refine J_iconst d_CF_restart_33 ?_
  refine J_aald (v := Value.ref (ad (idC 0))) rfl rfl (by omega) (by decide) rfl d_CF_restart_34 ?_
  refine J_callV (st := []) [] ms_CF_91 (hidC (ad := ad) (r := r) (lp := lp) (fd := fd) (nr := nr) (nc := nr) (nd := nr) (mc := mc) (lf := lf) (ln := ln) (bd := bd) (tm := tm) (it := it4) (th := th4) (my := my4) (lps := lps4) (em := em4) (mk := mk) (tr := tr) (wg := wg) (wr := wr) (we := we) (wc := wc) (wb := wb) (vg := vg) (vr := vr) (ve := ve) (vc := vc) (vb := vb) (sy := sy) (sf := sf) (so := so) (st := st) (sn := sn) (ne := ne) (mt := mt) (k := 0) (by omega)) (c_Co_clear (by omega)) rfl rfl ⟨Nat.le_of_ble_eq_true rfl, Nat.le_of_ble_eq_true rfl⟩ ⟨Nat.le_of_ble_eq_true rfl, Nat.le_of_ble_eq_true rfl⟩ (Nat.le_of_ble_eq_true rfl) d_CF_restart_35 (fun v w' hp => ?_)
  obtain ⟨mk5, tr5, rfl, rfl, hO5, hZ5⟩ := hp
  show J l D b Y_CF_restart _ _ (ad, cC ad r lp fd nr nr nr mc lf ln bd tm it4 th4 my4 lps4 em4 mk5 tr5 wg wr we wc wb vg vr ve vc vb sy sf so st sn ne mt) 0 0 38 [(0, Value.ref (ad 100))] []
  have hmk1 : MkR mk5 := by
    intro b9 a9 a1 a2 a3
    by_cases hb : b9 = 0
    · subst hb
      rw [(hZ5 a9 a1 a2).1]
      omega
    · rw [(hO5 b9 hb).1]
      exact hmk b9 a9 a1 a2 a3
  have htr1 : TrR tr5 := by
    intro b9 a9 s9 a1 a2 a3 a4 a5
    by_cases hb : b9 = 0
    · subst hb
      rw [(hZ5 a9 a1 a2).2 s9 a4 a5]
      omega
    · rw [(hO5 b9 hb).2]
      exact htr b9 a9 s9 a1 a2 a3 a4 a5
  have hz0 : mk5 fd 0 = 0 := by
    rw [hfd]
    exact (hZ5 0 (by omega) (by omega)).1
  refine J_aload_n d_CF_restart_38 rfl 0 rfl ?_
  refine J_iconst d_CF_restart_39 ?_
  refine J_callV (st := []) [Value.int (iI 0)] ms_CF_92 rfl (c_CF_grow hg htm hmk1 htr1 (by omega) (by omega) hz0) rfl rfl ⟨Nat.le_of_ble_eq_true rfl, Nat.le_of_ble_eq_true rfl⟩ ⟨Nat.le_of_ble_eq_true rfl, Nat.le_of_ble_eq_true rfl⟩ (Nat.le_of_ble_eq_true rfl) d_CF_restart_40 (fun v w' hp => ?_)
  obtain ⟨rfl, m6, T6, ne6, g6, r6, e6, cu6, b6, rfl, hM6, hA6, hB6, hC6⟩ := hp
  show J l D b Y_CF_restart _ _ (ad, cC ad r lp fd nr nr nr mc lf ln bd tm it4 th4 my4 lps4 em4 (mkI mk5 0 fd m6) (trI tr5 0 fd T6) g6 r6 e6 cu6 b6 vg vr ve vc vb sy sf so st sn ne6 mt) 0 0 43 [(0, Value.ref (ad 100))] []
  refine J_vret rfl d_CF_restart_43 ⟨Nat.le_of_ble_eq_true rfl, Nat.le_of_ble_eq_true rfl⟩ ?_
  obtain ⟨k1, k2, k3, k4, k5⟩ := hC4
  refine ⟨rfl, _, _, _, _, _, _, _, _, _, _, _, _, _, rfl, mks_first hf1 hf2 k2, k1.2.2.2.2, CL.next hL0 k1 k3 k4 k5, fun k hk => ?_, fun b9 hb => ?_, hmk1.mkI hM6, TrR_grow htr1 hC6, ?_⟩
  · rw [(k1.1 k hk).2.2, hf2 k hk]
  · unfold mkI trI
    rw [upI_ne _ _ (by omega), upI_ne _ _ (by omega)]
    exact hO5 b9 hb
  · have h9 := LD_grow hg (by omega) hA6 hB6 hC6
    rw [hfd] at h9 ⊢
    exact h9
set_option maxHeartbeats 4000000 in
theorem c_CF_feed {t : Int}  (hI : CInv lp nr lf ln bd fd tm it th my lps mk tr mt) (ht : 8 ≤ t ∧ t ≤ 11) (hf12 : fd < 12) (hex : ∃ c, th fd c = true ∧ bc ln bd c = t) : Ct l D b Y_CF_feed { frames := 8, cells := 0, slots := 0, locals := 182 } [Value.ref (ad 100), Value.int (iI t)] (ad, cC ad r lp fd nr nr nr mc lf ln bd tm it th my lps em mk tr wg wr we wc wb vg vr ve vc vb sy sf so st sn ne mt) (fun v w' => ∃ it' th' my' em' lps' mk' tr' ne' g' r' e' cu' b', v = some (.int (iI (my' (fd + 1)))) ∧ w' = (ad, cC ad r lp (fd + 1) nr nr nr mc lf ln bd (upI tm fd t) it' th' my' lps' em' mk' tr' g' r' e' cu' b' vg vr ve vc vb sy sf so st sn ne' mt) ∧ Mks lp nr lf ln bd (upI tm fd t) (fd + 1) (tab th) (tab th') ∧ (∀ k, k ≠ fd + 1 → th' k = th k) ∧ CInv lp nr lf ln bd (fd + 1) (upI tm fd t) it' th' my' lps' mk' tr' mt) := by
  refine Ct_of (by decide) (Nat.le_of_ble_eq_true rfl) ?_
  obtain ⟨hg, hf, htm, hS, hCL, hmk, htr, hLD, hmt⟩ := hI
  have hn := hg.1
  have hIo : ∀ c, th fd c = true → c / 52 - 1 < nr := fun c hc => ((hCL fd (by omega) (by omega)).1 c hc).2.1
  have htm1 : ∀ x, 0 ≤ x → x < 12 → -2147483648 ≤ upI tm fd t x ∧ upI tm fd t x ≤ 2147483647 := by
    intro x a b
    rw [upI_ap]
    split
    · omega
    · exact htm x a b
  show J l D b Y_CF_feed _ _ (ad, cC ad r lp fd nr nr nr mc lf ln bd tm it th my lps em mk tr wg wr we wc wb vg vr ve vc vb sy sf so st sn ne mt) 0 0 0 [(0, Value.ref (ad 100)), (1, Value.int (iI t))] []
  refine J_iload_n d_CF_feed_0 rfl 1 rfl ?_
  refine J_callS (st := []) [Value.int (iI t)] ms_CF_102 (c_CF_isTerminal (by omega)) rfl rfl ⟨Nat.le_of_ble_eq_true rfl, Nat.le_of_ble_eq_true rfl⟩ ⟨Nat.le_of_ble_eq_true rfl, Nat.le_of_ble_eq_true rfl⟩ (Nat.le_of_ble_eq_true rfl) d_CF_feed_1 (fun v w' hp => ?_)
  obtain ⟨rfl, rfl⟩ := hp
  show J l D b Y_CF_feed _ _ (ad, cC ad r lp fd nr nr nr mc lf ln bd tm it th my lps em mk tr wg wr we wc wb vg vr ve vc vb sy sf so st sn ne mt) 0 0 4 [(0, Value.ref (ad 100)), (1, Value.int (iI t))] [Value.int (iI (bz (tmB t)))]
  refine J_ifB_ne (tgt := 15) d_CF_feed_4 rfl (fun h4_2 => ?_) (fun h4_2 => ?_)
  · refine J_aload_n d_CF_feed_15 rfl 0 rfl ?_
    refine J_get fs_CF_109 rfl rfl d_CF_feed_16 ?_
    refine J_bipush d_CF_feed_19 (by decide) ?_
    refine J_icmp_lt (tgt := 32) d_CF_feed_21 rfl (by omega) (by omega) (fun h21_3 => ?_) (fun h21_3 => ?_)
    · refine J_aload_n d_CF_feed_32 rfl 0 rfl ?_
      refine J_callV (st := []) [] ms_CF_172 rfl (c_CF_expected hg (by omega) hS hIo) rfl rfl ⟨Nat.le_of_ble_eq_true rfl, Nat.le_of_ble_eq_true rfl⟩ ⟨Nat.le_of_ble_eq_true rfl, Nat.le_of_ble_eq_true rfl⟩ (Nat.le_of_ble_eq_true rfl) d_CF_feed_33 (fun v w' hp => ?_)
      obtain ⟨e4, rfl, rfl, hE4⟩ := hp
      show J l D b Y_CF_feed _ _ (ad, cC ad r lp fd nr nr nr mc lf ln bd tm it th my lps em mk tr wg wr we wc wb vg vr ve vc vb sy sf so st sn ne mt) 0 0 36 [(0, Value.ref (ad 100)), (1, Value.int (iI t))] [Value.int (iI e4)]
      have hE9 := hE4
      have hbt : bit e4 (t - 8) = true := by
        obtain ⟨c, c1, c2⟩ := hex
        have hc := (hS fd (by omega) (by omega)).code c1
        exact (hE9.2 (t - 8) (by omega)).mpr ⟨c, hc.1, hc.2, by rw [tab_at th hc]; exact c1, by omega⟩
      refine J_iload_n d_CF_feed_36 rfl 1 rfl ?_
      refine J_bipush d_CF_feed_37 (by decide) ?_
      refine J_isub d_CF_feed_39 ?_
      refine J_ishr d_CF_feed_40 (iI_shr (by have := hE9.1; omega) (by omega)) ?_
      refine J_iconst d_CF_feed_41 ?_
      refine J_iand d_CF_feed_42 (iI_bit (by have := hE9.1; omega)) ?_
      refine J_ifB_ne (tgt := 54) d_CF_feed_43 rfl (fun h43_5 => ?_) (fun h43_5 => ?_)
      · refine J_aload_n d_CF_feed_54 rfl 0 rfl ?_
        refine J_get fs_CF_33 rfl rfl d_CF_feed_55 ?_
        refine J_aload_n d_CF_feed_58 rfl 0 rfl ?_
        refine J_get fs_CF_109 rfl rfl d_CF_feed_59 ?_
        refine J_iload_n d_CF_feed_62 rfl 1 rfl ?_
        refine J_iast rfl (by omega) (by decide) u_106 d_CF_feed_63 ?_
        refine J_aload_n d_CF_feed_64 rfl 0 rfl ?_
        refine J_dup d_CF_feed_65 rfl ?_
        refine J_get fs_CF_109 rfl rfl d_CF_feed_66 ?_
        refine J_iconst d_CF_feed_69 ?_
        refine J_iadd d_CF_feed_70 ?_
        refine J_put fs_CF_109 rfl (Nat.le_of_ble_eq_true rfl) (fun _ h => by cases h; exact Or.inl rfl) rfl rfl u_100 d_CF_feed_71 ?_
        refine J_aload_n d_CF_feed_74 rfl 0 rfl ?_
        refine J_get fs_CF_29 rfl rfl d_CF_feed_75 ?_
        refine J_aload_n d_CF_feed_78 rfl 0 rfl ?_
        refine J_get fs_CF_109 rfl rfl d_CF_feed_79 ?_
        refine J_aald (v := Value.ref (ad (idS (fd + 1)))) rfl rfl (by omega) (by decide) rfl d_CF_feed_82 ?_
        refine J_callV (st := []) [] ms_CF_74 (hidS (k := (fd + 1)) (by omega)) (c_Se_clear (by omega) hS) rfl rfl ⟨Nat.le_of_ble_eq_true rfl, Nat.le_of_ble_eq_true rfl⟩ ⟨Nat.le_of_ble_eq_true rfl, Nat.le_of_ble_eq_true rfl⟩ (Nat.le_of_ble_eq_true rfl) d_CF_feed_83 (fun v w' hp => ?_)
        obtain ⟨rfl, lps6, rfl, hl6, hm6, hS6⟩ := hp
        show J l D b Y_CF_feed _ _ (ad, cC ad r lp (fd + 1) nr nr nr mc lf ln bd (upI tm fd t) it (upI th (fd + 1) (fun _ => false)) (upI my (fd + 1) 0) lps6 (upI em (fd + 1) 0) mk tr wg wr we wc wb vg vr ve vc vb sy sf so st sn ne mt) 0 0 86 [(0, Value.ref (ad 100)), (1, Value.int (iI t))] []
        have hIo2 : ∀ c, upI th (fd + 1) (fun _ => false) (fd + 1 - 1) c = true → c / 52 - 1 < nr := by
          rw [upI_ne _ _ (by omega), show fd + 1 - 1 = fd by omega]
          exact hIo
        refine J_aload_n d_CF_feed_86 rfl 0 rfl ?_
        refine J_aload_n d_CF_feed_87 rfl 0 rfl ?_
        refine J_get fs_CF_29 rfl rfl d_CF_feed_88 ?_
        refine J_aload_n d_CF_feed_91 rfl 0 rfl ?_
        refine J_get fs_CF_109 rfl rfl d_CF_feed_92 ?_
        refine J_aald (v := Value.ref (ad (idS (fd + 1)))) rfl rfl (by omega) (by decide) rfl d_CF_feed_95 ?_
        refine J_aload_n d_CF_feed_96 rfl 0 rfl ?_
        refine J_get fs_CF_29 rfl rfl d_CF_feed_97 ?_
        refine J_aload_n d_CF_feed_100 rfl 0 rfl ?_
        refine J_get fs_CF_109 rfl rfl d_CF_feed_101 ?_
        refine J_iconst d_CF_feed_104 ?_
        refine J_isub d_CF_feed_105 ?_
        refine J_aald (v := Value.ref (ad (idS ((fd + 1) - 1)))) rfl rfl (by omega) (by decide) rfl d_CF_feed_106 ?_
        refine J_iload_n d_CF_feed_107 rfl 1 rfl ?_
        refine J_callV (st := []) [Value.ref (ad (idS (fd + 1))), Value.ref (ad (idS ((fd + 1) - 1))), Value.int (iI t)] ms_CF_150 rfl (c_CF_advanceAll hg (by omega) (by omega) (by omega) hS6 hIo2) rfl rfl ⟨Nat.le_of_ble_eq_true rfl, Nat.le_of_ble_eq_true rfl⟩ ⟨Nat.le_of_ble_eq_true rfl, Nat.le_of_ble_eq_true rfl⟩ (Nat.le_of_ble_eq_true rfl) d_CF_feed_108 (fun v w' hp => ?_)
        obtain ⟨rfl, it7, th7, my7, rfl, hA7⟩ := hp
        show J l D b Y_CF_feed _ _ (ad, cC ad r lp (fd + 1) nr nr nr mc lf ln bd (upI tm fd t) it7 th7 my7 lps6 (upI em (fd + 1) 0) mk tr wg wr we wc wb vg vr ve vc vb sy sf so st sn ne mt) 0 0 111 [(0, Value.ref (ad 100)), (1, Value.int (iI t))] []
        have hG := hA7
        obtain ⟨hf1, hf2⟩ := next_in hG
        have hIn : ∀ c, th (fd + 1 - 1) c = true → bc ln bd c = t → (0 ≤ c ∧ c < 572) ∧ c + 13 < 572 := by
          rw [show fd + 1 - 1 = fd by omega]
          intro c c1 c2
          have k := (hCL fd (by omega) (by omega)).1 c c1
          exact ⟨k.1, (iok_13 hg k (by omega)).1.2⟩
        have hte : upI tm fd t (fd + 1 - 1) = t := by
          rw [show fd + 1 - 1 = fd by omega, upI_self]
        have hL0 : CL lp nr lf ln bd lps6 (fd + 1) th7 := hCL.of (fun o a b => ⟨hf2 o (by omega), hl6 o (by omega)⟩)
        have hIi : ∀ c, th7 (fd + 1) c = true → IOK nr ln (fd + 1) c := by
          intro c hc
          obtain ⟨c', c1, c2, c3⟩ := (hf1 c).mp hc
          rw [show fd + 1 - 1 = fd by omega] at c1
          rw [c3]
          exact iok_up (iok_13 hg ((hCL fd (by omega) (by omega)).1 c' c1) (by omega)) (by omega)
        have he0 : upI em (fd + 1) 0 (fd + 1) = 0 := upI_self _ _ _
        have hlm0 := hm6
        refine J_aload_n d_CF_feed_111 rfl 0 rfl ?_
        refine J_aload_n d_CF_feed_112 rfl 0 rfl ?_
        refine J_get fs_CF_109 rfl rfl d_CF_feed_113 ?_
        refine J_callV (st := []) [Value.int (iI (fd + 1))] ms_CF_84 rfl (c_CF_close hg (by omega) hG.1.2.2.2.2 hL0 hIi he0 hlm0) rfl rfl ⟨Nat.le_of_ble_eq_true rfl, Nat.le_of_ble_eq_true rfl⟩ ⟨Nat.le_of_ble_eq_true rfl, Nat.le_of_ble_eq_true rfl⟩ (Nat.le_of_ble_eq_true rfl) d_CF_feed_116 (fun v w' hp => ?_)
        obtain ⟨rfl, it8, th8, my8, em8, lps8, rfl, hC8⟩ := hp
        show J l D b Y_CF_feed _ _ (ad, cC ad r lp (fd + 1) nr nr nr mc lf ln bd (upI tm fd t) it8 th8 my8 lps8 em8 mk tr wg wr we wc wb vg vr ve vc vb sy sf so st sn ne mt) 0 0 119 [(0, Value.ref (ad 100)), (1, Value.int (iI t))] []
        refine J_aload_n d_CF_feed_119 rfl 0 rfl ?_
        refine J_get fs_CF_39 rfl rfl d_CF_feed_120 ?_
        refine J_aload_n d_CF_feed_123 rfl 0 rfl ?_
        refine J_get fs_CF_109 rfl rfl d_CF_feed_124 ?_
        refine J_aald (v := Value.ref (ad (idC (fd + 1)))) rfl rfl (by omega) (by decide) rfl d_CF_feed_127 ?_
        refine J_callV (st := []) [] ms_CF_91 (hidC (k := (fd + 1)) (by omega)) (c_Co_clear (by omega)) rfl rfl ⟨Nat.le_of_ble_eq_true rfl, Nat.le_of_ble_eq_true rfl⟩ ⟨Nat.le_of_ble_eq_true rfl, Nat.le_of_ble_eq_true rfl⟩ (Nat.le_of_ble_eq_true rfl) d_CF_feed_128 (fun v w' hp => ?_)
        obtain ⟨mk9, tr9, rfl, rfl, hO9, hZ9⟩ := hp
        show J l D b Y_CF_feed _ _ (ad, cC ad r lp (fd + 1) nr nr nr mc lf ln bd (upI tm fd t) it8 th8 my8 lps8 em8 mk9 tr9 wg wr we wc wb vg vr ve vc vb sy sf so st sn ne mt) 0 0 131 [(0, Value.ref (ad 100)), (1, Value.int (iI t))] []
        have hmk1 : MkR mk9 := by
          intro b9 a9 a1 a2 a3
          by_cases hb : b9 = (fd + 1)
          · subst hb
            rw [(hZ9 a9 a1 a2).1]
            omega
          · rw [(hO9 b9 hb).1]
            exact hmk b9 a9 a1 a2 a3
        have htr1 : TrR tr9 := by
          intro b9 a9 s9 a1 a2 a3 a4 a5
          by_cases hb : b9 = (fd + 1)
          · subst hb
            rw [(hZ9 a9 a1 a2).2 s9 a4 a5]
            omega
          · rw [(hO9 b9 hb).2]
            exact htr b9 a9 s9 a1 a2 a3 a4 a5
        refine J_aload_n d_CF_feed_131 rfl 0 rfl ?_
        refine J_get fs_CF_109 rfl rfl d_CF_feed_132 ?_
        refine J_istore_n d_CF_feed_135 rfl (by decide) rfl ?_
        refine J.loop (σ := Int × (Int → Int → Int) × (Int → Int → Int → Int) × (Int → Int) × Bool × Value × Int × (Int → Int) × Bool) (fun xx_ => match xx_ with | (i, mk1, tr1, ne1, g1, r1, e1, cu1, b1) => (-1 ≤ i ∧ i ≤ fd + 1) ∧ ((∀ i', i < i' → i' ≤ fd + 1 → LD nr lf ln bd (upI tm fd t) mk1 tr1 i' (fd + 1)) ∧ (∀ i', 0 ≤ i' → i' ≤ i → mk1 (fd + 1) i' = 0) ∧ (∀ b9, b9 ≠ fd + 1 → mk1 b9 = mk b9 ∧ tr1 b9 = tr b9) ∧ MkR mk1 ∧ TrR tr1)) (fun xx_ => match xx_ with | (i, mk1, tr1, ne1, g1, r1, e1, cu1, b1) => (i + 1).toNat) (ws := fun xx_ => match xx_ with | (i, mk1, tr1, ne1, g1, r1, e1, cu1, b1) => (ad, cC ad r lp (fd + 1) nr nr nr mc lf ln bd (upI tm fd t) it8 th8 my8 lps8 em8 mk1 tr1 g1 r1 e1 cu1 b1 vg vr ve vc vb sy sf so st sn ne1 mt)) (ks := fun _ => 0) (ns := fun _ => 0) (lvs := fun xx_ => match xx_ with | (i, mk1, tr1, ne1, g1, r1, e1, cu1, b1) => [(2, Value.int (iI i)), (0, Value.ref (ad 100)), (1, Value.int (iI t))]) (sts := fun _ => []) ?_ (fd + 1, mk9, tr9, ne, wg, wr, we, wc, wb) ?_
        · rintro ⟨i, mk1, tr1, ne1, g1, r1, e1, cu1, b1⟩ hI ih10
          have hI : (-1 ≤ i ∧ i ≤ fd + 1) ∧ ((∀ i', i < i' → i' ≤ fd + 1 → LD nr lf ln bd (upI tm fd t) mk1 tr1 i' (fd + 1)) ∧ (∀ i', 0 ≤ i' → i' ≤ i → mk1 (fd + 1) i' = 0) ∧ (∀ b9, b9 ≠ fd + 1 → mk1 b9 = mk b9 ∧ tr1 b9 = tr b9) ∧ MkR mk1 ∧ TrR tr1) := hI
          obtain ⟨hi, hGL⟩ := hI
          show J l D b Y_CF_feed _ _ (ad, cC ad r lp (fd + 1) nr nr nr mc lf ln bd (upI tm fd t) it8 th8 my8 lps8 em8 mk1 tr1 g1 r1 e1 cu1 b1 vg vr ve vc vb sy sf so st sn ne1 mt) 0 0 136 [(2, Value.int (iI i)), (0, Value.ref (ad 100)), (1, Value.int (iI t))] []
          refine J_iload_n d_CF_feed_136 rfl 0 rfl ?_
          refine J_if_lt (tgt := 151) d_CF_feed_137 rfl (by omega) (fun h137_11 => ?_) (fun h137_11 => ?_)
          · refine J_aload_n d_CF_feed_151 rfl 1 rfl ?_
            refine J_get fs_CF_29 rfl rfl d_CF_feed_152 ?_
            refine J_aload_n d_CF_feed_155 rfl 1 rfl ?_
            refine J_get fs_CF_109 rfl rfl d_CF_feed_156 ?_
            refine J_aald (v := Value.ref (ad (idS (fd + 1)))) rfl rfl (by omega) (by decide) rfl d_CF_feed_159 ?_
            refine J_get fs_CF_136 (hidS (k := (fd + 1)) (by omega)) rfl d_CF_feed_160 ?_
            refine J_iret rfl d_CF_feed_163 ⟨Nat.le_of_ble_eq_true rfl, Nat.le_of_ble_eq_true rfl⟩ ?_
            have hnew := hC8
            obtain ⟨k1, k2, k3, k4, k5⟩ := hnew
            refine ⟨_, _, _, _, _, _, _, _, _, _, _, _, _, rfl, rfl, mks_next (by omega) hte hIn hf1 hf2 k2, fun k hk => ?_, hg, by omega, htm1, k1.2.2.2.2, CL.next hL0 k1 k3 k4 k5, hGL.2.2.2.1, hGL.2.2.2.2, fun i9 j9 x1 x2 x3 => ?_, hmt⟩
            · rw [(k1.1 k hk).2.2, hf2 k hk]
            · by_cases hj : j9 = fd + 1
              · rw [hj]
                exact hGL.1 i9 (by omega) (by omega)
              · refine LD_congr hg (by omega) (fun x y1 y2 => upI_ne _ _ (by omega)) (fun a9 b9 y1 y2 y3 => ?_) (fun a9 b9 y1 y2 y3 => ?_) (hLD i9 j9 x1 x2 (by omega))
                · rw [(hGL.2.2.1 b9 (by omega)).1]
                · rw [(hGL.2.2.1 b9 (by omega)).2]
          · refine J_aload_n d_CF_feed_140 rfl 1 rfl ?_
            refine J_iload_n d_CF_feed_141 rfl 0 rfl ?_
            refine J_callV (st := []) [Value.int (iI i)] ms_CF_92 rfl (c_CF_grow hg htm1 hGL.2.2.2.1 hGL.2.2.2.2 (by omega) (by omega) (hGL.2.1 i (by omega) (by omega))) rfl rfl ⟨Nat.le_of_ble_eq_true rfl, Nat.le_of_ble_eq_true rfl⟩ ⟨Nat.le_of_ble_eq_true rfl, Nat.le_of_ble_eq_true rfl⟩ (Nat.le_of_ble_eq_true rfl) d_CF_feed_142 (fun v w' hp => ?_)
            obtain ⟨rfl, m12, T12, ne12, g12, r12, e12, cu12, b12, rfl, hM12, hA12, hB12, hC12⟩ := hp
            show J l D b Y_CF_feed _ _ (ad, cC ad r lp (fd + 1) nr nr nr mc lf ln bd (upI tm fd t) it8 th8 my8 lps8 em8 (mkI mk1 i (fd + 1) m12) (trI tr1 i (fd + 1) T12) g12 r12 e12 cu12 b12 vg vr ve vc vb sy sf so st sn ne12 mt) 0 0 145 [(2, Value.int (iI i)), (0, Value.ref (ad 100)), (1, Value.int (iI t))] []
            refine J_iinc (j := 0) d_CF_feed_145 rfl (by decide) rfl ?_
            refine J_goto (tgt := 136) d_CF_feed_148 rfl ?_
            exact ih10 (i + (-1), mkI mk1 i (fd + 1) m12, trI tr1 i (fd + 1) T12, ne12, g12, r12, e12, cu12, b12) (show (-1 ≤ (i + (-1)) ∧ (i + (-1)) ≤ fd + 1) ∧ ((∀ i', (i + (-1)) < i' → i' ≤ fd + 1 → LD nr lf ln bd (upI tm fd t) (mkI mk1 i (fd + 1) m12) (trI tr1 i (fd + 1) T12) i' (fd + 1)) ∧ (∀ i', 0 ≤ i' → i' ≤ (i + (-1)) → (mkI mk1 i (fd + 1) m12) (fd + 1) i' = 0) ∧ (∀ b9, b9 ≠ fd + 1 → (mkI mk1 i (fd + 1) m12) b9 = mk b9 ∧ (trI tr1 i (fd + 1) T12) b9 = tr b9) ∧ MkR (mkI mk1 i (fd + 1) m12) ∧ TrR (trI tr1 i (fd + 1) T12)) by
                refine ⟨by omega, fun i' a b => ?_, fun i' a b => ?_, fun b9 hb => ?_, hGL.2.2.2.1.mkI hM12, TrR_grow hGL.2.2.2.2 hC12⟩
                · by_cases hi : i' = i
                  · rw [hi]
                    exact LD_grow hg (by omega) hA12 hB12 hC12
                  · refine LD_congr hg (by omega) (fun _ _ _ => rfl) (fun a9 b9 x1 x2 x3 => ?_) (fun a9 b9 x1 x2 x3 => ?_) (hGL.1 i' (by omega) b)
                    · unfold mkI
                      rw [upI_ap]
                      split
                      · rename_i e
                        rw [upI_ne _ _ (by omega), e]
                      · rfl
                    · unfold trI
                      rw [upI_ap]
                      split
                      · rename_i e
                        rw [upI_ne _ _ (by omega), e]
                      · rfl
                · unfold mkI
                  rw [upI_self, upI_ne _ _ (by omega)]
                  exact hGL.2.1 i' a (by omega)
                · unfold mkI trI
                  rw [upI_ne _ _ hb, upI_ne _ _ hb]
                  exact hGL.2.2.1 b9 hb) (show (((i + (-1)) + 1).toNat) < ((i + 1).toNat) by
                omega)
        · show (-1 ≤ (fd + 1) ∧ (fd + 1) ≤ fd + 1) ∧ ((∀ i', (fd + 1) < i' → i' ≤ fd + 1 → LD nr lf ln bd (upI tm fd t) mk9 tr9 i' (fd + 1)) ∧ (∀ i', 0 ≤ i' → i' ≤ (fd + 1) → mk9 (fd + 1) i' = 0) ∧ (∀ b9, b9 ≠ fd + 1 → mk9 b9 = mk b9 ∧ tr9 b9 = tr b9) ∧ MkR mk9 ∧ TrR tr9)
          exact ⟨by omega, fun i' a b => by omega, fun i' a b => (hZ9 i' a b).1, hO9, hmk1, htr1⟩
      · exact absurd h43_5 (by rw [hbt]; decide)
    · exact absurd h21_3 (by omega)
  · exact absurd h4_2 (by rw [tmB_t (by omega)]; decide)
end N14
