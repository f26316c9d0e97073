/-! the component's stack in words -/
def skN (sy sf so st : Int → Int) : Nat → List En
  | 0 => []
  | n + 1 => (sy n, sf n, so n, st n) :: skN sy sf so st n
def skC (sy sf so st : Int → Int) (sn : Int) : List En := skN sy sf so st sn.toNat
theorem skN_up {sy sf so st : Int → Int} {c a b d t : Int} : ∀ n : Nat, (n : Int) ≤ c → skN (upI sy c a) (upI sf c b) (upI so c d) (upI st c t) n = skN sy sf so st n
  | 0, _ => rfl
  | n + 1, h => by
    show (upI sy c a n, upI sf c b n, upI so c d n, upI st c t n) :: skN _ _ _ _ n = _
    rw [upI_ne _ _ (by omega), upI_ne _ _ (by omega), upI_ne _ _ (by omega), upI_ne _ _ (by omega), skN_up n (by omega)]
    rfl
theorem sk_push {sy sf so st : Int → Int} {c a b d t : Int} (h : 0 ≤ c) : skC (upI sy c a) (upI sf c b) (upI so c d) (upI st c t) (c + 1) = (a, b, d, t) :: skC sy sf so st c := by
  unfold skC
  rw [show (c + 1).toNat = c.toNat + 1 by omega]
  show (upI sy c a (c.toNat : Int), _, _, _) :: skN _ _ _ _ c.toNat = _
  rw [show ((c.toNat : Nat) : Int) = c by omega, upI_self, upI_self, upI_self, upI_self, skN_up _ (by omega)]
theorem sk_top {sy sf so st : Int → Int} {c : Int} (h : 0 < c) : skC sy sf so st c = (sy (c - 1), sf (c - 1), so (c - 1), st (c - 1)) :: skC sy sf so st (c - 1) := by
  unfold skC
  rw [show c.toNat = (c - 1).toNat + 1 by omega]
  show (sy ((c - 1).toNat : Int), _, _, _) :: _ = _
  rw [show (((c - 1).toNat : Nat) : Int) = c - 1 by omega]
theorem sk_len {sy sf so st : Int → Int} : ∀ n : Nat, (skN sy sf so st n).length = n
  | 0 => rfl
  | n + 1 => by
    show (skN sy sf so st n).length + 1 = n + 1
    rw [sk_len n]
theorem findL_drop {f : Int × Int × Int → Bool} {g : Int × Int × Int → Int} {t : Int} {x : Option ((Int × Int × Int) × Int)} {W0 : List (Int × Int × Int)} : DropP f (fun L => findL f g L t = x ∧ ∀ q ∈ L, q ∈ W0) := by
  intro q L hq h
  obtain ⟨h1, h2⟩ := h
  rw [findL_cons, if_neg (by rw [hq]; decide)] at h1
  exact ⟨h1, fun p hp => h2 p (List.mem_cons_of_mem _ hp)⟩
section N13
variable {l : Launch} {D : jD} {b : Nat} {w : jW} {ad : Nat → Nat} {r : Nat → Option jE} {lp : Bool} {fd : Int} {nr : Int} {nc : Int} {nd : Int} {mc : Int} {lf : Int → Int} {ln : Int → Int} {bd : Int → Int} {tm : Int → Int} {it : Int → Int → Int} {th : Int → Int → Bool} {my : Int → Int} {lps : Int → Int → Int} {em : Int → Int} {mk : Int → Int → Int} {tr : Int → Int → Int → Int} {wg : Bool} {wr : Value} {we : Int} {wc : Int → Int} {wb : Bool} {vg : Bool} {vr : Value} {ve : Int} {vc : Int → Int} {vb : Bool} {sy : Int → Int} {sf : Int → Int} {so : Int → Int} {st : Int → Int} {sn : Int} {ne : Int → Int} {mt : Int → Int → Bool}
set_option maxHeartbeats 4000000 in
theorem c_CF_trees {s : Int} {i : Int} {j : Int}  (hf : 0 ≤ fd ∧ fd ≤ 12) (hs : 0 ≤ s ∧ s ≤ 4) (hij : 0 ≤ i ∧ i ≤ j ∧ j ≤ fd) : Ct l D b Y_CF_trees { frames := 2, cells := 0, slots := 0, locals := 43 } [Value.ref (ad 100), Value.int (iI s), Value.int (iI i), Value.int (iI j)] (ad, cC ad r lp fd nr nr nr mc lf ln bd tm it th my lps em mk tr wg wr we wc wb vg vr ve vc vb sy sf so st sn ne mt) (fun v w' => v = some (.long (iL (tr j i s))) ∧ w' = (ad, cC ad r lp fd nr nr nr mc lf ln bd tm it th my lps em mk tr wg wr we wc wb vg vr ve vc vb sy sf so st sn ne mt)) := by
  refine Ct_of (by decide) (Nat.le_of_ble_eq_true rfl) ?_
  show J l D b Y_CF_trees _ _ (ad, cC ad r lp fd nr nr nr mc lf ln bd tm it th my lps em mk tr wg wr we wc wb vg vr ve vc vb sy sf so st sn ne mt) 0 0 0 [(0, Value.ref (ad 100)), (1, Value.int (iI s)), (2, Value.int (iI i)), (3, Value.int (iI j))] []
  refine J_aload_n d_CF_trees_0 rfl 0 rfl ?_
  refine J_iload_n d_CF_trees_1 rfl 1 rfl ?_
  refine J_iload_n d_CF_trees_2 rfl 2 rfl ?_
  refine J_iload_n d_CF_trees_3 rfl 3 rfl ?_
  refine J_callV (st := []) [Value.int (iI s), Value.int (iI i), Value.int (iI j)] ms_CF_247 rfl (c_CF_checkStretch (by omega) (by omega) (by omega)) rfl rfl ⟨Nat.le_of_ble_eq_true rfl, Nat.le_of_ble_eq_true rfl⟩ ⟨Nat.le_of_ble_eq_true rfl, Nat.le_of_ble_eq_true rfl⟩ (Nat.le_of_ble_eq_true rfl) d_CF_trees_4 (fun v w' hp => ?_)
  obtain ⟨rfl, rfl⟩ := hp
  show J l D b Y_CF_trees _ _ (ad, cC ad r lp fd nr nr nr mc lf ln bd tm it th my lps em mk tr wg wr we wc wb vg vr ve vc vb sy sf so st sn ne mt) 0 0 7 [(0, Value.ref (ad 100)), (1, Value.int (iI s)), (2, Value.int (iI i)), (3, Value.int (iI j))] []
  refine J_aload_n d_CF_trees_7 rfl 0 rfl ?_
  refine J_get fs_CF_39 rfl rfl d_CF_trees_8 ?_
  refine J_iload_n d_CF_trees_11 rfl 3 rfl ?_
  refine J_aald (v := Value.ref (ad (idC j))) rfl rfl (by omega) (by decide) rfl d_CF_trees_12 ?_
  refine J_get fs_CF_195 (hidC (k := j) (by omega)) rfl d_CF_trees_13 ?_
  refine J_iload_n d_CF_trees_16 rfl 2 rfl ?_
  refine J_aald (v := Value.ref (ad (idX j i))) (hidW (k := j) (by omega)) rfl (by omega) (by omega) rfl d_CF_trees_17 ?_
  refine J_iload_n d_CF_trees_18 rfl 1 rfl ?_
  refine J_lald (hidX (k := j) (j := i) (by omega) (by omega)) (by omega) (by decide) d_CF_trees_19 ?_
  refine J_lret rfl d_CF_trees_20 ⟨Nat.le_of_ble_eq_true rfl, Nat.le_of_ble_eq_true rfl⟩ ?_
  exact ⟨rfl, rfl⟩
set_option maxHeartbeats 4000000 in
theorem c_St_push {a : Int} {c : Int} {d : Int} {t : Int}  (hs : 0 ≤ sn ∧ sn < 256) : Ct l D b Y_St_push { frames := 0, cells := 0, slots := 0, locals := 0 } [Value.ref (ad 112), Value.int (iI a), Value.int (iI c), Value.int (iI d), Value.long (iL t)] (ad, cC ad r lp fd nr nr nr mc lf ln bd tm it th my lps em mk tr wg wr we wc wb vg vr ve vc vb sy sf so st sn ne mt) (fun v w' => v = none ∧ w' = (ad, cC ad r lp fd nr nr nr mc lf ln bd tm it th my lps em mk tr wg wr we wc wb vg vr ve vc vb (upI sy sn a) (upI sf sn c) (upI so sn d) (upI st sn t) (sn + 1) ne mt)) := by
  refine Ct_of (by decide) (Nat.le_of_ble_eq_true rfl) ?_
  show J l D b Y_St_push _ _ (ad, cC ad r lp fd nr nr nr mc lf ln bd tm it th my lps em mk tr wg wr we wc wb vg vr ve vc vb sy sf so st sn ne mt) 0 0 0 [(0, Value.ref (ad 112)), (1, Value.int (iI a)), (2, Value.int (iI c)), (3, Value.int (iI d)), (4, Value.long (iL t))] []
  refine J_aload_n d_St_push_0 rfl 0 rfl ?_
  refine J_get fs_St_23 rfl rfl d_St_push_1 ?_
  refine J_aload_n d_St_push_4 rfl 0 rfl ?_
  refine J_get fs_St_7 rfl rfl d_St_push_5 ?_
  refine J_alen rfl d_St_push_8 ?_
  refine J_icmp_lt (tgt := 13) d_St_push_9 rfl (by omega) (by omega) (fun h9_1 => ?_) (fun h9_1 => ?_)
  · refine J_aload_n d_St_push_13 rfl 0 rfl ?_
    refine J_get fs_St_7 rfl rfl d_St_push_14 ?_
    refine J_aload_n d_St_push_17 rfl 0 rfl ?_
    refine J_get fs_St_23 rfl rfl d_St_push_18 ?_
    refine J_iload_n d_St_push_21 rfl 1 rfl ?_
    refine J_iast rfl (by omega) (by decide) u_113 d_St_push_22 ?_
    refine J_aload_n d_St_push_23 rfl 0 rfl ?_
    refine J_get fs_St_13 rfl rfl d_St_push_24 ?_
    refine J_aload_n d_St_push_27 rfl 0 rfl ?_
    refine J_get fs_St_23 rfl rfl d_St_push_28 ?_
    refine J_iload_n d_St_push_31 rfl 2 rfl ?_
    refine J_iast rfl (by omega) (by decide) u_114 d_St_push_32 ?_
    refine J_aload_n d_St_push_33 rfl 0 rfl ?_
    refine J_get fs_St_16 rfl rfl d_St_push_34 ?_
    refine J_aload_n d_St_push_37 rfl 0 rfl ?_
    refine J_get fs_St_23 rfl rfl d_St_push_38 ?_
    refine J_iload_n d_St_push_41 rfl 3 rfl ?_
    refine J_iast rfl (by omega) (by decide) u_115 d_St_push_42 ?_
    refine J_aload_n d_St_push_43 rfl 0 rfl ?_
    refine J_get fs_St_19 rfl rfl d_St_push_44 ?_
    refine J_aload_n d_St_push_47 rfl 0 rfl ?_
    refine J_get fs_St_23 rfl rfl d_St_push_48 ?_
    refine J_lload d_St_push_51 4 rfl ?_
    refine J_last rfl (by omega) (by decide) u_116 d_St_push_53 ?_
    refine J_aload_n d_St_push_54 rfl 0 rfl ?_
    refine J_dup d_St_push_55 rfl ?_
    refine J_get fs_St_23 rfl rfl d_St_push_56 ?_
    refine J_iconst d_St_push_59 ?_
    refine J_iadd d_St_push_60 ?_
    refine J_put fs_St_23 rfl (Nat.le_of_ble_eq_true rfl) (fun _ h => by cases h; exact Or.inl rfl) rfl rfl u_112 d_St_push_61 ?_
    refine J_vret rfl d_St_push_64 ⟨Nat.le_of_ble_eq_true rfl, Nat.le_of_ble_eq_true rfl⟩ ?_
    exact ⟨rfl, rfl⟩
  · exact absurd h9_1 (by omega)
set_option maxHeartbeats 4000000 in
theorem c_CF_findWay {a : Int} {s : Int} {i : Int} {j : Int} {t : Int} {qq : Int × Int × Int} {t' : Int} (hg : gOK nr lf ln bd) (htm : ∀ x, 0 ≤ x → x < 12 → -2147483648 ≤ tm x ∧ tm x ≤ 2147483647) (hmk : MkR mk) (ha : 0 ≤ a ∧ a < 256) (es : sy a = s) (ei : sf a = i) (ej : so a = j) (et : st a = t) (hs : 0 ≤ s ∧ s ≤ 4) (hij : 0 ≤ i ∧ i ≤ j ∧ j ≤ 12) (ht : 0 ≤ t ∧ t ≤ 1000000000000) (hka : ∀ q ∈ (wl nr lf ln s i j 0), (wayT tm (dvM mk) ln (bsM bd) i j) q = true → ∀ k, 0 ≤ k → k < ln q.1 → bsM bd q.1 k < 8 → 0 ≤ nuM tr (bsM bd q.1 k) (cutV (ln q.1) q.2.1 q.2.2 k i j) (cutV (ln q.1) q.2.1 q.2.2 (k + 1) i j) ∧ nuM tr (bsM bd q.1 k) (cutV (ln q.1) q.2.1 q.2.2 k i j) (cutV (ln q.1) q.2.1 q.2.2 (k + 1) i j) ≤ 1000000000000) (hfd : findL (wayT tm (dvM mk) ln (bsM bd) i j) (pV (nuM tr) ln (bsM bd) i j) (wl nr lf ln s i j 0) t = some (qq, t')) : Ct l D b Y_CF_findWay { frames := 3, cells := 0, slots := 0, locals := 67 } [Value.ref (ad 100), Value.int (iI a)] (ad, cC ad r lp fd nr nr nr mc lf ln bd tm it th my lps em mk tr wg wr we wc wb vg vr ve vc vb sy sf so st sn ne mt) (fun v w' => ∃ cu, v = some (.long (iL t')) ∧ w' = (ad, cC ad r lp fd nr nr nr mc lf ln bd tm it th my lps em mk tr wg wr we wc wb true (Value.ref (ad (idR qq.1))) j cu true sy sf so st sn ne mt) ∧ WA (ln qq.1) i j cu qq.2) := by
  refine Ct_of (by decide) (Nat.le_of_ble_eq_true rfl) ?_
  have hn := hg.1
  show J l D b Y_CF_findWay _ _ (ad, cC ad r lp fd nr nr nr mc lf ln bd tm it th my lps em mk tr wg wr we wc wb vg vr ve vc vb sy sf so st sn ne mt) 0 0 0 [(0, Value.ref (ad 100)), (1, Value.int (iI a))] []
  refine J_aload_n d_CF_findWay_0 rfl 0 rfl ?_
  refine J_get fs_CF_56 rfl rfl d_CF_findWay_1 ?_
  refine J_get fs_CF_266 rfl rfl d_CF_findWay_4 ?_
  refine J_iload_n d_CF_findWay_7 rfl 1 rfl ?_
  refine J_lald rfl (by omega) (by decide) d_CF_findWay_8 ?_
  refine J.top (show Value.long (iL (st a)) = Value.long (iL t) by rw [et]) ?_
  refine J_lstore_n d_CF_findWay_9 rfl (by decide) rfl ?_
  refine J_iconst d_CF_findWay_10 ?_
  refine J_istore d_CF_findWay_11 (by decide) rfl ?_
  refine J.sub [0, 1, 2, 3] (lv' := [(4, Value.int (iI 0)), (2, Value.long (iL t)), (0, Value.ref (ad 100)), (1, Value.int (iI a))]) rfl ?_
  refine J.loop (σ := Int × Int × Bool × Value × Int × (Int → Int) × Bool) (fun xx_ => match xx_ with | (p, u1, g1, r1, e1, cu1, b1) => ((0 ≤ p ∧ p ≤ nr) ∧ (0 ≤ u1 ∧ u1 ≤ 1000000000000)) ∧ (findL (wayT tm (dvM mk) ln (bsM bd) i j) (pV (nuM tr) ln (bsM bd) i j) (wl nr lf ln s i j p) u1 = some (qq, t') ∧ ∀ q ∈ (wl nr lf ln s i j p), q ∈ (wl nr lf ln s i j 0))) (fun xx_ => match xx_ with | (p, u1, g1, r1, e1, cu1, b1) => (nr - p).toNat) (ws := fun xx_ => match xx_ with | (p, u1, g1, r1, e1, cu1, b1) => (ad, cC ad r lp fd nr nr nr mc lf ln bd tm it th my lps em mk tr wg wr we wc wb g1 r1 e1 cu1 b1 sy sf so st sn ne mt)) (ks := fun _ => 0) (ns := fun _ => 0) (lvs := fun xx_ => match xx_ with | (p, u1, g1, r1, e1, cu1, b1) => [(4, Value.int (iI p)), (2, Value.long (iL u1)), (0, Value.ref (ad 100)), (1, Value.int (iI a))]) (sts := fun _ => []) ?_ (0, t, vg, vr, ve, vc, vb) ?_
  · rintro ⟨p, u1, g1, r1, e1, cu1, b1⟩ hI ih1
    have hI : ((0 ≤ p ∧ p ≤ nr) ∧ (0 ≤ u1 ∧ u1 ≤ 1000000000000)) ∧ (findL (wayT tm (dvM mk) ln (bsM bd) i j) (pV (nuM tr) ln (bsM bd) i j) (wl nr lf ln s i j p) u1 = some (qq, t') ∧ ∀ q ∈ (wl nr lf ln s i j p), q ∈ (wl nr lf ln s i j 0)) := hI
    obtain ⟨hp, hP⟩ := hI
    show J l D b Y_CF_findWay _ _ (ad, cC ad r lp fd nr nr nr mc lf ln bd tm it th my lps em mk tr wg wr we wc wb g1 r1 e1 cu1 b1 sy sf so st sn ne mt) 0 0 13 [(4, Value.int (iI p)), (2, Value.long (iL u1)), (0, Value.ref (ad 100)), (1, Value.int (iI a))] []
    refine J_iload d_CF_findWay_13 0 rfl ?_
    refine J_aload_n d_CF_findWay_15 rfl 2 rfl ?_
    refine J_get fs_CF_23 rfl rfl d_CF_findWay_16 ?_
    refine J_callV (st := [Value.int (iI p)]) [] ms_CF_105 rfl (c_Al_size) rfl rfl ⟨Nat.le_of_ble_eq_true rfl, Nat.le_of_ble_eq_true rfl⟩ ⟨Nat.le_of_ble_eq_true rfl, Nat.le_of_ble_eq_true rfl⟩ (Nat.le_of_ble_eq_true rfl) d_CF_findWay_19 (fun v w' hp => ?_)
    obtain ⟨rfl, rfl⟩ := hp
    show J l D b Y_CF_findWay _ _ (ad, cC ad r lp fd nr nr nr mc lf ln bd tm it th my lps em mk tr wg wr we wc wb g1 r1 e1 cu1 b1 sy sf so st sn ne mt) 0 0 22 [(4, Value.int (iI p)), (2, Value.long (iL u1)), (0, Value.ref (ad 100)), (1, Value.int (iI a))] [Value.int (iI nr), Value.int (iI p)]
    refine J_icmp_ge (tgt := 133) d_CF_findWay_22 rfl (by omega) (by omega) (fun h22_3 => ?_) (fun h22_3 => ?_)
    · exact absurd h22_3 (fun h9 => by
        have h8 := hP.1
        rw [wl_end (r := p) (by omega)] at h8
        cases h8)
    · have hlf := hg.2.1 p (by omega) (by omega)
      refine J_aload_n d_CF_findWay_25 rfl 2 rfl ?_
      refine J_get fs_CF_23 rfl rfl d_CF_findWay_26 ?_
      refine J_iload d_CF_findWay_29 0 rfl ?_
      refine J_callV (st := []) [Value.int (iI p)] ms_CF_87 rfl (c_Al_get (by omega)) rfl rfl ⟨Nat.le_of_ble_eq_true rfl, Nat.le_of_ble_eq_true rfl⟩ ⟨Nat.le_of_ble_eq_true rfl, Nat.le_of_ble_eq_true rfl⟩ (Nat.le_of_ble_eq_true rfl) d_CF_findWay_31 (fun v w' hp => ?_)
      obtain ⟨rfl, rfl⟩ := hp
      show J l D b Y_CF_findWay _ _ (ad, cC ad r lp fd nr nr nr mc lf ln bd tm it th my lps em mk tr wg wr we wc wb g1 r1 e1 cu1 b1 sy sf so st sn ne mt) 0 0 34 [(4, Value.int (iI p)), (2, Value.long (iL u1)), (0, Value.ref (ad 100)), (1, Value.int (iI a))] [Value.ref (ad (idR p))]
      refine J_cast (hidR (k := p) (by omega) (by omega)) rfl cl_CF_9 ca_Ru d_CF_findWay_34 ?_
      refine J_get fs_CF_144 (hidR (k := p) (by omega) (by omega)) rfl d_CF_findWay_37 ?_
      refine J_aload_n d_CF_findWay_40 rfl 2 rfl ?_
      refine J_get fs_CF_56 rfl rfl d_CF_findWay_41 ?_
      refine J_get fs_CF_269 rfl rfl d_CF_findWay_44 ?_
      refine J_iload_n d_CF_findWay_47 rfl 3 rfl ?_
      refine J_iald rfl (by omega) (by decide) d_CF_findWay_48 ?_
      refine J.top (show Value.int (iI (sy a)) = Value.int (iI s) by rw [es]) ?_
      refine J_icmp_ne (tgt := 127) d_CF_findWay_49 rfl (by omega) (by omega) (fun h49_5 => ?_) (fun h49_5 => ?_)
      · refine J_iinc (j := 0) d_CF_findWay_127 rfl (by decide) rfl ?_
        refine J_goto (tgt := 13) d_CF_findWay_130 rfl ?_
        exact ih1 (p + 1, u1, g1, r1, e1, cu1, b1) (show ((0 ≤ (p + 1) ∧ (p + 1) ≤ nr) ∧ (0 ≤ u1 ∧ u1 ≤ 1000000000000)) ∧ (findL (wayT tm (dvM mk) ln (bsM bd) i j) (pV (nuM tr) ln (bsM bd) i j) (wl nr lf ln s i j (p + 1)) u1 = some (qq, t') ∧ ∀ q ∈ (wl nr lf ln s i j (p + 1)), q ∈ (wl nr lf ln s i j 0)) by
            exact ⟨by omega, drop_skip (P := fun L => findL (wayT tm (dvM mk) ln (bsM bd) i j) (pV (nuM tr) ln (bsM bd) i j) L u1 = some (qq, t') ∧ ∀ q ∈ L, q ∈ (wl nr lf ln s i j 0)) (by omega) ‹lf p ≠ s› hP⟩) (show ((nr - (p + 1)).toNat) < ((nr - p).toNat) by
            omega)
      · refine J_aload_n d_CF_findWay_52 rfl 2 rfl ?_
        refine J_get fs_CF_50 rfl rfl d_CF_findWay_53 ?_
        refine J_aload_n d_CF_findWay_56 rfl 2 rfl ?_
        refine J_aload_n d_CF_findWay_57 rfl 2 rfl ?_
        refine J_get fs_CF_23 rfl rfl d_CF_findWay_58 ?_
        refine J_iload d_CF_findWay_61 0 rfl ?_
        refine J_callV (st := [Value.ref (ad 100), Value.ref (ad 110)]) [Value.int (iI p)] ms_CF_87 rfl (c_Al_get (by omega)) rfl rfl ⟨Nat.le_of_ble_eq_true rfl, Nat.le_of_ble_eq_true rfl⟩ ⟨Nat.le_of_ble_eq_true rfl, Nat.le_of_ble_eq_true rfl⟩ (Nat.le_of_ble_eq_true rfl) d_CF_findWay_63 (fun v w' hp => ?_)
        obtain ⟨rfl, rfl⟩ := hp
        show J l D b Y_CF_findWay _ _ (ad, cC ad r lp fd nr nr nr mc lf ln bd tm it th my lps em mk tr wg wr we wc wb g1 r1 e1 cu1 b1 sy sf so st sn ne mt) 0 0 66 [(4, Value.int (iI p)), (2, Value.long (iL u1)), (0, Value.ref (ad 100)), (1, Value.int (iI a))] [Value.ref (ad (idR p)), Value.ref (ad 100), Value.ref (ad 110)]
        refine J_cast (hidR (k := p) (by omega) (by omega)) rfl cl_CF_9 ca_Ru d_CF_findWay_66 ?_
        refine J_aload_n d_CF_findWay_69 rfl 2 rfl ?_
        refine J_get fs_CF_56 rfl rfl d_CF_findWay_70 ?_
        refine J_get fs_CF_272 rfl rfl d_CF_findWay_73 ?_
        refine J_iload_n d_CF_findWay_76 rfl 3 rfl ?_
        refine J_iald rfl (by omega) (by decide) d_CF_findWay_77 ?_
        refine J.top (show Value.int (iI (sf a)) = Value.int (iI i) by rw [ei]) ?_
        refine J_aload_n d_CF_findWay_78 rfl 2 rfl ?_
        refine J_get fs_CF_56 rfl rfl d_CF_findWay_79 ?_
        refine J_get fs_CF_275 rfl rfl d_CF_findWay_82 ?_
        refine J_iload_n d_CF_findWay_85 rfl 3 rfl ?_
        refine J_iald rfl (by omega) (by decide) d_CF_findWay_86 ?_
        refine J.top (show Value.int (iI (so a)) = Value.int (iI j) by rw [ej]) ?_
        refine J_callV (st := []) [Value.ref (ad 100), Value.ref (ad (idR p)), Value.int (iI i), Value.int (iI j)] ms_CF_181 rfl (c_Wa_beginV hg (by omega) (by omega)) rfl rfl ⟨Nat.le_of_ble_eq_true rfl, Nat.le_of_ble_eq_true rfl⟩ ⟨Nat.le_of_ble_eq_true rfl, Nat.le_of_ble_eq_true rfl⟩ (Nat.le_of_ble_eq_true rfl) d_CF_findWay_87 (fun v w' hp => ?_)
        obtain ⟨rfl, cu7, rfl, hW7⟩ := hp
        show J l D b Y_CF_findWay _ _ (ad, cC ad r lp fd nr nr nr mc lf ln bd tm it th my lps em mk tr wg wr we wc wb true (Value.ref (ad (idR p))) j cu7 false sy sf so st sn ne mt) 0 0 90 [(4, Value.int (iI p)), (2, Value.long (iL u1)), (0, Value.ref (ad 100)), (1, Value.int (iI a))] []
        have hW := hW7
        have hz0 : false = true → ln p = 0 → i = j := fun h => by cases h
        have hPs := drop_start (P := fun L => findL (wayT tm (dvM mk) ln (bsM bd) i j) (pV (nuM tr) ln (bsM bd) i j) L u1 = some (qq, t') ∧ ∀ q ∈ L, q ∈ (wl nr lf ln s i j 0)) findL_drop (show p < nr by omega) ‹lf p = s› hP
        refine J.loop (σ := Int × Bool × (Int → Int) × List (Int × Int)) (fun xx_ => match xx_ with | (u2, b2, cu, rs1) => (WS (ln p) i j b2 cu rs1) ∧ (b2 = true → ln p = 0 → i = j) ∧ (findL (wayT tm (dvM mk) ln (bsM bd) i j) (pV (nuM tr) ln (bsM bd) i j) (rsW nr lf ln s i j p rs1) u2 = some (qq, t') ∧ ∀ q ∈ (rsW nr lf ln s i j p rs1), q ∈ (wl nr lf ln s i j 0)) ∧ (0 ≤ u2 ∧ u2 ≤ 1000000000000)) (fun xx_ => match xx_ with | (u2, b2, cu, rs1) => rs1.length) (ws := fun xx_ => match xx_ with | (u2, b2, cu, rs1) => (ad, cC ad r lp fd nr nr nr mc lf ln bd tm it th my lps em mk tr wg wr we wc wb true (Value.ref (ad (idR p))) j cu b2 sy sf so st sn ne mt)) (ks := fun _ => 0) (ns := fun _ => 0) (lvs := fun xx_ => match xx_ with | (u2, b2, cu, rs1) => [(4, Value.int (iI p)), (2, Value.long (iL u2)), (0, Value.ref (ad 100)), (1, Value.int (iI a))]) (sts := fun _ => []) ?_ (u1, false, cu7, stS (ln p) i j) ?_
        · rintro ⟨u2, b2, cu, rs1⟩ hI ih8
          have hI : (WS (ln p) i j b2 cu rs1) ∧ (b2 = true → ln p = 0 → i = j) ∧ (findL (wayT tm (dvM mk) ln (bsM bd) i j) (pV (nuM tr) ln (bsM bd) i j) (rsW nr lf ln s i j p rs1) u2 = some (qq, t') ∧ ∀ q ∈ (rsW nr lf ln s i j p rs1), q ∈ (wl nr lf ln s i j 0)) ∧ (0 ≤ u2 ∧ u2 ≤ 1000000000000) := hI
          obtain ⟨hWS, hz, hPs, hu2⟩ := hI
          show J l D b Y_CF_findWay _ _ (ad, cC ad r lp fd nr nr nr mc lf ln bd tm it th my lps em mk tr wg wr we wc wb true (Value.ref (ad (idR p))) j cu b2 sy sf so st sn ne mt) 0 0 90 [(4, Value.int (iI p)), (2, Value.long (iL u2)), (0, Value.ref (ad 100)), (1, Value.int (iI a))] []
          have hW := hWS
          have hz0 := hz
          refine J_aload_n d_CF_findWay_90 rfl 2 rfl ?_
          refine J_get fs_CF_50 rfl rfl d_CF_findWay_91 ?_
          refine J_callV (st := []) [] ms_CF_185 rfl (c_Wa_nextV hg htm hmk (by omega) (by omega) hW hz0) rfl rfl ⟨Nat.le_of_ble_eq_true rfl, Nat.le_of_ble_eq_true rfl⟩ ⟨Nat.le_of_ble_eq_true rfl, Nat.le_of_ble_eq_true rfl⟩ (Nat.le_of_ble_eq_true rfl) d_CF_findWay_94 (fun v w' hp => ?_)
          obtain ⟨z9, cu9, rfl, rfl, hX9⟩ := hp
          show J l D b Y_CF_findWay _ _ (ad, cC ad r lp fd nr nr nr mc lf ln bd tm it th my lps em mk tr wg wr we wc wb true (Value.ref (ad (idR p))) j cu9 true sy sf so st sn ne mt) 0 0 97 [(4, Value.int (iI p)), (2, Value.long (iL u2)), (0, Value.ref (ad 100)), (1, Value.int (iI a))] [Value.int (iI (bz z9))]
          refine J_ifB_eq (tgt := 127) d_CF_findWay_97 rfl (fun h97_10 => ?_) (fun h97_10 => ?_)
          · refine J_iinc (j := 0) d_CF_findWay_127 rfl (by decide) rfl ?_
            refine J_goto (tgt := 13) d_CF_findWay_130 rfl ?_
            exact ih1 (p + 1, u2, true, Value.ref (ad (idR p)), j, cu9, true) (show ((0 ≤ (p + 1) ∧ (p + 1) ≤ nr) ∧ (0 ≤ u2 ∧ u2 ≤ 1000000000000)) ∧ (findL (wayT tm (dvM mk) ln (bsM bd) i j) (pV (nuM tr) ln (bsM bd) i j) (wl nr lf ln s i j (p + 1)) u2 = some (qq, t') ∧ ∀ q ∈ (wl nr lf ln s i j (p + 1)), q ∈ (wl nr lf ln s i j 0)) by
                exact ⟨by omega, (drop_next (P := fun L => findL (wayT tm (dvM mk) ln (bsM bd) i j) (pV (nuM tr) ln (bsM bd) i j) L u2 = some (qq, t') ∧ ∀ q ∈ L, q ∈ (wl nr lf ln s i j 0)) findL_drop hPs).1 (by
                    rcases hX9 with ⟨-, h9⟩ | ⟨h9, -⟩
                    · exact h9
                    · rw [‹z9 = false›] at h9
                      cases h9)⟩) (show ((nr - (p + 1)).toNat) < ((nr - p).toNat) by
                omega)
          · obtain ⟨p9_, l9_, hf9, hWA, hl9⟩ : ∃ pp ll, fwL (fun y => wayB tm (dvM mk) (ln p) (bsM bd p) y.1 y.2 i j) rs1 = some (pp, ll) ∧ WA (ln p) i j cu9 pp ∧ ll = tlS (ln p) j pp.1 pp.2 := by
              rcases hX9 with ⟨h9, -⟩ | ⟨-, h9⟩
              · rw [‹z9 = true›] at h9
                cases h9
              · exact h9
            obtain ⟨hfw, hPn⟩ := (drop_next (P := fun L => findL (wayT tm (dvM mk) ln (bsM bd) i j) (pV (nuM tr) ln (bsM bd) i j) L u2 = some (qq, t') ∧ ∀ q ∈ L, q ∈ (wl nr lf ln s i j 0)) findL_drop hPs).2 p9_ l9_ hf9
            have hKO := hka (p, p9_) (hPn.2 _ List.mem_cons_self) hfw
            refine J_aload_n d_CF_findWay_100 rfl 2 rfl ?_
            refine J_aload_n d_CF_findWay_101 rfl 2 rfl ?_
            refine J_get fs_CF_50 rfl rfl d_CF_findWay_102 ?_
            refine J_callV (st := []) [Value.ref (ad 110)] ms_CF_215 rfl (c_CF_treesOfV hg (by omega) (by omega) hWA hKO) rfl rfl ⟨Nat.le_of_ble_eq_true rfl, Nat.le_of_ble_eq_true rfl⟩ ⟨Nat.le_of_ble_eq_true rfl, Nat.le_of_ble_eq_true rfl⟩ (Nat.le_of_ble_eq_true rfl) d_CF_findWay_105 (fun v w' hp => ?_)
            obtain ⟨rfl, hp1_11, hp2_11, rfl⟩ := hp
            show J l D b Y_CF_findWay _ _ (ad, cC ad r lp fd nr nr nr mc lf ln bd tm it th my lps em mk tr wg wr we wc wb true (Value.ref (ad (idR p))) j cu9 true sy sf so st sn ne mt) 0 0 108 [(4, Value.int (iI p)), (2, Value.long (iL u2)), (0, Value.ref (ad 100)), (1, Value.int (iI a))] [Value.long (iL (pV (nuM tr) ln (bsM bd) i j (p, p9_)))]
            refine J_lstore d_CF_findWay_108 (by decide) rfl ?_
            refine J_lload_n d_CF_findWay_110 rfl 2 rfl ?_
            refine J_lload d_CF_findWay_111 0 rfl ?_
            refine J_lcmp_ge (tgt := 119) d_CF_findWay_113 d_CF_findWay_114 rfl (by omega) (by omega) (fun h113_12 => ?_) (fun h113_12 => ?_)
            · refine J_lload_n d_CF_findWay_119 rfl 2 rfl ?_
              refine J_lload d_CF_findWay_120 0 rfl ?_
              refine J_lsub d_CF_findWay_122 ?_
              refine J_lstore_n d_CF_findWay_123 rfl (by decide) rfl ?_
              refine J_goto (tgt := 90) d_CF_findWay_124 rfl ?_
              refine J.sub [2, 0, 3, 4] rfl ?_
              exact ih8 (u2 - (pV (nuM tr) ln (bsM bd) i j (p, p9_)), true, cu9, l9_) (show (WS (ln p) i j true cu9 l9_) ∧ (true = true → ln p = 0 → i = j) ∧ (findL (wayT tm (dvM mk) ln (bsM bd) i j) (pV (nuM tr) ln (bsM bd) i j) (rsW nr lf ln s i j p l9_) (u2 - (pV (nuM tr) ln (bsM bd) i j (p, p9_))) = some (qq, t') ∧ ∀ q ∈ (rsW nr lf ln s i j p l9_), q ∈ (wl nr lf ln s i j 0)) ∧ (0 ≤ (u2 - (pV (nuM tr) ln (bsM bd) i j (p, p9_))) ∧ (u2 - (pV (nuM tr) ln (bsM bd) i j (p, p9_))) ≤ 1000000000000) by
                  refine ⟨Or.inr ⟨rfl, p9_.1, p9_.2, hWA.1, hWA.2.1, hl9⟩, fun _ => hWA.2.2, ⟨?_, fun q hq => hPn.2 q (List.mem_cons_of_mem _ hq)⟩, by omega⟩
                  have h9 := hPn.1
                  rw [findL_cons, if_pos hfw, if_neg (by omega)] at h9
                  exact h9) (show (l9_.length) < (rs1.length) by
                  have := fwL_len hf9
                  omega)
            · refine J_lload_n d_CF_findWay_117 rfl 2 rfl ?_
              refine J_lret rfl d_CF_findWay_118 ⟨Nat.le_of_ble_eq_true rfl, Nat.le_of_ble_eq_true rfl⟩ ?_
              have h9 := hPn.1
              rw [findL_cons, if_pos hfw, if_pos (by omega)] at h9
              have e9 := Option.some.inj h9
              have e1 : (p, p9_) = qq := congrArg Prod.fst e9
              have e2 : u2 = t' := congrArg Prod.snd e9
              subst e1
              subst e2
              exact ⟨_, rfl, rfl, hWA⟩
        · show (WS (ln p) i j false cu7 (stS (ln p) i j)) ∧ (false = true → ln p = 0 → i = j) ∧ (findL (wayT tm (dvM mk) ln (bsM bd) i j) (pV (nuM tr) ln (bsM bd) i j) (rsW nr lf ln s i j p (stS (ln p) i j)) u1 = some (qq, t') ∧ ∀ q ∈ (rsW nr lf ln s i j p (stS (ln p) i j)), q ∈ (wl nr lf ln s i j 0)) ∧ (0 ≤ u1 ∧ u1 ≤ 1000000000000)
          exact ⟨hW, (fun h => by cases h), hPs, by omega⟩
  · show ((0 ≤ (0 : Int) ∧ (0 : Int) ≤ nr) ∧ (0 ≤ t ∧ t ≤ 1000000000000)) ∧ (findL (wayT tm (dvM mk) ln (bsM bd) i j) (pV (nuM tr) ln (bsM bd) i j) (wl nr lf ln s i j (0 : Int)) t = some (qq, t') ∧ ∀ q ∈ (wl nr lf ln s i j (0 : Int)), q ∈ (wl nr lf ln s i j 0))
    exact ⟨by omega, hfd, fun _ h => h⟩
set_option maxHeartbeats 4000000 in
theorem c_CF_unfold  {s : Int} {i : Int} {j : Int} {t : Int} {qq : Int × Int × Int} {t' : Int} (hg : gOK nr lf ln bd) (htm : ∀ x, 0 ≤ x → x < 12 → -2147483648 ≤ tm x ∧ tm x ≤ 2147483647) (hmk : MkR mk) (hsn : 0 < sn ∧ sn ≤ 200) (es : sy (sn - 1) = s) (ei : sf (sn - 1) = i) (ej : so (sn - 1) = j) (et : st (sn - 1) = t) (hs : 0 ≤ s ∧ s ≤ 4) (hij : 0 ≤ i ∧ i ≤ j ∧ j ≤ 12) (ht : 0 ≤ t ∧ t ≤ 1000000000000) (hka : ∀ q ∈ (wl nr lf ln s i j 0), (wayT tm (dvM mk) ln (bsM bd) i j) q = true → ∀ k, 0 ≤ k → k < ln q.1 → bsM bd q.1 k < 8 → 0 ≤ nuM tr (bsM bd q.1 k) (cutV (ln q.1) q.2.1 q.2.2 k i j) (cutV (ln q.1) q.2.1 q.2.2 (k + 1) i j) ∧ nuM tr (bsM bd q.1 k) (cutV (ln q.1) q.2.1 q.2.2 k i j) (cutV (ln q.1) q.2.1 q.2.2 (k + 1) i j) ≤ 1000000000000) (hfd : findL (wayT tm (dvM mk) ln (bsM bd) i j) (pV (nuM tr) ln (bsM bd) i j) (wl nr lf ln s i j 0) t = some (qq, t')) (hqq : (0 ≤ qq.1 ∧ qq.1 < nr) ∧ 0 ≤ t' ∧ t' ≤ 1000000000000) (hpos : ∀ k, 0 ≤ k → k < ln qq.1 → bsM bd qq.1 k < 8 → 0 < nuM tr (bsM bd qq.1 k) (cutV (ln qq.1) qq.2.1 qq.2.2 k i j) (cutV (ln qq.1) qq.2.1 qq.2.2 (k + 1) i j) ∧ nuM tr (bsM bd qq.1 k) (cutV (ln qq.1) qq.2.1 qq.2.2 k i j) (cutV (ln qq.1) qq.2.1 qq.2.2 (k + 1) i j) ≤ 1000000000000) : Ct l D b Y_CF_unfold { frames := 4, cells := 0, slots := 0, locals := 93 } [Value.ref (ad 100)] (ad, cC ad r lp fd nr nr nr mc lf ln bd tm it th my lps em mk tr wg wr we wc wb vg vr ve vc vb sy sf so st sn ne mt) (fun v w' => ∃ sy' sf' so' st' sn' cu, v = some (.int (iI qq.1)) ∧ w' = (ad, cC ad r lp fd nr nr nr mc lf ln bd tm it th my lps em mk tr wg wr we wc wb true (Value.ref (ad (idR qq.1))) j cu true sy' sf' so' st' sn' ne mt) ∧ skC sy' sf' so' st' sn' = kidsL (nuM tr) ln (bsM bd) i j qq t' ++ skC sy sf so st (sn - 1) ∧ sn - 1 ≤ sn' ∧ sn' ≤ sn + 2) := by
  refine Ct_of (by decide) (Nat.le_of_ble_eq_true rfl) ?_
  have hn := hg.1
  have hl := hg.2.2.1 qq.1 (by omega) (by omega)
  show J l D b Y_CF_unfold _ _ (ad, cC ad r lp fd nr nr nr mc lf ln bd tm it th my lps em mk tr wg wr we wc wb vg vr ve vc vb sy sf so st sn ne mt) 0 0 0 [(0, Value.ref (ad 100))] []
  refine J_aload_n d_CF_unfold_0 rfl 0 rfl ?_
  refine J_get fs_CF_56 rfl rfl d_CF_unfold_1 ?_
  refine J_dup d_CF_unfold_4 rfl ?_
  refine J_get fs_CF_278 rfl rfl d_CF_unfold_5 ?_
  refine J_iconst d_CF_unfold_8 ?_
  refine J_isub d_CF_unfold_9 ?_
  refine J_put fs_CF_278 rfl (Nat.le_of_ble_eq_true rfl) (fun _ h => by cases h; exact Or.inl rfl) rfl rfl u_112 d_CF_unfold_10 ?_
  refine J_aload_n d_CF_unfold_13 rfl 0 rfl ?_
  refine J_aload_n d_CF_unfold_14 rfl 0 rfl ?_
  refine J_get fs_CF_56 rfl rfl d_CF_unfold_15 ?_
  refine J_get fs_CF_278 rfl rfl d_CF_unfold_18 ?_
  refine J_callV (st := []) [Value.int (iI (sn - 1))] ms_CF_279 rfl (c_CF_findWay hg htm hmk (by omega) es ei ej et hs hij ht hka hfd) rfl rfl ⟨Nat.le_of_ble_eq_true rfl, Nat.le_of_ble_eq_true rfl⟩ ⟨Nat.le_of_ble_eq_true rfl, Nat.le_of_ble_eq_true rfl⟩ (Nat.le_of_ble_eq_true rfl) d_CF_unfold_21 (fun v w' hp => ?_)
  obtain ⟨cu1, rfl, rfl, hWA⟩ := hp
  show J l D b Y_CF_unfold _ _ (ad, cC ad r lp fd nr nr nr mc lf ln bd tm it th my lps em mk tr wg wr we wc wb true (Value.ref (ad (idR qq.1))) j cu1 true sy sf so st (sn - 1) ne mt) 0 0 24 [(0, Value.ref (ad 100))] [Value.long (iL t')]
  refine J_lstore_n d_CF_unfold_24 rfl (by decide) rfl ?_
  refine J_aload_n d_CF_unfold_25 rfl 1 rfl ?_
  refine J_get fs_CF_50 rfl rfl d_CF_unfold_26 ?_
  refine J_get (v := Value.ref (ad (idR qq.1))) fs_CF_204 rfl rfl d_CF_unfold_29 ?_
  refine J_get fs_CF_189 (hidR (k := qq.1) (by omega) (by omega)) rfl d_CF_unfold_32 ?_
  refine J_alenE (z := ln qq.1) (hidB (k := qq.1) (by omega) (by omega)) (by omega) d_CF_unfold_35 ?_
  refine J_iconst d_CF_unfold_36 ?_
  refine J_isub d_CF_unfold_37 ?_
  refine J_istore_n d_CF_unfold_38 rfl (by decide) rfl ?_
  refine J.sub [0, 1, 2] (lv' := [(3, Value.int (iI ((ln qq.1) - 1))), (1, Value.long (iL t')), (0, Value.ref (ad 100))]) rfl ?_
  refine J.loop (σ := Int × Int × (Int → Int) × (Int → Int) × (Int → Int) × (Int → Int) × Int) (fun xx_ => match xx_ with | (k, u, sy1, sf1, so1, st1, n1) => (-1 ≤ k ∧ k ≤ ln qq.1 - 1) ∧ (skC sy1 sf1 so1 st1 n1 = (kfI (nuM tr) ln (bsM bd) i j qq t' k).1 ++ skC sy sf so st (sn - 1)) ∧ (u = (kfI (nuM tr) ln (bsM bd) i j qq t' k).2) ∧ (0 ≤ u ∧ u ≤ 1000000000000) ∧ (sn - 1 ≤ n1 ∧ n1 ≤ sn - 1 + (ln qq.1 - 1 - k))) (fun xx_ => match xx_ with | (k, u, sy1, sf1, so1, st1, n1) => (k + 1).toNat) (ws := fun xx_ => match xx_ with | (k, u, sy1, sf1, so1, st1, n1) => (ad, cC ad r lp fd nr nr nr mc lf ln bd tm it th my lps em mk tr wg wr we wc wb true (Value.ref (ad (idR qq.1))) j cu1 true sy1 sf1 so1 st1 n1 ne mt)) (ks := fun _ => 0) (ns := fun _ => 0) (lvs := fun xx_ => match xx_ with | (k, u, sy1, sf1, so1, st1, n1) => [(3, Value.int (iI k)), (1, Value.long (iL u)), (0, Value.ref (ad 100))]) (sts := fun _ => []) ?_ ((ln qq.1) - 1, t', sy, sf, so, st, sn - 1) ?_
  · rintro ⟨k, u, sy1, sf1, so1, st1, n1⟩ hI ih2
    have hI : (-1 ≤ k ∧ k ≤ ln qq.1 - 1) ∧ (skC sy1 sf1 so1 st1 n1 = (kfI (nuM tr) ln (bsM bd) i j qq t' k).1 ++ skC sy sf so st (sn - 1)) ∧ (u = (kfI (nuM tr) ln (bsM bd) i j qq t' k).2) ∧ (0 ≤ u ∧ u ≤ 1000000000000) ∧ (sn - 1 ≤ n1 ∧ n1 ≤ sn - 1 + (ln qq.1 - 1 - k)) := hI
    obtain ⟨hk, hs1, hr1, hu, hb⟩ := hI
    show J l D b Y_CF_unfold _ _ (ad, cC ad r lp fd nr nr nr mc lf ln bd tm it th my lps em mk tr wg wr we wc wb true (Value.ref (ad (idR qq.1))) j cu1 true sy1 sf1 so1 st1 n1 ne mt) 0 0 39 [(3, Value.int (iI k)), (1, Value.long (iL u)), (0, Value.ref (ad 100))] []
    refine J_iload_n d_CF_unfold_39 rfl 0 rfl ?_
    refine J_if_lt (tgt := 137) d_CF_unfold_40 rfl (by omega) (fun h40_3 => ?_) (fun h40_3 => ?_)
    · refine J_aload_n d_CF_unfold_137 rfl 2 rfl ?_
      refine J_get fs_CF_50 rfl rfl d_CF_unfold_138 ?_
      refine J_get (v := Value.ref (ad (idR qq.1))) fs_CF_204 rfl rfl d_CF_unfold_141 ?_
      refine J_get fs_CF_287 (hidR (k := qq.1) (by omega) (by omega)) rfl d_CF_unfold_144 ?_
      refine J_iret rfl d_CF_unfold_147 ⟨Nat.le_of_ble_eq_true rfl, Nat.le_of_ble_eq_true rfl⟩ ?_
      exact ⟨_, _, _, _, _, _, rfl, rfl, by rw [hs1, show k = -1 by omega]; rfl, by omega, by omega⟩
    · have hbk := hg.2.2.2.1 (3 * qq.1 + k) (by omega) (by omega)
      have hb9 := hg.2.2.2.2 qq.1 k (by omega) (by omega) (by omega) (by omega)
      refine J_aload_n d_CF_unfold_43 rfl 2 rfl ?_
      refine J_get fs_CF_50 rfl rfl d_CF_unfold_44 ?_
      refine J_get (v := Value.ref (ad (idR qq.1))) fs_CF_204 rfl rfl d_CF_unfold_47 ?_
      refine J_get fs_CF_189 (hidR (k := qq.1) (by omega) (by omega)) rfl d_CF_unfold_50 ?_
      refine J_iload_n d_CF_unfold_53 rfl 0 rfl ?_
      refine J_iald (hidB (k := qq.1) (by omega) (by omega)) (by omega) (by omega) d_CF_unfold_54 ?_
      refine J.topI (bq_in (by omega)) ?_
      refine J_istore d_CF_unfold_55 (by decide) rfl ?_
      refine J_iload d_CF_unfold_57 0 rfl ?_
      refine J_callS (st := []) [Value.int (iI (bd (3 * qq.1 + k)))] ms_CF_95 (c_CF_isNonterminal (by omega)) rfl rfl ⟨Nat.le_of_ble_eq_true rfl, Nat.le_of_ble_eq_true rfl⟩ ⟨Nat.le_of_ble_eq_true rfl, Nat.le_of_ble_eq_true rfl⟩ (Nat.le_of_ble_eq_true rfl) d_CF_unfold_59 (fun v w' hp => ?_)
      obtain ⟨rfl, rfl⟩ := hp
      show J l D b Y_CF_unfold _ _ (ad, cC ad r lp fd nr nr nr mc lf ln bd tm it th my lps em mk tr wg wr we wc wb true (Value.ref (ad (idR qq.1))) j cu1 true sy1 sf1 so1 st1 n1 ne mt) 0 0 62 [(4, Value.int (iI (bd (3 * qq.1 + k)))), (3, Value.int (iI k)), (1, Value.long (iL u)), (0, Value.ref (ad 100))] [Value.int (iI (bz (ntB (bd (3 * qq.1 + k)))))]
      refine J_ifB_eq (tgt := 131) d_CF_unfold_62 rfl (fun h62_5 => ?_) (fun h62_5 => ?_)
      · have hnt9 : True := trivial
        refine J_iinc (j := 1) d_CF_unfold_131 rfl (by decide) rfl ?_
        refine J_goto (tgt := 39) d_CF_unfold_134 rfl ?_
        refine J.sub [0, 2, 3] rfl ?_
        exact ih2 (k + (-1), u, sy1, sf1, so1, st1, n1) (show (-1 ≤ (k + (-1)) ∧ (k + (-1)) ≤ ln qq.1 - 1) ∧ (skC sy1 sf1 so1 st1 n1 = (kfI (nuM tr) ln (bsM bd) i j qq t' (k + (-1))).1 ++ skC sy sf so st (sn - 1)) ∧ (u = (kfI (nuM tr) ln (bsM bd) i j qq t' (k + (-1))).2) ∧ (0 ≤ u ∧ u ≤ 1000000000000) ∧ (sn - 1 ≤ n1 ∧ n1 ≤ sn - 1 + (ln qq.1 - 1 - (k + (-1)))) by
            have hnt9 := ntB_no ‹ntB (bd (3 * qq.1 + k)) = false›
            refine ⟨by omega, ?_, ?_, by omega, by omega⟩
            · rw [kf_no (by omega) (show ¬ bsM bd qq.1 k < 8 by show ¬ bd (3 * qq.1 + k) < 8; omega)]
              exact hs1
            · rw [kf_no (by omega) (show ¬ bsM bd qq.1 k < 8 by show ¬ bd (3 * qq.1 + k) < 8; omega)]
              exact hr1) (show (((k + (-1)) + 1).toNat) < ((k + 1).toNat) by
            omega)
      · have hnt := ntB_of ‹_›
        have hk1 := hWA.2.1.at (k := k) hl (by omega) (by omega)
        have hk2 := hWA.2.1.at (k := k + 1) hl (by omega) (by omega)
        have hr1' := cutV_rng (n := ln qq.1) (k := k) hWA.1
        have hr2' := cutV_rng (n := ln qq.1) (k := k + 1) hWA.1
        have hr3' := cutV_mono (k := k) hWA.1 hl.2 (by omega)
        have hp9 := hpos k (by omega) (by omega) (show bd (3 * qq.1 + k) < 8 by omega)
        rw [← hk1] at hr1' hr3' hp9
        rw [← hk2] at hr2' hr3' hp9
        refine J_aload_n d_CF_unfold_65 rfl 3 rfl ?_
        refine J_iload d_CF_unfold_66 0 rfl ?_
        refine J_aload_n d_CF_unfold_68 rfl 3 rfl ?_
        refine J_get fs_CF_50 rfl rfl d_CF_unfold_69 ?_
        refine J_get (v := Value.ref (ad 111)) fs_CF_192 rfl rfl d_CF_unfold_72 ?_
        refine J_iload_n d_CF_unfold_75 rfl 1 rfl ?_
        refine J_iald rfl (by omega) (by decide) d_CF_unfold_76 ?_
        refine J_aload_n d_CF_unfold_77 rfl 3 rfl ?_
        refine J_get fs_CF_50 rfl rfl d_CF_unfold_78 ?_
        refine J_get (v := Value.ref (ad 111)) fs_CF_192 rfl rfl d_CF_unfold_81 ?_
        refine J_iload_n d_CF_unfold_84 rfl 1 rfl ?_
        refine J_iconst d_CF_unfold_85 ?_
        refine J_iadd d_CF_unfold_86 ?_
        refine J_iald rfl (by omega) (by decide) d_CF_unfold_87 ?_
        refine J_callV (st := []) [Value.int (iI (bd (3 * qq.1 + k))), Value.int (iI (cu1 k)), Value.int (iI (cu1 (k + 1)))] ms_CF_207 rfl (c_CF_treesOf2 (by omega) (by omega)) rfl rfl ⟨Nat.le_of_ble_eq_true rfl, Nat.le_of_ble_eq_true rfl⟩ ⟨Nat.le_of_ble_eq_true rfl, Nat.le_of_ble_eq_true rfl⟩ (Nat.le_of_ble_eq_true rfl) d_CF_unfold_88 (fun v w' hp => ?_)
        obtain ⟨rfl, rfl⟩ := hp
        show J l D b Y_CF_unfold _ _ (ad, cC ad r lp fd nr nr nr mc lf ln bd tm it th my lps em mk tr wg wr we wc wb true (Value.ref (ad (idR qq.1))) j cu1 true sy1 sf1 so1 st1 n1 ne mt) 0 0 91 [(4, Value.int (iI (bd (3 * qq.1 + k)))), (3, Value.int (iI k)), (1, Value.long (iL u)), (0, Value.ref (ad 100))] [Value.long (iL (if (bd (3 * qq.1 + k)) ≤ 4 then nuM tr (bd (3 * qq.1 + k)) (cu1 k) (cu1 (k + 1)) else 1))]
        have hif : (if bd (3 * qq.1 + k) ≤ 4 then nuM tr (bd (3 * qq.1 + k)) (cu1 k) (cu1 (k + 1)) else 1) = nuM tr (bd (3 * qq.1 + k)) (cu1 k) (cu1 (k + 1)) := if_pos (by omega)
        rw [hif]
        have hp8 : 0 < nuM tr (bd (3 * qq.1 + k)) (cu1 k) (cu1 (k + 1)) ∧ nuM tr (bd (3 * qq.1 + k)) (cu1 k) (cu1 (k + 1)) ≤ 1000000000000 := hp9
        skip
        refine J_lstore d_CF_unfold_91 (by decide) rfl ?_
        refine J_aload_n d_CF_unfold_93 rfl 4 rfl ?_
        refine J_get fs_CF_56 rfl rfl d_CF_unfold_94 ?_
        refine J_iload d_CF_unfold_97 1 rfl ?_
        refine J_aload_n d_CF_unfold_99 rfl 4 rfl ?_
        refine J_get fs_CF_50 rfl rfl d_CF_unfold_100 ?_
        refine J_get (v := Value.ref (ad 111)) fs_CF_192 rfl rfl d_CF_unfold_103 ?_
        refine J_iload_n d_CF_unfold_106 rfl 2 rfl ?_
        refine J_iald rfl (by omega) (by decide) d_CF_unfold_107 ?_
        refine J_aload_n d_CF_unfold_108 rfl 4 rfl ?_
        refine J_get fs_CF_50 rfl rfl d_CF_unfold_109 ?_
        refine J_get (v := Value.ref (ad 111)) fs_CF_192 rfl rfl d_CF_unfold_112 ?_
        refine J_iload_n d_CF_unfold_115 rfl 2 rfl ?_
        refine J_iconst d_CF_unfold_116 ?_
        refine J_iadd d_CF_unfold_117 ?_
        refine J_iald rfl (by omega) (by decide) d_CF_unfold_118 ?_
        refine J_lload_n d_CF_unfold_119 rfl 3 rfl ?_
        refine J_lload d_CF_unfold_120 0 rfl ?_
        refine J_lrem d_CF_unfold_122 (by omega) (by omega) ?_
        refine J_callV (st := []) [Value.int (iI (bd (3 * qq.1 + k))), Value.int (iI (cu1 k)), Value.int (iI (cu1 (k + 1))), Value.long (iL (u % (nuM tr (bd (3 * qq.1 + k)) (cu1 k) (cu1 (k + 1)))))] ms_CF_283 rfl (c_St_push (by omega)) rfl rfl ⟨Nat.le_of_ble_eq_true rfl, Nat.le_of_ble_eq_true rfl⟩ ⟨Nat.le_of_ble_eq_true rfl, Nat.le_of_ble_eq_true rfl⟩ (Nat.le_of_ble_eq_true rfl) d_CF_unfold_123 (fun v w' hp => ?_)
        obtain ⟨rfl, rfl⟩ := hp
        show J l D b Y_CF_unfold _ _ (ad, cC ad r lp fd nr nr nr mc lf ln bd tm it th my lps em mk tr wg wr we wc wb true (Value.ref (ad (idR qq.1))) j cu1 true (upI sy1 n1 (bd (3 * qq.1 + k))) (upI sf1 n1 (cu1 k)) (upI so1 n1 (cu1 (k + 1))) (upI st1 n1 (u % (nuM tr (bd (3 * qq.1 + k)) (cu1 k) (cu1 (k + 1))))) (n1 + 1) ne mt) 0 0 126 [(5, Value.long (iL (nuM tr (bd (3 * qq.1 + k)) (cu1 k) (cu1 (k + 1))))), (4, Value.int (iI (bd (3 * qq.1 + k)))), (3, Value.int (iI k)), (1, Value.long (iL u)), (0, Value.ref (ad 100))] []
        have hd0 := Int.ediv_nonneg (a := u) (b := (nuM tr (bd (3 * qq.1 + k)) (cu1 k) (cu1 (k + 1)))) (by omega) (by omega)
        have hd1 := Int.ediv_le_self (a := u) (nuM tr (bd (3 * qq.1 + k)) (cu1 k) (cu1 (k + 1))) (by omega)
        refine J_lload_n d_CF_unfold_126 rfl 3 rfl ?_
        refine J_lload d_CF_unfold_127 0 rfl ?_
        refine J_ldiv d_CF_unfold_129 (by omega) (by omega) ?_
        refine J_lstore_n d_CF_unfold_130 rfl (by decide) rfl ?_
        have hnt9 : True := trivial
        refine J_iinc (j := 3) d_CF_unfold_131 rfl (by decide) rfl ?_
        refine J_goto (tgt := 39) d_CF_unfold_134 rfl ?_
        refine J.sub [0, 1, 4] rfl ?_
        exact ih2 (k + (-1), u / (nuM tr (bd (3 * qq.1 + k)) (cu1 k) (cu1 (k + 1))), upI sy1 n1 (bd (3 * qq.1 + k)), upI sf1 n1 (cu1 k), upI so1 n1 (cu1 (k + 1)), upI st1 n1 (u % (nuM tr (bd (3 * qq.1 + k)) (cu1 k) (cu1 (k + 1)))), n1 + 1) (show (-1 ≤ (k + (-1)) ∧ (k + (-1)) ≤ ln qq.1 - 1) ∧ (skC (upI sy1 n1 (bd (3 * qq.1 + k))) (upI sf1 n1 (cu1 k)) (upI so1 n1 (cu1 (k + 1))) (upI st1 n1 (u % (nuM tr (bd (3 * qq.1 + k)) (cu1 k) (cu1 (k + 1))))) (n1 + 1) = (kfI (nuM tr) ln (bsM bd) i j qq t' (k + (-1))).1 ++ skC sy sf so st (sn - 1)) ∧ ((u / (nuM tr (bd (3 * qq.1 + k)) (cu1 k) (cu1 (k + 1)))) = (kfI (nuM tr) ln (bsM bd) i j qq t' (k + (-1))).2) ∧ (0 ≤ (u / (nuM tr (bd (3 * qq.1 + k)) (cu1 k) (cu1 (k + 1)))) ∧ (u / (nuM tr (bd (3 * qq.1 + k)) (cu1 k) (cu1 (k + 1)))) ≤ 1000000000000) ∧ (sn - 1 ≤ (n1 + 1) ∧ (n1 + 1) ≤ sn - 1 + (ln qq.1 - 1 - (k + (-1)))) by
            refine ⟨by omega, ?_, ?_, by omega, by omega⟩
            · rw [kf_yes (by omega) (show bsM bd qq.1 k < 8 by show bd (3 * qq.1 + k) < 8; omega), sk_push (by omega), hs1, hr1, hk1, hk2]
              rfl
            · rw [kf_yes (by omega) (show bsM bd qq.1 k < 8 by show bd (3 * qq.1 + k) < 8; omega), hr1, hk1, hk2]
              rfl) (show (((k + (-1)) + 1).toNat) < ((k + 1).toNat) by
            omega)
  · show (-1 ≤ ((ln qq.1) - 1) ∧ ((ln qq.1) - 1) ≤ ln qq.1 - 1) ∧ (skC sy sf so st (sn - 1) = (kfI (nuM tr) ln (bsM bd) i j qq t' ((ln qq.1) - 1)).1 ++ skC sy sf so st (sn - 1)) ∧ (t' = (kfI (nuM tr) ln (bsM bd) i j qq t' ((ln qq.1) - 1)).2) ∧ (0 ≤ t' ∧ t' ≤ 1000000000000) ∧ (sn - 1 ≤ (sn - 1) ∧ (sn - 1) ≤ sn - 1 + (ln qq.1 - 1 - ((ln qq.1) - 1)))
    exact ⟨by omega, by rw [kf_0 rfl]; rfl, by rw [kf_0 rfl], by omega, by omega⟩
end N13
