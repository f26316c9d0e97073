section X2
variable {l : Launch} {D : jD} {b : Nat} {w : jW} {ad : Nat → Nat} {r : Nat → Option jE} {lp : Bool} {fd : Int} {nr : Int} {nc : Int} {nd : Int} {mc : Int} {lf : Int → Int} {ln : Int → Int} {bd : Int → Int} {tm : Int → Int} {it : Int → Int → Int} {th : Int → Int → Bool} {my : Int → Int} {lps : Int → Int → Int} {em : Int → Int} {mk : Int → Int → Int} {tr : Int → Int → Int → Int} {wg : Bool} {wr : Value} {we : Int} {wc : Int → Int} {wb : Bool} {vg : Bool} {vr : Value} {ve : Int} {vc : Int → Int} {vb : Bool} {sy : Int → Int} {sf : Int → Int} {so : Int → Int} {st : Int → Int} {sn : Int} {ne : Int → Int} {mt : Int → Int → Bool}
set_option maxHeartbeats 4000000 in
theorem x_CF_items_IO {i : Int} (hl0 : l.stackTraces = false) (hf : 0 ≤ fd ∧ fd ≤ 12) (hi : -2147483648 ≤ i ∧ i ≤ 2147483647) (hno : ¬ (0 ≤ i ∧ i ≤ fd)) : CtX l D b Y_CF_items { frames := 7, cells := 1, slots := 6, locals := 121 } [Value.ref (ad 100), Value.int (iI i)] (ad, cC ad r lp fd nr nr nr mc lf ln bd tm it th my lps em mk tr wg wr we wc wb vg vr ve vc vb sy sf so st sn ne mt) "java/lang/IndexOutOfBoundsException" (fun w' => w' = (ad, cC ad r lp fd nr nr nr mc lf ln bd tm it th my lps em mk tr wg wr we wc wb vg vr ve vc vb sy sf so st sn ne mt)) := by
  refine CtX_of (by decide) (Nat.le_of_ble_eq_true rfl) ?_
  show JX l D b Y_CF_items _ _ _ (ad, cC ad r lp fd nr nr nr mc lf ln bd tm it th my lps em mk tr wg wr we wc wb vg vr ve vc vb sy sf so st sn ne mt) 0 0 0 [(0, Value.ref (ad 100)), (1, Value.int (iI i))] []
  refine X_aload_n d_CF_items_0 rfl 0 rfl ?_
  refine X_iload_n d_CF_items_1 rfl 1 rfl ?_
  exact X_callVT (st := []) [Value.int (iI i)] ms_CF_243 rfl (x_CF_setAt_IO hl0 hf hi hno) rfl rfl ⟨Nat.le_of_ble_eq_true rfl, Nat.le_of_ble_eq_true rfl⟩ ⟨Nat.le_of_ble_eq_true rfl, Nat.le_of_ble_eq_true rfl⟩ (Nat.le_of_ble_eq_true rfl) d_CF_items_2 (fun _ h => h)
set_option maxHeartbeats 4000000 in
theorem x_CF_has_IO {i : Int} {q : Int} {d : Int} {o : Int} (hl0 : l.stackTraces = false) (hf : 0 ≤ fd ∧ fd ≤ 12) (hi : -2147483648 ≤ i ∧ i ≤ 2147483647) (hno : ¬ (0 ≤ i ∧ i ≤ fd)) : CtX l D b Y_CF_has { frames := 7, cells := 1, slots := 6, locals := 121 } [Value.ref (ad 100), Value.int (iI i), Value.int (iI q), Value.int (iI d), Value.int (iI o)] (ad, cC ad r lp fd nr nr nr mc lf ln bd tm it th my lps em mk tr wg wr we wc wb vg vr ve vc vb sy sf so st sn ne mt) "java/lang/IndexOutOfBoundsException" (fun w' => w' = (ad, cC ad r lp fd nr nr nr mc lf ln bd tm it th my lps em mk tr wg wr we wc wb vg vr ve vc vb sy sf so st sn ne mt)) := by
  refine CtX_of (by decide) (Nat.le_of_ble_eq_true rfl) ?_
  show JX l D b Y_CF_has _ _ _ (ad, cC ad r lp fd nr nr nr mc lf ln bd tm it th my lps em mk tr wg wr we wc wb vg vr ve vc vb sy sf so st sn ne mt) 0 0 0 [(0, Value.ref (ad 100)), (1, Value.int (iI i)), (2, Value.int (iI q)), (3, Value.int (iI d)), (4, Value.int (iI o))] []
  refine X_aload_n d_CF_has_0 rfl 0 rfl ?_
  refine X_iload_n d_CF_has_1 rfl 1 rfl ?_
  exact X_callVT (st := []) [Value.int (iI i)] ms_CF_243 rfl (x_CF_setAt_IO hl0 hf hi hno) rfl rfl ⟨Nat.le_of_ble_eq_true rfl, Nat.le_of_ble_eq_true rfl⟩ ⟨Nat.le_of_ble_eq_true rfl, Nat.le_of_ble_eq_true rfl⟩ (Nat.le_of_ble_eq_true rfl) d_CF_has_2 (fun _ h => h)
set_option maxHeartbeats 4000000 in
theorem x_CF_leap_IO2 {i : Int} {x : Int} (hl0 : l.stackTraces = false) (hf : 0 ≤ fd ∧ fd ≤ 12) (hi : -2147483648 ≤ i ∧ i ≤ 2147483647) (hno : ¬ (0 ≤ i ∧ i ≤ fd)) : CtX l D b Y_CF_leap { frames := 7, cells := 1, slots := 6, locals := 121 } [Value.ref (ad 100), Value.int (iI i), Value.int (iI x)] (ad, cC ad r lp fd nr nr nr mc lf ln bd tm it th my lps em mk tr wg wr we wc wb vg vr ve vc vb sy sf so st sn ne mt) "java/lang/IndexOutOfBoundsException" (fun w' => w' = (ad, cC ad r lp fd nr nr nr mc lf ln bd tm it th my lps em mk tr wg wr we wc wb vg vr ve vc vb sy sf so st sn ne mt)) := by
  refine CtX_of (by decide) (Nat.le_of_ble_eq_true rfl) ?_
  show JX l D b Y_CF_leap _ _ _ (ad, cC ad r lp fd nr nr nr mc lf ln bd tm it th my lps em mk tr wg wr we wc wb vg vr ve vc vb sy sf so st sn ne mt) 0 0 0 [(0, Value.ref (ad 100)), (1, Value.int (iI i)), (2, Value.int (iI x))] []
  refine X_aload_n d_CF_leap_0 rfl 0 rfl ?_
  refine X_iload_n d_CF_leap_1 rfl 1 rfl ?_
  exact X_callVT (st := []) [Value.int (iI i)] ms_CF_243 rfl (x_CF_setAt_IO hl0 hf hi hno) rfl rfl ⟨Nat.le_of_ble_eq_true rfl, Nat.le_of_ble_eq_true rfl⟩ ⟨Nat.le_of_ble_eq_true rfl, Nat.le_of_ble_eq_true rfl⟩ (Nat.le_of_ble_eq_true rfl) d_CF_leap_2 (fun _ h => h)
set_option maxHeartbeats 4000000 in
theorem x_CF_ways_IO {s : Int} {i : Int} {j : Int} (hl0 : l.stackTraces = false) (hf : 0 ≤ fd ∧ fd ≤ 12) (hs : -2147483648 ≤ s ∧ s ≤ 2147483647) (hi : -2147483648 ≤ i ∧ i ≤ 2147483647) (hj : -2147483648 ≤ j ∧ j ≤ 2147483647) (hno : ¬ ((0 ≤ s ∧ s ≤ 4) ∧ 0 ≤ i ∧ i ≤ j ∧ j ≤ fd)) : CtX l D b Y_CF_ways { frames := 7, cells := 1, slots := 6, locals := 123 } [Value.ref (ad 100), Value.int (iI s), Value.int (iI i), Value.int (iI j)] (ad, cC ad r lp fd nr nr nr mc lf ln bd tm it th my lps em mk tr wg wr we wc wb vg vr ve vc vb sy sf so st sn ne mt) "java/lang/IndexOutOfBoundsException" (fun w' => w' = (ad, cC ad r lp fd nr nr nr mc lf ln bd tm it th my lps em mk tr wg wr we wc wb vg vr ve vc vb sy sf so st sn ne mt)) := by
  refine CtX_of (by decide) (Nat.le_of_ble_eq_true rfl) ?_
  show JX l D b Y_CF_ways _ _ _ (ad, cC ad r lp fd nr nr nr mc lf ln bd tm it th my lps em mk tr wg wr we wc wb vg vr ve vc vb sy sf so st sn ne mt) 0 0 0 [(0, Value.ref (ad 100)), (1, Value.int (iI s)), (2, Value.int (iI i)), (3, Value.int (iI j))] []
  refine X_aload_n d_CF_ways_0 rfl 0 rfl ?_
  refine X_iload_n d_CF_ways_1 rfl 1 rfl ?_
  refine X_iload_n d_CF_ways_2 rfl 2 rfl ?_
  refine X_iload_n d_CF_ways_3 rfl 3 rfl ?_
  exact X_callVT (st := []) [Value.int (iI s), Value.int (iI i), Value.int (iI j)] ms_CF_247 rfl (x_CF_checkStretch_IO hl0 hf hs hi hj hno) rfl rfl ⟨Nat.le_of_ble_eq_true rfl, Nat.le_of_ble_eq_true rfl⟩ ⟨Nat.le_of_ble_eq_true rfl, Nat.le_of_ble_eq_true rfl⟩ (Nat.le_of_ble_eq_true rfl) d_CF_ways_4 (fun _ h => h)
set_option maxHeartbeats 4000000 in
theorem x_CF_trees_IO {s : Int} {i : Int} {j : Int} (hl0 : l.stackTraces = false) (hf : 0 ≤ fd ∧ fd ≤ 12) (hs : -2147483648 ≤ s ∧ s ≤ 2147483647) (hi : -2147483648 ≤ i ∧ i ≤ 2147483647) (hj : -2147483648 ≤ j ∧ j ≤ 2147483647) (hno : ¬ ((0 ≤ s ∧ s ≤ 4) ∧ 0 ≤ i ∧ i ≤ j ∧ j ≤ fd)) : CtX l D b Y_CF_trees { frames := 7, cells := 1, slots := 6, locals := 123 } [Value.ref (ad 100), Value.int (iI s), Value.int (iI i), Value.int (iI j)] (ad, cC ad r lp fd nr nr nr mc lf ln bd tm it th my lps em mk tr wg wr we wc wb vg vr ve vc vb sy sf so st sn ne mt) "java/lang/IndexOutOfBoundsException" (fun w' => w' = (ad, cC ad r lp fd nr nr nr mc lf ln bd tm it th my lps em mk tr wg wr we wc wb vg vr ve vc vb sy sf so st sn ne mt)) := by
  refine CtX_of (by decide) (Nat.le_of_ble_eq_true rfl) ?_
  show JX l D b Y_CF_trees _ _ _ (ad, cC ad r lp fd nr nr nr mc lf ln bd tm it th my lps em mk tr wg wr we wc wb vg vr ve vc vb sy sf so st sn ne mt) 0 0 0 [(0, Value.ref (ad 100)), (1, Value.int (iI s)), (2, Value.int (iI i)), (3, Value.int (iI j))] []
  refine X_aload_n d_CF_trees_0 rfl 0 rfl ?_
  refine X_iload_n d_CF_trees_1 rfl 1 rfl ?_
  refine X_iload_n d_CF_trees_2 rfl 2 rfl ?_
  refine X_iload_n d_CF_trees_3 rfl 3 rfl ?_
  exact X_callVT (st := []) [Value.int (iI s), Value.int (iI i), Value.int (iI j)] ms_CF_247 rfl (x_CF_checkStretch_IO hl0 hf hs hi hj hno) rfl rfl ⟨Nat.le_of_ble_eq_true rfl, Nat.le_of_ble_eq_true rfl⟩ ⟨Nat.le_of_ble_eq_true rfl, Nat.le_of_ble_eq_true rfl⟩ (Nat.le_of_ble_eq_true rfl) d_CF_trees_4 (fun _ h => h)
set_option maxHeartbeats 4000000 in
theorem c_CF_tree {kk : Int} {p : Int} {R9 : Int → Int → Int → Int} (hg : gOK nr lf ln bd) (htm : ∀ x, 0 ≤ x → x < 12 → -2147483648 ≤ tm x ∧ tm x ≤ 2147483647) (hmk : MkR mk) (hf : 0 ≤ fd ∧ fd ≤ 12) (hT9 : TRk nr lf ln (bsM bd) tm fd (dvM mk) (ctM tr) (nuM tr) R9) (hp : 0 ≤ p ∧ p ≤ 2147483647) (h0 : 0 ≤ kk ∧ kk < tr fd 0 0 ∧ tr fd 0 0 < 1000000000000) (hdv : dvM mk 0 0 fd = true) (hne : itS nr lf ln (bsM bd) tm (dvM mk) (nuM tr) [(0, 0, fd, kk)] p.toNat ≠ []) : Ct l D b Y_CF_tree { frames := 5, cells := 0, slots := 0, locals := 119 } [Value.ref (ad 100), Value.long (iL kk), Value.int (iI p)] (ad, cC ad r lp fd nr nr nr mc lf ln bd tm it th my lps em mk tr wg wr we wc wb vg vr ve vc vb sy sf so st sn ne mt) (fun v w' => ∃ sy' sf' so' st' sn' g' r' e' cu' b', v = some (.int (iI (ruleS nr lf ln (bsM bd) tm (dvM mk) (nuM tr) (itS nr lf ln (bsM bd) tm (dvM mk) (nuM tr) [(0, 0, fd, kk)] p.toNat)))) ∧ w' = (ad, cC ad r lp fd nr nr nr mc lf ln bd tm it th my lps em mk tr wg wr we wc wb g' r' e' cu' b' sy' sf' so' st' sn' ne mt)) := by
  refine Ct_of (by decide) (Nat.le_of_ble_eq_true rfl) ?_
  have hg1 := hg.1
  have hct0 : ctM tr 0 0 fd = true := decide_eq_true (by omega)
  have hR0 := (hT9 0 0 fd (by omega) (by omega) (by omega) (by omega) (by omega) hct0).1
  show J l D b Y_CF_tree _ _ (ad, cC ad r lp fd nr nr nr mc lf ln bd tm it th my lps em mk tr wg wr we wc wb vg vr ve vc vb sy sf so st sn ne mt) 0 0 0 [(0, Value.ref (ad 100)), (1, Value.long (iL kk)), (3, Value.int (iI p))] []
  refine J_aload_n d_CF_tree_0 rfl 0 rfl ?_
  refine J_get fs_CF_39 rfl rfl d_CF_tree_1 ?_
  refine J_aload_n d_CF_tree_4 rfl 0 rfl ?_
  refine J_get fs_CF_109 rfl rfl d_CF_tree_5 ?_
  refine J_aald (v := Value.ref (ad (idC fd))) rfl rfl (by omega) (by decide) rfl d_CF_tree_8 ?_
  refine J_get fs_CF_195 (hidC (k := fd) (by omega)) rfl d_CF_tree_9 ?_
  refine J_iconst d_CF_tree_12 ?_
  refine J_aald (v := Value.ref (ad (idX fd 0))) (hidW (k := fd) (by omega)) rfl (by omega) (by omega) rfl d_CF_tree_13 ?_
  refine J_iconst d_CF_tree_14 ?_
  refine J_lald (hidX (ad := ad) (r := r) (lp := lp) (fd := fd) (nr := nr) (nc := nr) (nd := nr) (mc := mc) (lf := lf) (ln := ln) (bd := bd) (tm := tm) (it := it) (th := th) (my := my) (lps := lps) (em := em) (mk := mk) (tr := tr) (wg := wg) (wr := wr) (we := we) (wc := wc) (wb := wb) (vg := vg) (vr := vr) (ve := ve) (vc := vc) (vb := vb) (sy := sy) (sf := sf) (so := so) (st := st) (sn := sn) (ne := ne) (mt := mt) (k := fd) (j := 0) (by omega) (by omega)) (by omega) (by decide) d_CF_tree_15 ?_
  refine J_lstore d_CF_tree_16 (by decide) rfl ?_
  refine J_lload d_CF_tree_18 0 rfl ?_
  refine J_ldc2 (z := -1) d_CF_tree_20 cst_CF_199 rfl ?_
  refine J_lcmp_eq (tgt := 53) d_CF_tree_23 d_CF_tree_24 rfl (by omega) (by omega) (fun h23_1 => ?_) (fun h23_1 => ?_)
  · exact absurd h23_1 (by omega)
  · refine J_lload d_CF_tree_27 0 rfl ?_
    refine J_ldc2 (z := 1000000000000) d_CF_tree_29 cst_CF_202 rfl ?_
    refine J_lcmp_ge (tgt := 53) d_CF_tree_32 d_CF_tree_33 rfl (by omega) (by omega) (fun h32_2 => ?_) (fun h32_2 => ?_)
    · exact absurd h32_2 (by omega)
    · refine J_lload_n d_CF_tree_36 rfl 2 rfl ?_
      refine J_lconst (z := 0) d_CF_tree_37 rfl ?_
      refine J_lcmp_lt (tgt := 53) d_CF_tree_38 d_CF_tree_39 rfl (by omega) (by omega) (fun h38_3 => ?_) (fun h38_3 => ?_)
      · exact absurd h38_3 (by omega)
      · refine J_lload_n d_CF_tree_42 rfl 2 rfl ?_
        refine J_lload d_CF_tree_43 0 rfl ?_
        refine J_lcmp_ge (tgt := 53) d_CF_tree_45 d_CF_tree_46 rfl (by omega) (by omega) (fun h45_4 => ?_) (fun h45_4 => ?_)
        · exact absurd h45_4 (by omega)
        · refine J_iload_n d_CF_tree_49 rfl 3 rfl ?_
          refine J_if_ge (tgt := 61) d_CF_tree_50 rfl (by omega) (fun h50_5 => ?_) (fun h50_5 => ?_)
          · refine J_aload_n d_CF_tree_61 rfl 1 rfl ?_
            refine J_get fs_CF_56 rfl rfl d_CF_tree_62 ?_
            refine J_iconst d_CF_tree_65 ?_
            refine J_put fs_CF_278 rfl (Nat.le_of_ble_eq_true rfl) (fun _ h => by cases h; exact Or.inl rfl) rfl rfl u_112 d_CF_tree_66 ?_
            refine J_aload_n d_CF_tree_69 rfl 1 rfl ?_
            refine J_get fs_CF_56 rfl rfl d_CF_tree_70 ?_
            refine J_iconst d_CF_tree_73 ?_
            refine J_iconst d_CF_tree_74 ?_
            refine J_aload_n d_CF_tree_75 rfl 1 rfl ?_
            refine J_get fs_CF_109 rfl rfl d_CF_tree_76 ?_
            refine J_lload_n d_CF_tree_79 rfl 2 rfl ?_
            refine J_callV (st := []) [Value.int (iI 0), Value.int (iI 0), Value.int (iI fd), Value.long (iL kk)] ms_CF_283 rfl (c_St_push (by omega)) rfl rfl ⟨Nat.le_of_ble_eq_true rfl, Nat.le_of_ble_eq_true rfl⟩ ⟨Nat.le_of_ble_eq_true rfl, Nat.le_of_ble_eq_true rfl⟩ (Nat.le_of_ble_eq_true rfl) d_CF_tree_80 (fun v w' hp => ?_)
            obtain ⟨rfl, rfl⟩ := hp
            show J l D b Y_CF_tree _ _ (ad, cC ad r lp fd nr nr nr mc lf ln bd tm it th my lps em mk tr wg wr we wc wb vg vr ve vc vb (upI sy 0 0) (upI sf 0 0) (upI so 0 fd) (upI st 0 kk) (0 + 1) ne mt) 0 0 83 [(4, Value.long (iL (tr fd 0 0))), (0, Value.ref (ad 100)), (1, Value.long (iL kk)), (3, Value.int (iI p))] []
            refine J_iconst d_CF_tree_83 ?_
            refine J_istore d_CF_tree_84 (by decide) rfl ?_
            refine J.sub [0, 1, 2, 3, 4] (lv' := [(6, Value.int (iI 0)), (4, Value.long (iL (tr fd 0 0))), (0, Value.ref (ad 100)), (1, Value.long (iL kk)), (3, Value.int (iI p))]) rfl ?_
            refine J.loop (σ := Int × (Int → Int) × (Int → Int) × (Int → Int) × (Int → Int) × Int × Bool × Value × Int × (Int → Int) × Bool) (fun xx_ => match xx_ with | (at', sy1, sf1, so1, st1, n1, g1, r1, e1, cu1, b1) => (0 ≤ at' ∧ at' ≤ p) ∧ (skC sy1 sf1 so1 st1 n1 = itS nr lf ln (bsM bd) tm (dvM mk) (nuM tr) [(0, 0, fd, kk)] at'.toNat) ∧ (SOK fd (dvM mk) (ctM tr) (nuM tr) R9 (itS nr lf ln (bsM bd) tm (dvM mk) (nuM tr) [(0, 0, fd, kk)] at'.toNat)) ∧ (0 ≤ n1 ∧ n1 ≤ 200)) (fun xx_ => match xx_ with | (at', sy1, sf1, so1, st1, n1, g1, r1, e1, cu1, b1) => (p - at').toNat) (ws := fun xx_ => match xx_ with | (at', sy1, sf1, so1, st1, n1, g1, r1, e1, cu1, b1) => (ad, cC ad r lp fd nr nr nr mc lf ln bd tm it th my lps em mk tr wg wr we wc wb g1 r1 e1 cu1 b1 sy1 sf1 so1 st1 n1 ne mt)) (ks := fun _ => 0) (ns := fun _ => 0) (lvs := fun xx_ => match xx_ with | (at', sy1, sf1, so1, st1, n1, g1, r1, e1, cu1, b1) => [(6, Value.int (iI at')), (4, Value.long (iL (tr fd 0 0))), (0, Value.ref (ad 100)), (1, Value.long (iL kk)), (3, Value.int (iI p))]) (sts := fun _ => []) ?_ (0, upI sy 0 0, upI sf 0 0, upI so 0 fd, upI st 0 kk, 0 + 1, vg, vr, ve, vc, vb) ?_
            · rintro ⟨at', sy1, sf1, so1, st1, n1, g1, r1, e1, cu1, b1⟩ hI ih7
              have hI : (0 ≤ at' ∧ at' ≤ p) ∧ (skC sy1 sf1 so1 st1 n1 = itS nr lf ln (bsM bd) tm (dvM mk) (nuM tr) [(0, 0, fd, kk)] at'.toNat) ∧ (SOK fd (dvM mk) (ctM tr) (nuM tr) R9 (itS nr lf ln (bsM bd) tm (dvM mk) (nuM tr) [(0, 0, fd, kk)] at'.toNat)) ∧ (0 ≤ n1 ∧ n1 ≤ 200) := hI
              obtain ⟨hat, hL, hS, htc⟩ := hI
              show J l D b Y_CF_tree _ _ (ad, cC ad r lp fd nr nr nr mc lf ln bd tm it th my lps em mk tr wg wr we wc wb g1 r1 e1 cu1 b1 sy1 sf1 so1 st1 n1 ne mt) 0 0 86 [(6, Value.int (iI at')), (4, Value.long (iL (tr fd 0 0))), (0, Value.ref (ad 100)), (1, Value.long (iL kk)), (3, Value.int (iI p))] []
              refine J_aload_n d_CF_tree_86 rfl 2 rfl ?_
              have hpos1 : 0 < n1 := by
                apply Classical.byContradiction
                intro hn
                have h9 : itS nr lf ln (bsM bd) tm (dvM mk) (nuM tr) [(0, 0, fd, kk)] at'.toNat = [] := by
                  rw [← hL]
                  show skN _ _ _ _ n1.toNat = []
                  rw [show n1.toNat = 0 by omega]
                  rfl
                have := itS_nil h9 (p.toNat - at'.toNat)
                rw [show at'.toNat + (p.toNat - at'.toNat) = p.toNat by omega] at this
                exact hne this
              refine J_get fs_CF_56 rfl rfl d_CF_tree_87 ?_
              refine J_get fs_CF_278 rfl rfl d_CF_tree_90 ?_
              refine J_if_le (tgt := 117) d_CF_tree_93 rfl (by omega) (fun h93_8 => ?_) (fun h93_8 => ?_)
              · exact absurd h93_8 (by omega)
              · have hit : itS nr lf ln (bsM bd) tm (dvM mk) (nuM tr) [(0, 0, fd, kk)] at'.toNat = (sy1 (n1 - 1), sf1 (n1 - 1), so1 (n1 - 1), st1 (n1 - 1)) :: skC sy1 sf1 so1 st1 (n1 - 1) := by
                  rw [← hL]
                  exact sk_top (by omega)
                have hS9 := hS
                rw [hit] at hS9
                obtain ⟨qq, t', hfd9, hq9, hw9, ht9, ht9', hpv9, hk9, hkl9, hst9, hru9⟩ := step_ok hg.gB hf.2 hT9 hS9
                have hg9 := hS9.1
                unfold gE at hg9
                simp only at hg9 hfd9 hq9 hw9 ht9' hpv9 hk9 hst9
                have hTe := hT9 _ _ _ hg9.1.1 hg9.1.2 hg9.2.1.1 hg9.2.1.2.1 hg9.2.1.2.2 hg9.2.2.1
                have hqr := wl_in (fun r a b => hg.2.2.1 r a (by omega)) (by omega) hq9
                have hka9 : ∀ q ∈ wl nr lf ln (sy1 (n1 - 1)) (sf1 (n1 - 1)) (so1 (n1 - 1)) 0, wayT tm (dvM mk) ln (bsM bd) (sf1 (n1 - 1)) (so1 (n1 - 1)) q = true → ∀ k, 0 ≤ k → k < ln q.1 → bsM bd q.1 k < 8 → 0 ≤ nuM tr (bsM bd q.1 k) (cutV (ln q.1) q.2.1 q.2.2 k (sf1 (n1 - 1)) (so1 (n1 - 1))) (cutV (ln q.1) q.2.1 q.2.2 (k + 1) (sf1 (n1 - 1)) (so1 (n1 - 1))) ∧ nuM tr (bsM bd q.1 k) (cutV (ln q.1) q.2.1 q.2.2 k (sf1 (n1 - 1)) (so1 (n1 - 1))) (cutV (ln q.1) q.2.1 q.2.2 (k + 1) (sf1 (n1 - 1)) (so1 (n1 - 1))) ≤ 1000000000000 := by
                  intro q a b k a1 a2 a3
                  have hko := kid_ok (k := k) hg.gB hf.2 hg9.2.1 a b (hTe.2.2.2.2.2 q a b).1 ⟨a1, a2⟩ a3
                  have hTk := hT9 _ _ _ hko.1.1 hko.1.2 hko.2.1.1 hko.2.1.2.1 hko.2.1.2.2 hko.2.2.1
                  exact ⟨hTk.2.1, hTk.2.2.1⟩
                have hps9 : ∀ k, 0 ≤ k → k < ln qq.1 → bsM bd qq.1 k < 8 → 0 < nuM tr (bsM bd qq.1 k) (cutV (ln qq.1) qq.2.1 qq.2.2 k (sf1 (n1 - 1)) (so1 (n1 - 1))) (cutV (ln qq.1) qq.2.1 qq.2.2 (k + 1) (sf1 (n1 - 1)) (so1 (n1 - 1))) ∧ nuM tr (bsM bd qq.1 k) (cutV (ln qq.1) qq.2.1 qq.2.2 k (sf1 (n1 - 1)) (so1 (n1 - 1))) (cutV (ln qq.1) qq.2.1 qq.2.2 (k + 1) (sf1 (n1 - 1)) (so1 (n1 - 1))) ≤ 1000000000000 := by
                  intro k a1 a2 a3
                  have hko := kid_ok (k := k) hg.gB hf.2 hg9.2.1 hq9 hw9 (hTe.2.2.2.2.2 qq hq9 hw9).1 ⟨a1, a2⟩ a3
                  have hTk := hT9 _ _ _ hko.1.1 hko.1.2 hko.2.1.1 hko.2.1.2.1 hko.2.1.2.2 hko.2.2.1
                  exact ⟨hTk.2.2.2.1 hko.2.2.2, hTk.2.2.1⟩
                have hnr8 := hTe.2.2.1
                have hnr7 : nuM tr (sy1 (n1 - 1)) (sf1 (n1 - 1)) (so1 (n1 - 1)) ≤ 1000000000000 := hnr8
                have hlenS := SOK_len hT9 hS
                rw [← hL, show (skC sy1 sf1 so1 st1 n1).length = n1.toNat from sk_len _] at hlenS
                refine J_aload_n d_CF_tree_96 rfl 2 rfl ?_
                refine J_callV (st := []) [] ms_CF_290 rfl (c_CF_unfold hg htm hmk (by omega) rfl rfl rfl rfl hg9.1 (by have := hg9.2.1; omega) (by have := hg9.2.2.2.2; omega) hka9 hfd9 ⟨⟨hqr.1, hqr.2.1⟩, ht9, by omega⟩ hps9) rfl rfl ⟨Nat.le_of_ble_eq_true rfl, Nat.le_of_ble_eq_true rfl⟩ ⟨Nat.le_of_ble_eq_true rfl, Nat.le_of_ble_eq_true rfl⟩ (Nat.le_of_ble_eq_true rfl) d_CF_tree_97 (fun v w' hp => ?_)
                obtain ⟨sy9, sf9, so9, st9, sn9, cu9, rfl, rfl, hS9, hl9, hu9⟩ := hp
                show J l D b Y_CF_tree _ _ (ad, cC ad r lp fd nr nr nr mc lf ln bd tm it th my lps em mk tr wg wr we wc wb true (Value.ref (ad (idR qq.1))) (so1 (n1 - 1)) cu9 true sy9 sf9 so9 st9 sn9 ne mt) 0 0 100 [(6, Value.int (iI at')), (4, Value.long (iL (tr fd 0 0))), (0, Value.ref (ad 100)), (1, Value.long (iL kk)), (3, Value.int (iI p))] [Value.int (iI qq.1)]
                refine J_istore d_CF_tree_100 (by decide) rfl ?_
                refine J_iload d_CF_tree_102 1 rfl ?_
                refine J_iload_n d_CF_tree_104 rfl 5 rfl ?_
                refine J_icmp_ne (tgt := 111) d_CF_tree_105 rfl (by omega) (by omega) (fun h105_10 => ?_) (fun h105_10 => ?_)
                · refine J_iinc (j := 1) d_CF_tree_111 rfl (by decide) rfl ?_
                  refine J_goto (tgt := 86) d_CF_tree_114 rfl ?_
                  refine J.sub [0, 2, 3, 4, 5] rfl ?_
                  exact ih7 (at' + 1, sy9, sf9, so9, st9, sn9, true, Value.ref (ad (idR qq.1)), so1 (n1 - 1), cu9, true) (show (0 ≤ (at' + 1) ∧ (at' + 1) ≤ p) ∧ (skC sy9 sf9 so9 st9 sn9 = itS nr lf ln (bsM bd) tm (dvM mk) (nuM tr) [(0, 0, fd, kk)] (at' + 1).toNat) ∧ (SOK fd (dvM mk) (ctM tr) (nuM tr) R9 (itS nr lf ln (bsM bd) tm (dvM mk) (nuM tr) [(0, 0, fd, kk)] (at' + 1).toNat)) ∧ (0 ≤ sn9 ∧ sn9 ≤ 200) by
                      have e8 : itS nr lf ln (bsM bd) tm (dvM mk) (nuM tr) [(0, 0, fd, kk)] (at' + 1).toNat = kidsL (nuM tr) ln (bsM bd) (sf1 (n1 - 1)) (so1 (n1 - 1)) qq t' ++ skC sy1 sf1 so1 st1 (n1 - 1) := by
                        rw [show (at' + 1).toNat = at'.toNat + 1 by omega]
                        show stepS _ _ _ _ _ _ _ (itS nr lf ln (bsM bd) tm (dvM mk) (nuM tr) [(0, 0, fd, kk)] at'.toNat) = _
                        rw [hit, hst9]
                      refine ⟨by omega, ?_, ?_, by omega⟩
                      · rw [e8]
                        exact hS9
                      · rw [e8]
                        exact hk9) (show ((p - (at' + 1)).toNat) < ((p - at').toNat) by
                      omega)
                · refine J_iload d_CF_tree_108 0 rfl ?_
                  refine J_iret rfl d_CF_tree_110 ⟨Nat.le_of_ble_eq_true rfl, Nat.le_of_ble_eq_true rfl⟩ ?_
                  refine ⟨_, _, _, _, _, _, _, _, _, _, ?_, rfl⟩
                  rw [show p = at' by omega, hit, hru9]
            · show (0 ≤ (0 : Int) ∧ (0 : Int) ≤ p) ∧ (skC (upI sy 0 0) (upI sf 0 0) (upI so 0 fd) (upI st 0 kk) (0 + 1) = itS nr lf ln (bsM bd) tm (dvM mk) (nuM tr) [(0, 0, fd, kk)] (0 : Int).toNat) ∧ (SOK fd (dvM mk) (ctM tr) (nuM tr) R9 (itS nr lf ln (bsM bd) tm (dvM mk) (nuM tr) [(0, 0, fd, kk)] (0 : Int).toNat)) ∧ (0 ≤ (0 + 1) ∧ (0 + 1) ≤ 200)
              refine ⟨by omega, ?_, ?_, by omega⟩
              · rw [sk_push (by omega)]
                rfl
              · exact ⟨⟨by show (0:Int) ≤ 0 ∧ (0:Int) ≤ 4; omega, by show (0:Int) ≤ 0 ∧ 0 ≤ fd ∧ fd ≤ fd; omega, hct0, hdv, by show 0 ≤ kk; omega, by show kk < tr fd 0 0; omega⟩, by show ((0 : Nat) : Int) + 2 * R9 0 0 fd ≤ 154; omega, trivial⟩
          · exact absurd h50_5 (by omega)
set_option maxHeartbeats 4000000 in
theorem x_CF_tree_NS1 {kk : Int} {p : Int}  (hl0 : l.stackTraces = false) (hf : 0 ≤ fd ∧ fd ≤ 12) (hal : -1 ≤ tr fd 0 0 ∧ tr fd 0 0 ≤ 1000000000000) (hkk : -9223372036854775808 ≤ kk ∧ kk ≤ 9223372036854775807) (hp : -2147483648 ≤ p ∧ p ≤ 2147483647) (hno : tr fd 0 0 < 0 ∨ 1000000000000 ≤ tr fd 0 0 ∨ kk < 0 ∨ tr fd 0 0 ≤ kk ∨ p < 0) : CtX l D b Y_CF_tree { frames := 6, cells := 1, slots := 6, locals := 100 } [Value.ref (ad 100), Value.long (iL kk), Value.int (iI p)] (ad, cC ad r lp fd nr nr nr mc lf ln bd tm it th my lps em mk tr wg wr we wc wb vg vr ve vc vb sy sf so st sn ne mt) "java/util/NoSuchElementException" (fun w' => w' = (ad, cC ad r lp fd nr nr nr mc lf ln bd tm it th my lps em mk tr wg wr we wc wb vg vr ve vc vb sy sf so st sn ne mt)) := by
  refine CtX_of (by decide) (Nat.le_of_ble_eq_true rfl) ?_
  show JX l D b Y_CF_tree _ _ _ (ad, cC ad r lp fd nr nr nr mc lf ln bd tm it th my lps em mk tr wg wr we wc wb vg vr ve vc vb sy sf so st sn ne mt) 0 0 0 [(0, Value.ref (ad 100)), (1, Value.long (iL kk)), (3, Value.int (iI p))] []
  refine X_aload_n d_CF_tree_0 rfl 0 rfl ?_
  refine X_get fs_CF_39 rfl rfl d_CF_tree_1 ?_
  refine X_aload_n d_CF_tree_4 rfl 0 rfl ?_
  refine X_get fs_CF_109 rfl rfl d_CF_tree_5 ?_
  refine X_aald (v := Value.ref (ad (idC fd))) rfl rfl (by omega) (by decide) rfl d_CF_tree_8 ?_
  refine X_get fs_CF_195 (hidC (k := fd) (by omega)) rfl d_CF_tree_9 ?_
  refine X_iconst d_CF_tree_12 ?_
  refine X_aald (v := Value.ref (ad (idX fd 0))) (hidW (k := fd) (by omega)) rfl (by omega) (by omega) rfl d_CF_tree_13 ?_
  refine X_iconst d_CF_tree_14 ?_
  refine X_lald (hidX (ad := ad) (r := r) (lp := lp) (fd := fd) (nr := nr) (nc := nr) (nd := nr) (mc := mc) (lf := lf) (ln := ln) (bd := bd) (tm := tm) (it := it) (th := th) (my := my) (lps := lps) (em := em) (mk := mk) (tr := tr) (wg := wg) (wr := wr) (we := we) (wc := wc) (wb := wb) (vg := vg) (vr := vr) (ve := ve) (vc := vc) (vb := vb) (sy := sy) (sf := sf) (so := so) (st := st) (sn := sn) (ne := ne) (mt := mt) (k := fd) (j := 0) (by omega) (by omega)) (by omega) (by decide) d_CF_tree_15 ?_
  refine X_lstore d_CF_tree_16 (by decide) rfl ?_
  refine X_lload d_CF_tree_18 0 rfl ?_
  refine X_ldc2 (z := -1) d_CF_tree_20 cst_CF_199 rfl ?_
  refine X_lcmp_eq (tgt := 53) d_CF_tree_23 d_CF_tree_24 rfl (by omega) (by omega) (fun h23_1 => ?_) (fun h23_1 => ?_)
  · exact X_throw hl0 thW_NS (by decide +kernel) cl_CF_175 ii_XNS d_CF_tree_53 d_CF_tree_56 d_CF_tree_57 d_CF_tree_60 ⟨Nat.le_of_ble_eq_true rfl, Nat.le_of_ble_eq_true rfl⟩ ⟨Nat.le_of_ble_eq_true rfl, Nat.le_of_ble_eq_true rfl⟩ rfl
  · refine X_lload d_CF_tree_27 0 rfl ?_
    refine X_ldc2 (z := 1000000000000) d_CF_tree_29 cst_CF_202 rfl ?_
    refine X_lcmp_ge (tgt := 53) d_CF_tree_32 d_CF_tree_33 rfl (by omega) (by omega) (fun h32_2 => ?_) (fun h32_2 => ?_)
    · exact X_throw hl0 thW_NS (by decide +kernel) cl_CF_175 ii_XNS d_CF_tree_53 d_CF_tree_56 d_CF_tree_57 d_CF_tree_60 ⟨Nat.le_of_ble_eq_true rfl, Nat.le_of_ble_eq_true rfl⟩ ⟨Nat.le_of_ble_eq_true rfl, Nat.le_of_ble_eq_true rfl⟩ rfl
    · refine X_lload_n d_CF_tree_36 rfl 2 rfl ?_
      refine X_lconst (z := 0) d_CF_tree_37 rfl ?_
      refine X_lcmp_lt (tgt := 53) d_CF_tree_38 d_CF_tree_39 rfl (by omega) (by omega) (fun h38_3 => ?_) (fun h38_3 => ?_)
      · exact X_throw hl0 thW_NS (by decide +kernel) cl_CF_175 ii_XNS d_CF_tree_53 d_CF_tree_56 d_CF_tree_57 d_CF_tree_60 ⟨Nat.le_of_ble_eq_true rfl, Nat.le_of_ble_eq_true rfl⟩ ⟨Nat.le_of_ble_eq_true rfl, Nat.le_of_ble_eq_true rfl⟩ rfl
      · refine X_lload_n d_CF_tree_42 rfl 2 rfl ?_
        refine X_lload d_CF_tree_43 0 rfl ?_
        refine X_lcmp_ge (tgt := 53) d_CF_tree_45 d_CF_tree_46 rfl (by omega) (by omega) (fun h45_4 => ?_) (fun h45_4 => ?_)
        · exact X_throw hl0 thW_NS (by decide +kernel) cl_CF_175 ii_XNS d_CF_tree_53 d_CF_tree_56 d_CF_tree_57 d_CF_tree_60 ⟨Nat.le_of_ble_eq_true rfl, Nat.le_of_ble_eq_true rfl⟩ ⟨Nat.le_of_ble_eq_true rfl, Nat.le_of_ble_eq_true rfl⟩ rfl
        · refine X_iload_n d_CF_tree_49 rfl 3 rfl ?_
          refine X_if_ge (tgt := 61) d_CF_tree_50 rfl (by omega) (fun h50_5 => ?_) (fun h50_5 => ?_)
          · exact absurd h50_5 (by omega)
          · exact X_throw hl0 thW_NS (by decide +kernel) cl_CF_175 ii_XNS d_CF_tree_53 d_CF_tree_56 d_CF_tree_57 d_CF_tree_60 ⟨Nat.le_of_ble_eq_true rfl, Nat.le_of_ble_eq_true rfl⟩ ⟨Nat.le_of_ble_eq_true rfl, Nat.le_of_ble_eq_true rfl⟩ rfl
set_option maxHeartbeats 4000000 in
theorem x_CF_tree_NS2 {kk : Int} {p : Int} {R9 : Int → Int → Int → Int} (hl0 : l.stackTraces = false) (hg : gOK nr lf ln bd) (htm : ∀ x, 0 ≤ x → x < 12 → -2147483648 ≤ tm x ∧ tm x ≤ 2147483647) (hmk : MkR mk) (hf : 0 ≤ fd ∧ fd ≤ 12) (hT9 : TRk nr lf ln (bsM bd) tm fd (dvM mk) (ctM tr) (nuM tr) R9) (hp : 0 ≤ p ∧ p ≤ 2147483647) (h0 : 0 ≤ kk ∧ kk < tr fd 0 0 ∧ tr fd 0 0 < 1000000000000) (hdv : dvM mk 0 0 fd = true) (hnil : itS nr lf ln (bsM bd) tm (dvM mk) (nuM tr) [(0, 0, fd, kk)] p.toNat = []) : CtX l D b Y_CF_tree { frames := 6, cells := 1, slots := 6, locals := 119 } [Value.ref (ad 100), Value.long (iL kk), Value.int (iI p)] (ad, cC ad r lp fd nr nr nr mc lf ln bd tm it th my lps em mk tr wg wr we wc wb vg vr ve vc vb sy sf so st sn ne mt) "java/util/NoSuchElementException" (fun w' => ∃ sy' sf' so' st' sn' g' r' e' cu' b', w' = (ad, cC ad r lp fd nr nr nr mc lf ln bd tm it th my lps em mk tr wg wr we wc wb g' r' e' cu' b' sy' sf' so' st' sn' ne mt)) := by
  refine CtX_of (by decide) (Nat.le_of_ble_eq_true rfl) ?_
  have hg1 := hg.1
  have hct0 : ctM tr 0 0 fd = true := decide_eq_true (by omega)
  have hR0 := (hT9 0 0 fd (by omega) (by omega) (by omega) (by omega) (by omega) hct0).1
  show JX l D b Y_CF_tree _ _ _ (ad, cC ad r lp fd nr nr nr mc lf ln bd tm it th my lps em mk tr wg wr we wc wb vg vr ve vc vb sy sf so st sn ne mt) 0 0 0 [(0, Value.ref (ad 100)), (1, Value.long (iL kk)), (3, Value.int (iI p))] []
  refine X_aload_n d_CF_tree_0 rfl 0 rfl ?_
  refine X_get fs_CF_39 rfl rfl d_CF_tree_1 ?_
  refine X_aload_n d_CF_tree_4 rfl 0 rfl ?_
  refine X_get fs_CF_109 rfl rfl d_CF_tree_5 ?_
  refine X_aald (v := Value.ref (ad (idC fd))) rfl rfl (by omega) (by decide) rfl d_CF_tree_8 ?_
  refine X_get fs_CF_195 (hidC (k := fd) (by omega)) rfl d_CF_tree_9 ?_
  refine X_iconst d_CF_tree_12 ?_
  refine X_aald (v := Value.ref (ad (idX fd 0))) (hidW (k := fd) (by omega)) rfl (by omega) (by omega) rfl d_CF_tree_13 ?_
  refine X_iconst d_CF_tree_14 ?_
  refine X_lald (hidX (ad := ad) (r := r) (lp := lp) (fd := fd) (nr := nr) (nc := nr) (nd := nr) (mc := mc) (lf := lf) (ln := ln) (bd := bd) (tm := tm) (it := it) (th := th) (my := my) (lps := lps) (em := em) (mk := mk) (tr := tr) (wg := wg) (wr := wr) (we := we) (wc := wc) (wb := wb) (vg := vg) (vr := vr) (ve := ve) (vc := vc) (vb := vb) (sy := sy) (sf := sf) (so := so) (st := st) (sn := sn) (ne := ne) (mt := mt) (k := fd) (j := 0) (by omega) (by omega)) (by omega) (by decide) d_CF_tree_15 ?_
  refine X_lstore d_CF_tree_16 (by decide) rfl ?_
  refine X_lload d_CF_tree_18 0 rfl ?_
  refine X_ldc2 (z := -1) d_CF_tree_20 cst_CF_199 rfl ?_
  refine X_lcmp_eq (tgt := 53) d_CF_tree_23 d_CF_tree_24 rfl (by omega) (by omega) (fun h23_1 => ?_) (fun h23_1 => ?_)
  · exact absurd h23_1 (by omega)
  · refine X_lload d_CF_tree_27 0 rfl ?_
    refine X_ldc2 (z := 1000000000000) d_CF_tree_29 cst_CF_202 rfl ?_
    refine X_lcmp_ge (tgt := 53) d_CF_tree_32 d_CF_tree_33 rfl (by omega) (by omega) (fun h32_2 => ?_) (fun h32_2 => ?_)
    · exact absurd h32_2 (by omega)
    · refine X_lload_n d_CF_tree_36 rfl 2 rfl ?_
      refine X_lconst (z := 0) d_CF_tree_37 rfl ?_
      refine X_lcmp_lt (tgt := 53) d_CF_tree_38 d_CF_tree_39 rfl (by omega) (by omega) (fun h38_3 => ?_) (fun h38_3 => ?_)
      · exact absurd h38_3 (by omega)
      · refine X_lload_n d_CF_tree_42 rfl 2 rfl ?_
        refine X_lload d_CF_tree_43 0 rfl ?_
        refine X_lcmp_ge (tgt := 53) d_CF_tree_45 d_CF_tree_46 rfl (by omega) (by omega) (fun h45_4 => ?_) (fun h45_4 => ?_)
        · exact absurd h45_4 (by omega)
        · refine X_iload_n d_CF_tree_49 rfl 3 rfl ?_
          refine X_if_ge (tgt := 61) d_CF_tree_50 rfl (by omega) (fun h50_5 => ?_) (fun h50_5 => ?_)
          · refine X_aload_n d_CF_tree_61 rfl 1 rfl ?_
            refine X_get fs_CF_56 rfl rfl d_CF_tree_62 ?_
            refine X_iconst d_CF_tree_65 ?_
            refine X_put fs_CF_278 rfl (Nat.le_of_ble_eq_true rfl) (fun _ h => by cases h; exact Or.inl rfl) rfl rfl u_112 d_CF_tree_66 ?_
            refine X_aload_n d_CF_tree_69 rfl 1 rfl ?_
            refine X_get fs_CF_56 rfl rfl d_CF_tree_70 ?_
            refine X_iconst d_CF_tree_73 ?_
            refine X_iconst d_CF_tree_74 ?_
            refine X_aload_n d_CF_tree_75 rfl 1 rfl ?_
            refine X_get fs_CF_109 rfl rfl d_CF_tree_76 ?_
            refine X_lload_n d_CF_tree_79 rfl 2 rfl ?_
            refine X_callV (st := []) [Value.int (iI 0), Value.int (iI 0), Value.int (iI fd), Value.long (iL kk)] ms_CF_283 rfl (c_St_push (by omega)) rfl rfl ⟨Nat.le_of_ble_eq_true rfl, Nat.le_of_ble_eq_true rfl⟩ ⟨Nat.le_of_ble_eq_true rfl, Nat.le_of_ble_eq_true rfl⟩ (Nat.le_of_ble_eq_true rfl) d_CF_tree_80 (fun v w' hp => ?_)
            obtain ⟨rfl, rfl⟩ := hp
            show JX l D b Y_CF_tree _ _ _ (ad, cC ad r lp fd nr nr nr mc lf ln bd tm it th my lps em mk tr wg wr we wc wb vg vr ve vc vb (upI sy 0 0) (upI sf 0 0) (upI so 0 fd) (upI st 0 kk) (0 + 1) ne mt) 0 0 83 [(4, Value.long (iL (tr fd 0 0))), (0, Value.ref (ad 100)), (1, Value.long (iL kk)), (3, Value.int (iI p))] []
            refine X_iconst d_CF_tree_83 ?_
            refine X_istore d_CF_tree_84 (by decide) rfl ?_
            refine JX.sub [0, 1, 2, 3, 4] (lv' := [(6, Value.int (iI 0)), (4, Value.long (iL (tr fd 0 0))), (0, Value.ref (ad 100)), (1, Value.long (iL kk)), (3, Value.int (iI p))]) rfl ?_
            refine JX.loop (σ := Int × (Int → Int) × (Int → Int) × (Int → Int) × (Int → Int) × Int × Bool × Value × Int × (Int → Int) × Bool) (fun xx_ => match xx_ with | (at', sy1, sf1, so1, st1, n1, g1, r1, e1, cu1, b1) => (0 ≤ at' ∧ at' ≤ p) ∧ (skC sy1 sf1 so1 st1 n1 = itS nr lf ln (bsM bd) tm (dvM mk) (nuM tr) [(0, 0, fd, kk)] at'.toNat) ∧ (SOK fd (dvM mk) (ctM tr) (nuM tr) R9 (itS nr lf ln (bsM bd) tm (dvM mk) (nuM tr) [(0, 0, fd, kk)] at'.toNat)) ∧ (0 ≤ n1 ∧ n1 ≤ 200)) (fun xx_ => match xx_ with | (at', sy1, sf1, so1, st1, n1, g1, r1, e1, cu1, b1) => (p - at').toNat) (ws := fun xx_ => match xx_ with | (at', sy1, sf1, so1, st1, n1, g1, r1, e1, cu1, b1) => (ad, cC ad r lp fd nr nr nr mc lf ln bd tm it th my lps em mk tr wg wr we wc wb g1 r1 e1 cu1 b1 sy1 sf1 so1 st1 n1 ne mt)) (ks := fun _ => 0) (ns := fun _ => 0) (lvs := fun xx_ => match xx_ with | (at', sy1, sf1, so1, st1, n1, g1, r1, e1, cu1, b1) => [(6, Value.int (iI at')), (4, Value.long (iL (tr fd 0 0))), (0, Value.ref (ad 100)), (1, Value.long (iL kk)), (3, Value.int (iI p))]) (sts := fun _ => []) ?_ (0, upI sy 0 0, upI sf 0 0, upI so 0 fd, upI st 0 kk, 0 + 1, vg, vr, ve, vc, vb) ?_
            · rintro ⟨at', sy1, sf1, so1, st1, n1, g1, r1, e1, cu1, b1⟩ hI ih7
              have hI : (0 ≤ at' ∧ at' ≤ p) ∧ (skC sy1 sf1 so1 st1 n1 = itS nr lf ln (bsM bd) tm (dvM mk) (nuM tr) [(0, 0, fd, kk)] at'.toNat) ∧ (SOK fd (dvM mk) (ctM tr) (nuM tr) R9 (itS nr lf ln (bsM bd) tm (dvM mk) (nuM tr) [(0, 0, fd, kk)] at'.toNat)) ∧ (0 ≤ n1 ∧ n1 ≤ 200) := hI
              obtain ⟨hat, hL, hS, htc⟩ := hI
              show JX l D b Y_CF_tree _ _ _ (ad, cC ad r lp fd nr nr nr mc lf ln bd tm it th my lps em mk tr wg wr we wc wb g1 r1 e1 cu1 b1 sy1 sf1 so1 st1 n1 ne mt) 0 0 86 [(6, Value.int (iI at')), (4, Value.long (iL (tr fd 0 0))), (0, Value.ref (ad 100)), (1, Value.long (iL kk)), (3, Value.int (iI p))] []
              refine X_aload_n d_CF_tree_86 rfl 2 rfl ?_
              refine X_get fs_CF_56 rfl rfl d_CF_tree_87 ?_
              refine X_get fs_CF_278 rfl rfl d_CF_tree_90 ?_
              refine X_if_le (tgt := 117) d_CF_tree_93 rfl (by omega) (fun h93_8 => ?_) (fun h93_8 => ?_)
              · exact X_throw hl0 thW_NS (by decide +kernel) cl_CF_175 ii_XNS d_CF_tree_117 d_CF_tree_120 d_CF_tree_121 d_CF_tree_124 ⟨Nat.le_of_ble_eq_true rfl, Nat.le_of_ble_eq_true rfl⟩ ⟨Nat.le_of_ble_eq_true rfl, Nat.le_of_ble_eq_true rfl⟩ ⟨_, _, _, _, _, _, _, _, _, _, rfl⟩
              · have hnp : at' ≠ p := by
                  intro h9
                  rw [h9, hnil] at hL
                  have h8 : (skC sy1 sf1 so1 st1 n1).length = n1.toNat := sk_len _
                  rw [hL] at h8
                  simp at h8
                  omega
                have hit : itS nr lf ln (bsM bd) tm (dvM mk) (nuM tr) [(0, 0, fd, kk)] at'.toNat = (sy1 (n1 - 1), sf1 (n1 - 1), so1 (n1 - 1), st1 (n1 - 1)) :: skC sy1 sf1 so1 st1 (n1 - 1) := by
                  rw [← hL]
                  exact sk_top (by omega)
                have hS9 := hS
                rw [hit] at hS9
                obtain ⟨qq, t', hfd9, hq9, hw9, ht9, ht9', hpv9, hk9, hkl9, hst9, hru9⟩ := step_ok hg.gB hf.2 hT9 hS9
                have hg9 := hS9.1
                unfold gE at hg9
                simp only at hg9 hfd9 hq9 hw9 ht9' hpv9 hk9 hst9
                have hTe := hT9 _ _ _ hg9.1.1 hg9.1.2 hg9.2.1.1 hg9.2.1.2.1 hg9.2.1.2.2 hg9.2.2.1
                have hqr := wl_in (fun r a b => hg.2.2.1 r a (by omega)) (by omega) hq9
                have hka9 : ∀ q ∈ wl nr lf ln (sy1 (n1 - 1)) (sf1 (n1 - 1)) (so1 (n1 - 1)) 0, wayT tm (dvM mk) ln (bsM bd) (sf1 (n1 - 1)) (so1 (n1 - 1)) q = true → ∀ k, 0 ≤ k → k < ln q.1 → bsM bd q.1 k < 8 → 0 ≤ nuM tr (bsM bd q.1 k) (cutV (ln q.1) q.2.1 q.2.2 k (sf1 (n1 - 1)) (so1 (n1 - 1))) (cutV (ln q.1) q.2.1 q.2.2 (k + 1) (sf1 (n1 - 1)) (so1 (n1 - 1))) ∧ nuM tr (bsM bd q.1 k) (cutV (ln q.1) q.2.1 q.2.2 k (sf1 (n1 - 1)) (so1 (n1 - 1))) (cutV (ln q.1) q.2.1 q.2.2 (k + 1) (sf1 (n1 - 1)) (so1 (n1 - 1))) ≤ 1000000000000 := by
                  intro q a b k a1 a2 a3
                  have hko := kid_ok (k := k) hg.gB hf.2 hg9.2.1 a b (hTe.2.2.2.2.2 q a b).1 ⟨a1, a2⟩ a3
                  have hTk := hT9 _ _ _ hko.1.1 hko.1.2 hko.2.1.1 hko.2.1.2.1 hko.2.1.2.2 hko.2.2.1
                  exact ⟨hTk.2.1, hTk.2.2.1⟩
                have hps9 : ∀ k, 0 ≤ k → k < ln qq.1 → bsM bd qq.1 k < 8 → 0 < nuM tr (bsM bd qq.1 k) (cutV (ln qq.1) qq.2.1 qq.2.2 k (sf1 (n1 - 1)) (so1 (n1 - 1))) (cutV (ln qq.1) qq.2.1 qq.2.2 (k + 1) (sf1 (n1 - 1)) (so1 (n1 - 1))) ∧ nuM tr (bsM bd qq.1 k) (cutV (ln qq.1) qq.2.1 qq.2.2 k (sf1 (n1 - 1)) (so1 (n1 - 1))) (cutV (ln qq.1) qq.2.1 qq.2.2 (k + 1) (sf1 (n1 - 1)) (so1 (n1 - 1))) ≤ 1000000000000 := by
                  intro k a1 a2 a3
                  have hko := kid_ok (k := k) hg.gB hf.2 hg9.2.1 hq9 hw9 (hTe.2.2.2.2.2 qq hq9 hw9).1 ⟨a1, a2⟩ a3
                  have hTk := hT9 _ _ _ hko.1.1 hko.1.2 hko.2.1.1 hko.2.1.2.1 hko.2.1.2.2 hko.2.2.1
                  exact ⟨hTk.2.2.2.1 hko.2.2.2, hTk.2.2.1⟩
                have hnr8 := hTe.2.2.1
                have hnr7 : nuM tr (sy1 (n1 - 1)) (sf1 (n1 - 1)) (so1 (n1 - 1)) ≤ 1000000000000 := hnr8
                have hlenS := SOK_len hT9 hS
                rw [← hL, show (skC sy1 sf1 so1 st1 n1).length = n1.toNat from sk_len _] at hlenS
                refine X_aload_n d_CF_tree_96 rfl 2 rfl ?_
                refine X_callV (st := []) [] ms_CF_290 rfl (c_CF_unfold hg htm hmk (by omega) rfl rfl rfl rfl hg9.1 (by have := hg9.2.1; omega) (by have := hg9.2.2.2.2; omega) hka9 hfd9 ⟨⟨hqr.1, hqr.2.1⟩, ht9, by omega⟩ hps9) rfl rfl ⟨Nat.le_of_ble_eq_true rfl, Nat.le_of_ble_eq_true rfl⟩ ⟨Nat.le_of_ble_eq_true rfl, Nat.le_of_ble_eq_true rfl⟩ (Nat.le_of_ble_eq_true rfl) d_CF_tree_97 (fun v w' hp => ?_)
                obtain ⟨sy9, sf9, so9, st9, sn9, cu9, rfl, rfl, hS9, hl9, hu9⟩ := hp
                show JX l D b Y_CF_tree _ _ _ (ad, cC ad r lp fd nr nr nr mc lf ln bd tm it th my lps em mk tr wg wr we wc wb true (Value.ref (ad (idR qq.1))) (so1 (n1 - 1)) cu9 true sy9 sf9 so9 st9 sn9 ne mt) 0 0 100 [(6, Value.int (iI at')), (4, Value.long (iL (tr fd 0 0))), (0, Value.ref (ad 100)), (1, Value.long (iL kk)), (3, Value.int (iI p))] [Value.int (iI qq.1)]
                refine X_istore d_CF_tree_100 (by decide) rfl ?_
                refine X_iload d_CF_tree_102 1 rfl ?_
                refine X_iload_n d_CF_tree_104 rfl 5 rfl ?_
                refine X_icmp_ne (tgt := 111) d_CF_tree_105 rfl (by omega) (by omega) (fun h105_10 => ?_) (fun h105_10 => ?_)
                · refine X_iinc (j := 1) d_CF_tree_111 rfl (by decide) rfl ?_
                  refine X_goto (tgt := 86) d_CF_tree_114 rfl ?_
                  refine JX.sub [0, 2, 3, 4, 5] rfl ?_
                  exact ih7 (at' + 1, sy9, sf9, so9, st9, sn9, true, Value.ref (ad (idR qq.1)), so1 (n1 - 1), cu9, true) (show (0 ≤ (at' + 1) ∧ (at' + 1) ≤ p) ∧ (skC sy9 sf9 so9 st9 sn9 = itS nr lf ln (bsM bd) tm (dvM mk) (nuM tr) [(0, 0, fd, kk)] (at' + 1).toNat) ∧ (SOK fd (dvM mk) (ctM tr) (nuM tr) R9 (itS nr lf ln (bsM bd) tm (dvM mk) (nuM tr) [(0, 0, fd, kk)] (at' + 1).toNat)) ∧ (0 ≤ sn9 ∧ sn9 ≤ 200) by
                      have e8 : itS nr lf ln (bsM bd) tm (dvM mk) (nuM tr) [(0, 0, fd, kk)] (at' + 1).toNat = kidsL (nuM tr) ln (bsM bd) (sf1 (n1 - 1)) (so1 (n1 - 1)) qq t' ++ skC sy1 sf1 so1 st1 (n1 - 1) := by
                        rw [show (at' + 1).toNat = at'.toNat + 1 by omega]
                        show stepS _ _ _ _ _ _ _ (itS nr lf ln (bsM bd) tm (dvM mk) (nuM tr) [(0, 0, fd, kk)] at'.toNat) = _
                        rw [hit, hst9]
                      refine ⟨by omega, ?_, ?_, by omega⟩
                      · rw [e8]
                        exact hS9
                      · rw [e8]
                        exact hk9) (show ((p - (at' + 1)).toNat) < ((p - at').toNat) by
                      omega)
                · exact absurd h105_10 (by omega)
            · show (0 ≤ (0 : Int) ∧ (0 : Int) ≤ p) ∧ (skC (upI sy 0 0) (upI sf 0 0) (upI so 0 fd) (upI st 0 kk) (0 + 1) = itS nr lf ln (bsM bd) tm (dvM mk) (nuM tr) [(0, 0, fd, kk)] (0 : Int).toNat) ∧ (SOK fd (dvM mk) (ctM tr) (nuM tr) R9 (itS nr lf ln (bsM bd) tm (dvM mk) (nuM tr) [(0, 0, fd, kk)] (0 : Int).toNat)) ∧ (0 ≤ (0 + 1) ∧ (0 + 1) ≤ 200)
              refine ⟨by omega, ?_, ?_, by omega⟩
              · rw [sk_push (by omega)]
                rfl
              · exact ⟨⟨by show (0:Int) ≤ 0 ∧ (0:Int) ≤ 4; omega, by show (0:Int) ≤ 0 ∧ 0 ≤ fd ∧ fd ≤ fd; omega, hct0, hdv, by show 0 ≤ kk; omega, by show kk < tr fd 0 0; omega⟩, by show ((0 : Nat) : Int) + 2 * R9 0 0 fd ≤ 154; omega, trivial⟩
          · exact absurd h50_5 (by omega)
end X2
