theorem sumL_pos {f : Int × Int × Int → Bool} {g : Int × Int × Int → Int} : ∀ (l : List (Int × Int × Int)) (a : Int), (∀ q ∈ l, ¬ f q = true) → sumL f g a l = a
  | [], a, _ => rfl
  | q :: l, a, h => by
    rw [sumL_cons, if_neg (h q List.mem_cons_self)]
    exact sumL_pos l a (fun p hp => h p (List.mem_cons_of_mem _ hp))
/-- a node with trees is derived -/
theorem root_dv {nr fd s i j : Int} {lf ln bd tm : Int → Int} {dv ct : Int → Bool} {nu : Int → Int} (hD : DerL nr lf ln bd tm fd dv) (hC : CntL nr lf ln bd tm fd dv ct nu) (hs : 0 ≤ s ∧ s ≤ 4) (hij : 0 ≤ i ∧ i ≤ j ∧ j ≤ fd) (hct : ct (169 * s + 13 * i + j) = true) (hp : 0 < nu (169 * s + 13 * i + j)) : dv (169 * s + 13 * i + j) = true := by
  have h1 := (hC.2.1.1 s i j hs.1 hs.2 hij.1 hij.2.1 hij.2.2 hct).2
  apply Classical.byContradiction
  intro hn
  have : sumN nr lf ln bd tm dv nu s i j = 0 := sumL_pos _ 0 (fun q hq hw => by
    have hm := wl_mem _ 0 rfl q hq
    have := hD.1 q.1 i j hm.1 hm.2.1 hij.1 hij.2.1 hij.2.2 ⟨q.2, hm.2.2.2, hw⟩
    rw [hm.2.2.1] at this
    exact hn this)
  omega
section M11
variable {l : Launch} {D : jD} {b : Nat} {w : jW} {ad : Nat → Nat} {r : Nat → Option jE} {lp : Bool} {rf : Int} {nr : Int} {lf : Int → Int} {ln : Int → Int} {bd : Int → Int} {fd : Int} {tm : Int → Int} {it : Int → Bool} {wk : Bool} {dv : Int → Bool} {ct : Int → Bool} {nu : Int → Int} {mt : Int → Bool} {c1 : Int} {c2 : Int} {td : Int → Int} {tt : Int → Int} {tc : Int}
set_option maxHeartbeats 4000000 in
theorem c_Mo_tree {kk : Int} {p : Int} (hg : gOK nr lf ln bd) (htm : ∀ x, 0 ≤ x → x < 12 → -2147483648 ≤ tm x ∧ tm x ≤ 2147483647) (hf : 0 ≤ fd ∧ fd ≤ 12) (hwk : wk = true → Wkd nr lf ln bd tm fd dv ct nu) (hkk : -9223372036854775808 ≤ kk ∧ kk ≤ 9223372036854775807) (hp : -2147483648 ≤ p ∧ p ≤ 2147483647) (hTR : ∀ dv' ct' nu', Wkd nr lf ln bd tm fd dv' ct' nu' → ∃ R, TRk nr lf ln (bsM bd) tm fd (dvT dv') (dvT ct') (nuT nu') R) : Ct l D b Y_Mo_tree { frames := 6, cells := 0, slots := 0, locals := 149 } [Value.ref (ad 0), Value.long (iL kk), Value.int (iI p)] (ad, cM ad r lp rf nr lf ln bd fd tm it wk dv ct nu mt c1 c2 td tt tc) (fun v w' => ∃ z rf' dv' ct' nu' d1 d2 td' tt' tc', v = some (.int (iI z)) ∧ w' = (ad, cM ad r lp rf' nr lf ln bd fd tm it true dv' ct' nu' mt d1 d2 td' tt' tc') ∧ Wkd nr lf ln bd tm fd dv' ct' nu' ∧ ((((if ct' (169 * 0 + 13 * 0 + fd) = true then nu' (169 * 0 + 13 * 0 + fd) else -1) < 0 ∨ 1000000000000 ≤ (if ct' (169 * 0 + 13 * 0 + fd) = true then nu' (169 * 0 + 13 * 0 + fd) else -1) ∨ kk < 0 ∨ (if ct' (169 * 0 + 13 * 0 + fd) = true then nu' (169 * 0 + 13 * 0 + fd) else -1) ≤ kk ∨ p < 0) ∧ z = 0 ∧ rf' = 1) ∨ (¬ ((if ct' (169 * 0 + 13 * 0 + fd) = true then nu' (169 * 0 + 13 * 0 + fd) else -1) < 0 ∨ 1000000000000 ≤ (if ct' (169 * 0 + 13 * 0 + fd) = true then nu' (169 * 0 + 13 * 0 + fd) else -1) ∨ kk < 0 ∨ (if ct' (169 * 0 + 13 * 0 + fd) = true then nu' (169 * 0 + 13 * 0 + fd) else -1) ≤ kk ∨ p < 0) ∧ ((itS nr lf ln (bsM bd) tm (dvT dv') (nuT nu') [(0, 0, fd, kk)] p.toNat = [] ∧ z = 0 ∧ rf' = 1) ∨ (itS nr lf ln (bsM bd) tm (dvT dv') (nuT nu') [(0, 0, fd, kk)] p.toNat ≠ [] ∧ z = ruleS nr lf ln (bsM bd) tm (dvT dv') (nuT nu') (itS nr lf ln (bsM bd) tm (dvT dv') (nuT nu') [(0, 0, fd, kk)] p.toNat) ∧ rf' = 0))))) := by
  refine Ct_of (by decide) (Nat.le_of_ble_eq_true rfl) ?_
  have hg1 := hg.1
  show J l D b Y_Mo_tree _ _ (ad, cM ad r lp rf nr lf ln bd fd tm it wk dv ct nu mt c1 c2 td tt tc) 0 0 0 [(0, Value.ref (ad 0)), (1, Value.long (iL kk)), (3, Value.int (iI p))] []
  refine J_aload_n d_Mo_tree_0 rfl 0 rfl ?_
  refine J_iconst d_Mo_tree_1 ?_
  refine J_put fs_Mo_53 rfl (Nat.le_of_ble_eq_true rfl) (fun _ h => by cases h; exact Or.inl rfl) rfl rfl uM_obj d_Mo_tree_2 ?_
  refine J_aload_n d_Mo_tree_5 rfl 0 rfl ?_
  refine J_callV (st := []) [] ms_Mo_164 rfl (c_Mo_work hg htm (by omega) hwk) rfl rfl ⟨Nat.le_of_ble_eq_true rfl, Nat.le_of_ble_eq_true rfl⟩ ⟨Nat.le_of_ble_eq_true rfl, Nat.le_of_ble_eq_true rfl⟩ (Nat.le_of_ble_eq_true rfl) d_Mo_tree_6 (fun v w' hp => ?_)
  obtain ⟨rfl, dvV, ctV, nuV, xV, yV, rfl, hWV⟩ := hp
  show J l D b Y_Mo_tree _ _ (ad, cM ad r lp 0 nr lf ln bd fd tm it true dvV ctV nuV mt xV yV td tt tc) 0 0 9 [(0, Value.ref (ad 0)), (1, Value.long (iL kk)), (3, Value.int (iI p))] []
  refine J_aload_n d_Mo_tree_9 rfl 0 rfl ?_
  refine J_iconst d_Mo_tree_10 ?_
  refine J_iconst d_Mo_tree_11 ?_
  refine J_aload_n d_Mo_tree_12 rfl 0 rfl ?_
  refine J_get fs_Mo_97 rfl rfl d_Mo_tree_13 ?_
  refine J_callV (st := []) [Value.int (iI 0), Value.int (iI 0), Value.int (iI fd)] ms_Mo_167 rfl (c_Mo_treesOf (by omega)) rfl rfl ⟨Nat.le_of_ble_eq_true rfl, Nat.le_of_ble_eq_true rfl⟩ ⟨Nat.le_of_ble_eq_true rfl, Nat.le_of_ble_eq_true rfl⟩ (Nat.le_of_ble_eq_true rfl) d_Mo_tree_16 (fun v w' hp => ?_)
  obtain ⟨rfl, rfl⟩ := hp
  show J l D b Y_Mo_tree _ _ (ad, cM ad r lp 0 nr lf ln bd fd tm it true dvV ctV nuV mt xV yV td tt tc) 0 0 19 [(0, Value.ref (ad 0)), (1, Value.long (iL kk)), (3, Value.int (iI p))] [Value.long (iL (if ctV (169 * 0 + 13 * 0 + fd) = true then nuV (169 * 0 + 13 * 0 + fd) else -1))]
  refine J_lstore d_Mo_tree_19 (by decide) rfl ?_
  have har : -1 ≤ (if ctV (169 * 0 + 13 * 0 + fd) = true then nuV (169 * 0 + 13 * 0 + fd) else -1) ∧ (if ctV (169 * 0 + 13 * 0 + fd) = true then nuV (169 * 0 + 13 * 0 + fd) else -1) ≤ 1000000000000 := by
    split
    · have := hWV.2.2.1.2 (169 * 0 + 13 * 0 + fd) (by omega) (by omega) ‹_›
      omega
    · omega
  refine J_lload d_Mo_tree_21 0 rfl ?_
  refine J_lconst (z := 0) d_Mo_tree_23 rfl ?_
  refine J_lcmp_lt (tgt := 54) d_Mo_tree_24 d_Mo_tree_25 rfl (by omega) (by omega) (fun h24_3 => ?_) (fun h24_3 => ?_)
  · refine J_aload_n d_Mo_tree_54 rfl 1 rfl ?_
    refine J_iconst d_Mo_tree_55 ?_
    refine J_callV (st := []) [Value.int (iI 1)] ms_Mo_91 rfl (c_Mo_refuse) rfl rfl ⟨Nat.le_of_ble_eq_true rfl, Nat.le_of_ble_eq_true rfl⟩ ⟨Nat.le_of_ble_eq_true rfl, Nat.le_of_ble_eq_true rfl⟩ (Nat.le_of_ble_eq_true rfl) d_Mo_tree_56 (fun v w' hp => ?_)
    obtain ⟨rfl, rfl⟩ := hp
    show J l D b Y_Mo_tree _ _ (ad, cM ad r lp 1 nr lf ln bd fd tm it true dvV ctV nuV mt xV yV td tt tc) 0 0 59 [(4, Value.long (iL (if ctV (169 * 0 + 13 * 0 + fd) = true then nuV (169 * 0 + 13 * 0 + fd) else -1))), (0, Value.ref (ad 0)), (1, Value.long (iL kk)), (3, Value.int (iI p))] [Value.int (iI 0)]
    refine J_iret rfl d_Mo_tree_59 ⟨Nat.le_of_ble_eq_true rfl, Nat.le_of_ble_eq_true rfl⟩ ?_
    exact ⟨_, _, _, _, _, _, _, _, _, _, rfl, rfl, hWV, Or.inl ⟨by omega, rfl, rfl⟩⟩
  · refine J_lload d_Mo_tree_28 0 rfl ?_
    refine J_ldc2 (z := 1000000000000) d_Mo_tree_30 cst_Mo_143 rfl ?_
    refine J_lcmp_ge (tgt := 54) d_Mo_tree_33 d_Mo_tree_34 rfl (by omega) (by omega) (fun h33_5 => ?_) (fun h33_5 => ?_)
    · refine J_aload_n d_Mo_tree_54 rfl 1 rfl ?_
      refine J_iconst d_Mo_tree_55 ?_
      refine J_callV (st := []) [Value.int (iI 1)] ms_Mo_91 rfl (c_Mo_refuse) rfl rfl ⟨Nat.le_of_ble_eq_true rfl, Nat.le_of_ble_eq_true rfl⟩ ⟨Nat.le_of_ble_eq_true rfl, Nat.le_of_ble_eq_true rfl⟩ (Nat.le_of_ble_eq_true rfl) d_Mo_tree_56 (fun v w' hp => ?_)
      obtain ⟨rfl, rfl⟩ := hp
      show J l D b Y_Mo_tree _ _ (ad, cM ad r lp 1 nr lf ln bd fd tm it true dvV ctV nuV mt xV yV td tt tc) 0 0 59 [(4, Value.long (iL (if ctV (169 * 0 + 13 * 0 + fd) = true then nuV (169 * 0 + 13 * 0 + fd) else -1))), (0, Value.ref (ad 0)), (1, Value.long (iL kk)), (3, Value.int (iI p))] [Value.int (iI 0)]
      refine J_iret rfl d_Mo_tree_59 ⟨Nat.le_of_ble_eq_true rfl, Nat.le_of_ble_eq_true rfl⟩ ?_
      exact ⟨_, _, _, _, _, _, _, _, _, _, rfl, rfl, hWV, Or.inl ⟨by omega, rfl, rfl⟩⟩
    · refine J_lload_n d_Mo_tree_37 rfl 2 rfl ?_
      refine J_lconst (z := 0) d_Mo_tree_38 rfl ?_
      refine J_lcmp_lt (tgt := 54) d_Mo_tree_39 d_Mo_tree_40 rfl (by omega) (by omega) (fun h39_7 => ?_) (fun h39_7 => ?_)
      · refine J_aload_n d_Mo_tree_54 rfl 1 rfl ?_
        refine J_iconst d_Mo_tree_55 ?_
        refine J_callV (st := []) [Value.int (iI 1)] ms_Mo_91 rfl (c_Mo_refuse) rfl rfl ⟨Nat.le_of_ble_eq_true rfl, Nat.le_of_ble_eq_true rfl⟩ ⟨Nat.le_of_ble_eq_true rfl, Nat.le_of_ble_eq_true rfl⟩ (Nat.le_of_ble_eq_true rfl) d_Mo_tree_56 (fun v w' hp => ?_)
        obtain ⟨rfl, rfl⟩ := hp
        show J l D b Y_Mo_tree _ _ (ad, cM ad r lp 1 nr lf ln bd fd tm it true dvV ctV nuV mt xV yV td tt tc) 0 0 59 [(4, Value.long (iL (if ctV (169 * 0 + 13 * 0 + fd) = true then nuV (169 * 0 + 13 * 0 + fd) else -1))), (0, Value.ref (ad 0)), (1, Value.long (iL kk)), (3, Value.int (iI p))] [Value.int (iI 0)]
        refine J_iret rfl d_Mo_tree_59 ⟨Nat.le_of_ble_eq_true rfl, Nat.le_of_ble_eq_true rfl⟩ ?_
        exact ⟨_, _, _, _, _, _, _, _, _, _, rfl, rfl, hWV, Or.inl ⟨by omega, rfl, rfl⟩⟩
      · refine J_lload_n d_Mo_tree_43 rfl 2 rfl ?_
        refine J_lload d_Mo_tree_44 0 rfl ?_
        refine J_lcmp_ge (tgt := 54) d_Mo_tree_46 d_Mo_tree_47 rfl (by omega) (by omega) (fun h46_9 => ?_) (fun h46_9 => ?_)
        · refine J_aload_n d_Mo_tree_54 rfl 1 rfl ?_
          refine J_iconst d_Mo_tree_55 ?_
          refine J_callV (st := []) [Value.int (iI 1)] ms_Mo_91 rfl (c_Mo_refuse) rfl rfl ⟨Nat.le_of_ble_eq_true rfl, Nat.le_of_ble_eq_true rfl⟩ ⟨Nat.le_of_ble_eq_true rfl, Nat.le_of_ble_eq_true rfl⟩ (Nat.le_of_ble_eq_true rfl) d_Mo_tree_56 (fun v w' hp => ?_)
          obtain ⟨rfl, rfl⟩ := hp
          show J l D b Y_Mo_tree _ _ (ad, cM ad r lp 1 nr lf ln bd fd tm it true dvV ctV nuV mt xV yV td tt tc) 0 0 59 [(4, Value.long (iL (if ctV (169 * 0 + 13 * 0 + fd) = true then nuV (169 * 0 + 13 * 0 + fd) else -1))), (0, Value.ref (ad 0)), (1, Value.long (iL kk)), (3, Value.int (iI p))] [Value.int (iI 0)]
          refine J_iret rfl d_Mo_tree_59 ⟨Nat.le_of_ble_eq_true rfl, Nat.le_of_ble_eq_true rfl⟩ ?_
          exact ⟨_, _, _, _, _, _, _, _, _, _, rfl, rfl, hWV, Or.inl ⟨by omega, rfl, rfl⟩⟩
        · refine J_iload_n d_Mo_tree_50 rfl 3 rfl ?_
          refine J_if_ge (tgt := 60) d_Mo_tree_51 rfl (by omega) (fun h51_11 => ?_) (fun h51_11 => ?_)
          · obtain ⟨R9, hT9⟩ := hTR _ _ _ hWV
            have hct : ctV (169 * 0 + 13 * 0 + fd) = true := by
              apply Classical.byContradiction
              intro hn
              have : (if ctV (169 * 0 + 13 * 0 + fd) = true then nuV (169 * 0 + 13 * 0 + fd) else -1) = -1 := if_neg hn
              omega
            have hal : (if ctV (169 * 0 + 13 * 0 + fd) = true then nuV (169 * 0 + 13 * 0 + fd) else -1) = nuV (169 * 0 + 13 * 0 + fd) := if_pos hct
            have hdv := root_dv hWV.1 hWV.2 (s := 0) (i := 0) (j := fd) (by omega) (by omega) hct (by omega)
            have hR0 := (hT9 0 0 fd (by omega) (by omega) (by omega) (by omega) (by omega) hct).1
            refine J_aload_n d_Mo_tree_60 rfl 1 rfl ?_
            refine J_iconst d_Mo_tree_61 ?_
            refine J_put fs_Mo_176 rfl (Nat.le_of_ble_eq_true rfl) (fun _ h => by cases h; exact Or.inl rfl) rfl rfl uM_obj d_Mo_tree_62 ?_
            refine J_aload_n d_Mo_tree_65 rfl 1 rfl ?_
            refine J_iconst d_Mo_tree_66 ?_
            refine J_iconst d_Mo_tree_67 ?_
            refine J_aload_n d_Mo_tree_68 rfl 1 rfl ?_
            refine J_get fs_Mo_97 rfl rfl d_Mo_tree_69 ?_
            refine J_callS (st := [Value.ref (ad 0)]) [Value.int (iI 0), Value.int (iI 0), Value.int (iI fd)] ms_Mo_113 (c_Mo_node) rfl rfl ⟨Nat.le_of_ble_eq_true rfl, Nat.le_of_ble_eq_true rfl⟩ ⟨Nat.le_of_ble_eq_true rfl, Nat.le_of_ble_eq_true rfl⟩ (Nat.le_of_ble_eq_true rfl) d_Mo_tree_72 (fun v w' hp => ?_)
            obtain ⟨rfl, rfl⟩ := hp
            show J l D b Y_Mo_tree _ _ (ad, cM ad r lp 0 nr lf ln bd fd tm it true dvV ctV nuV mt xV yV td tt 0) 0 0 75 [(4, Value.long (iL (if ctV (169 * 0 + 13 * 0 + fd) = true then nuV (169 * 0 + 13 * 0 + fd) else -1))), (0, Value.ref (ad 0)), (1, Value.long (iL kk)), (3, Value.int (iI p))] [Value.int (iI (169 * 0 + 13 * 0 + fd)), Value.ref (ad 0)]
            refine J_lload_n d_Mo_tree_75 rfl 2 rfl ?_
            refine J_callV (st := []) [Value.int (iI (169 * 0 + 13 * 0 + fd)), Value.long (iL kk)] ms_Mo_179 rfl (c_Mo_come (by omega)) rfl rfl ⟨Nat.le_of_ble_eq_true rfl, Nat.le_of_ble_eq_true rfl⟩ ⟨Nat.le_of_ble_eq_true rfl, Nat.le_of_ble_eq_true rfl⟩ (Nat.le_of_ble_eq_true rfl) d_Mo_tree_76 (fun v w' hp => ?_)
            obtain ⟨rfl, rfl⟩ := hp
            show J l D b Y_Mo_tree _ _ (ad, cM ad r lp 0 nr lf ln bd fd tm it true dvV ctV nuV mt xV yV (upI td 0 (169 * 0 + 13 * 0 + fd)) (upI tt 0 kk) (0 + 1)) 0 0 79 [(4, Value.long (iL (if ctV (169 * 0 + 13 * 0 + fd) = true then nuV (169 * 0 + 13 * 0 + fd) else -1))), (0, Value.ref (ad 0)), (1, Value.long (iL kk)), (3, Value.int (iI p))] []
            refine J_iconst d_Mo_tree_79 ?_
            refine J_istore d_Mo_tree_80 (by decide) rfl ?_
            refine J.loop (σ := Int × (Int → Int) × (Int → Int) × Int × Int × Int) (fun xx_ => match xx_ with | (at', td1, tt1, tc1, x1, y1) => (0 ≤ at' ∧ at' ≤ p) ∧ (stkI td1 tt1 tc1 = (itS nr lf ln (bsM bd) tm (dvT dvV) (nuT nuV) [(0, 0, fd, kk)] at'.toNat).map mE) ∧ (SOK fd (dvT dvV) (dvT ctV) (nuT nuV) R9 (itS nr lf ln (bsM bd) tm (dvT dvV) (nuT nuV) [(0, 0, fd, kk)] at'.toNat)) ∧ (0 ≤ tc1 ∧ tc1 ≤ 200)) (fun xx_ => match xx_ with | (at', td1, tt1, tc1, x1, y1) => (p - at').toNat) (ws := fun xx_ => match xx_ with | (at', td1, tt1, tc1, x1, y1) => (ad, cM ad r lp 0 nr lf ln bd fd tm it true dvV ctV nuV mt x1 y1 td1 tt1 tc1)) (ks := fun _ => 0) (ns := fun _ => 0) (lvs := fun xx_ => match xx_ with | (at', td1, tt1, tc1, x1, y1) => [(6, Value.int (iI at')), (4, Value.long (iL (if ctV (169 * 0 + 13 * 0 + fd) = true then nuV (169 * 0 + 13 * 0 + fd) else -1))), (0, Value.ref (ad 0)), (1, Value.long (iL kk)), (3, Value.int (iI p))]) (sts := fun _ => []) ?_ (0, upI td 0 (169 * 0 + 13 * 0 + fd), upI tt 0 kk, 0 + 1, xV, yV) ?_
            · rintro ⟨at', td1, tt1, tc1, x1, y1⟩ hI ih14
              have hI : (0 ≤ at' ∧ at' ≤ p) ∧ (stkI td1 tt1 tc1 = (itS nr lf ln (bsM bd) tm (dvT dvV) (nuT nuV) [(0, 0, fd, kk)] at'.toNat).map mE) ∧ (SOK fd (dvT dvV) (dvT ctV) (nuT nuV) R9 (itS nr lf ln (bsM bd) tm (dvT dvV) (nuT nuV) [(0, 0, fd, kk)] at'.toNat)) ∧ (0 ≤ tc1 ∧ tc1 ≤ 200) := hI
              obtain ⟨hat, hL, hS, htc⟩ := hI
              show J l D b Y_Mo_tree _ _ (ad, cM ad r lp 0 nr lf ln bd fd tm it true dvV ctV nuV mt x1 y1 td1 tt1 tc1) 0 0 82 [(6, Value.int (iI at')), (4, Value.long (iL (if ctV (169 * 0 + 13 * 0 + fd) = true then nuV (169 * 0 + 13 * 0 + fd) else -1))), (0, Value.ref (ad 0)), (1, Value.long (iL kk)), (3, Value.int (iI p))] []
              refine J_aload_n d_Mo_tree_82 rfl 2 rfl ?_
              refine J_get fs_Mo_176 rfl rfl d_Mo_tree_83 ?_
              refine J_if_le (tgt := 138) d_Mo_tree_86 rfl (by omega) (fun h86_15 => ?_) (fun h86_15 => ?_)
              · refine J_aload_n d_Mo_tree_138 rfl 2 rfl ?_
                refine J_iconst d_Mo_tree_139 ?_
                refine J_callV (st := []) [Value.int (iI 1)] ms_Mo_91 rfl (c_Mo_refuse) rfl rfl ⟨Nat.le_of_ble_eq_true rfl, Nat.le_of_ble_eq_true rfl⟩ ⟨Nat.le_of_ble_eq_true rfl, Nat.le_of_ble_eq_true rfl⟩ (Nat.le_of_ble_eq_true rfl) d_Mo_tree_140 (fun v w' hp => ?_)
                obtain ⟨rfl, rfl⟩ := hp
                show J l D b Y_Mo_tree _ _ (ad, cM ad r lp 1 nr lf ln bd fd tm it true dvV ctV nuV mt x1 y1 td1 tt1 tc1) 0 0 143 [(6, Value.int (iI at')), (4, Value.long (iL (if ctV (169 * 0 + 13 * 0 + fd) = true then nuV (169 * 0 + 13 * 0 + fd) else -1))), (0, Value.ref (ad 0)), (1, Value.long (iL kk)), (3, Value.int (iI p))] [Value.int (iI 0)]
                refine J_iret rfl d_Mo_tree_143 ⟨Nat.le_of_ble_eq_true rfl, Nat.le_of_ble_eq_true rfl⟩ ?_
                refine ⟨_, _, _, _, _, _, _, _, _, _, rfl, rfl, hWV, Or.inr ⟨by omega, Or.inl ⟨?_, rfl, rfl⟩⟩⟩
                have hlen : (stkI td1 tt1 tc1).length = tc1.toNat := stk_len _
                rw [hL, List.length_map] at hlen
                have h0 : itS nr lf ln (bsM bd) tm (dvT dvV) (nuT nuV) [(0, 0, fd, kk)] at'.toNat = [] := List.eq_nil_of_length_eq_zero (by omega)
                have := itS_nil h0 (p.toNat - at'.toNat)
                rw [show at'.toNat + (p.toNat - at'.toNat) = p.toNat by omega] at this
                exact this
              · refine J_aload_n d_Mo_tree_89 rfl 2 rfl ?_
                refine J_dup d_Mo_tree_90 rfl ?_
                refine J_get fs_Mo_176 rfl rfl d_Mo_tree_91 ?_
                refine J_iconst d_Mo_tree_94 ?_
                refine J_isub d_Mo_tree_95 ?_
                refine J_put fs_Mo_176 rfl (Nat.le_of_ble_eq_true rfl) (fun _ h => by cases h; exact Or.inl rfl) rfl rfl uM_obj d_Mo_tree_96 ?_
                have hlen : (stkI td1 tt1 tc1).length = tc1.toNat := stk_len _
                rw [hL, List.length_map] at hlen
                obtain ⟨en, L9, hit⟩ : ∃ en L9, itS nr lf ln (bsM bd) tm (dvT dvV) (nuT nuV) [(0, 0, fd, kk)] at'.toNat = en :: L9 := by
                  cases h9 : itS nr lf ln (bsM bd) tm (dvT dvV) (nuT nuV) [(0, 0, fd, kk)] at'.toNat with
                  | nil => rw [h9] at hlen; simp at hlen; omega
                  | cons en L9 => exact ⟨en, L9, rfl⟩
                have hL9 := hL
                rw [hit, stk_top (by omega), List.map_cons] at hL9
                have hL9a := List.cons.inj hL9
                have ex : td1 (tc1 - 1) = 169 * en.1 + 13 * en.2.1 + en.2.2.1 := congrArg Prod.fst hL9a.1
                have et : tt1 (tc1 - 1) = en.2.2.2 := congrArg Prod.snd hL9a.1
                have hS9 := hS
                rw [hit] at hS9
                have hlenS := SOK_len hT9 hS
                obtain ⟨qq, t', hfd9, hq9, hw9, ht9, ht9', hpv9, hk9, hkl9, hst9, hru9⟩ := step_ok hg.gB hf.2 hT9 hS9
                have hg9 := hS9.1
                unfold gE at hg9
                have hvn := vN_nd (fd := fd) (s := en.1) (i := en.2.1) (j := en.2.2.1) hg9.1 (by omega)
                rw [← ex] at hvn
                have hv9 := hvn.1
                have hx1 := hvn.2.1
                have hx2 := hvn.2.2.1
                have hx3 := hvn.2.2.2
                have hTe := hT9 en.1 en.2.1 en.2.2.1 hg9.1.1 hg9.1.2 hg9.2.1.1 hg9.2.1.2.1 hg9.2.1.2.2 hg9.2.2.1
                have hnu9 := hWV.2.2.1.2
                have hok9 : okN nr lf ln bd tm dvV ctV (td1 (tc1 - 1) / 169) (td1 (tc1 - 1) % 169 / 13) (td1 (tc1 - 1) % 13) := by
                  rw [hx1, hx2, hx3]
                  exact fun q a b => (hTe.2.2.2.2.2 q a b).1
                have hps9 : ∀ q ∈ wl nr lf ln (td1 (tc1 - 1) / 169) (td1 (tc1 - 1) % 169 / 13) (td1 (tc1 - 1) % 13) 0, wayT tm (dvT dvV) ln (bsM bd) (td1 (tc1 - 1) % 169 / 13) (td1 (tc1 - 1) % 13) q = true → ∀ k, 0 ≤ k → k < ln q.1 → bd (3 * q.1 + k) < 8 → 0 < nuV (kidx ln (bsM bd) (td1 (tc1 - 1) % 169 / 13) (td1 (tc1 - 1) % 13) q k) := by
                  rw [hx1, hx2, hx3]
                  intro q a b k a1 a2 a3
                  have hko := kid_ok (k := k) hg.gB hf.2 hg9.2.1 a b (hTe.2.2.2.2.2 q a b).1 ⟨a1, a2⟩ a3
                  exact (hT9 _ _ _ hko.1.1 hko.1.2 hko.2.1.1 hko.2.1.2.1 hko.2.1.2.2 hko.2.2.1).2.2.2.1 hko.2.2.2
                have hfd8 : findL (wayT tm (dvT dvV) ln (bsM bd) (td1 (tc1 - 1) % 169 / 13) (td1 (tc1 - 1) % 13)) (pV (nuT nuV) ln (bsM bd) (td1 (tc1 - 1) % 169 / 13) (td1 (tc1 - 1) % 13)) (wl nr lf ln (td1 (tc1 - 1) / 169) (td1 (tc1 - 1) % 169 / 13) (td1 (tc1 - 1) % 13) 0) (tt1 (tc1 - 1)) = some (qq, t') := by
                  rw [hx1, hx2, hx3, et]
                  exact hfd9
                have ht8 := hg9.2.2.2.2
                have hnr8 := hTe.2.2.1
                rw [← et] at ht8
                have hqr := wl_in (fun r a b => hg.2.2.1 r a (by omega)) (by omega) hq9
                refine J_aload_n d_Mo_tree_99 rfl 2 rfl ?_
                refine J_aload_n d_Mo_tree_100 rfl 2 rfl ?_
                refine J_get fs_Mo_39 rfl rfl d_Mo_tree_101 ?_
                refine J_aload_n d_Mo_tree_104 rfl 2 rfl ?_
                refine J_get fs_Mo_176 rfl rfl d_Mo_tree_105 ?_
                refine J_iald rfl (by omega) (by decide) d_Mo_tree_108 ?_
                refine J_aload_n d_Mo_tree_109 rfl 2 rfl ?_
                refine J_get fs_Mo_42 rfl rfl d_Mo_tree_110 ?_
                refine J_aload_n d_Mo_tree_113 rfl 2 rfl ?_
                refine J_get fs_Mo_176 rfl rfl d_Mo_tree_114 ?_
                refine J_lald rfl (by omega) (by decide) d_Mo_tree_117 ?_
                refine J_callV (st := []) [Value.int (iI (td1 (tc1 - 1))), Value.long (iL (tt1 (tc1 - 1)))] ms_Mo_187 rfl (c_Mo_takeRoot hg htm (by omega) hv9 hnu9 hok9 hps9 (by omega) (by omega) hfd8) rfl rfl ⟨Nat.le_of_ble_eq_true rfl, Nat.le_of_ble_eq_true rfl⟩ ⟨Nat.le_of_ble_eq_true rfl, Nat.le_of_ble_eq_true rfl⟩ (Nat.le_of_ble_eq_true rfl) d_Mo_tree_118 (fun v w' hp => ?_)
                obtain ⟨x17, y17, td17, tt17, tc17, rfl, rfl, hS17, hl17, hu17⟩ := hp
                show J l D b Y_Mo_tree _ _ (ad, cM ad r lp 0 nr lf ln bd fd tm it true dvV ctV nuV mt x17 y17 td17 tt17 tc17) 0 0 121 [(6, Value.int (iI at')), (4, Value.long (iL (if ctV (169 * 0 + 13 * 0 + fd) = true then nuV (169 * 0 + 13 * 0 + fd) else -1))), (0, Value.ref (ad 0)), (1, Value.long (iL kk)), (3, Value.int (iI p))] [Value.int (iI qq.1)]
                have hqz := hqr
                refine J_istore d_Mo_tree_121 (by decide) rfl ?_
                refine J_iload d_Mo_tree_123 1 rfl ?_
                refine J_iload_n d_Mo_tree_125 rfl 5 rfl ?_
                refine J_icmp_ne (tgt := 132) d_Mo_tree_126 rfl (by omega) (by omega) (fun h126_18 => ?_) (fun h126_18 => ?_)
                · refine J_iinc (j := 1) d_Mo_tree_132 rfl (by decide) rfl ?_
                  refine J_goto (tgt := 82) d_Mo_tree_135 rfl ?_
                  refine J.sub [0, 2, 3, 4, 5] rfl ?_
                  exact ih14 (at' + 1, td17, tt17, tc17, x17, y17) (show (0 ≤ (at' + 1) ∧ (at' + 1) ≤ p) ∧ (stkI td17 tt17 tc17 = (itS nr lf ln (bsM bd) tm (dvT dvV) (nuT nuV) [(0, 0, fd, kk)] (at' + 1).toNat).map mE) ∧ (SOK fd (dvT dvV) (dvT ctV) (nuT nuV) R9 (itS nr lf ln (bsM bd) tm (dvT dvV) (nuT nuV) [(0, 0, fd, kk)] (at' + 1).toNat)) ∧ (0 ≤ tc17 ∧ tc17 ≤ 200) by
                      have hS8 := ‹stkI _ _ _ = _ ++ stkI td1 tt1 (tc1 - 1)›
                      rw [hx2, hx3, hL9a.2] at hS8
                      have e8 : itS nr lf ln (bsM bd) tm (dvT dvV) (nuT nuV) [(0, 0, fd, kk)] (at' + 1).toNat = kidsL (nuT nuV) ln (bsM bd) en.2.1 en.2.2.1 qq t' ++ L9 := by
                        rw [show (at' + 1).toNat = at'.toNat + 1 by omega]
                        show stepS _ _ _ _ _ _ _ (itS nr lf ln (bsM bd) tm (dvT dvV) (nuT nuV) [(0, 0, fd, kk)] at'.toNat) = _
                        rw [hit, hst9]
                      refine ⟨by omega, ?_, ?_, by omega⟩
                      · rw [e8, hS8, List.map_append]
                      · rw [e8]
                        exact hk9) (show ((p - (at' + 1)).toNat) < ((p - at').toNat) by
                      omega)
                · refine J_iload d_Mo_tree_129 0 rfl ?_
                  refine J_iret rfl d_Mo_tree_131 ⟨Nat.le_of_ble_eq_true rfl, Nat.le_of_ble_eq_true rfl⟩ ?_
                  refine ⟨_, _, _, _, _, _, _, _, _, _, rfl, rfl, hWV, Or.inr ⟨by omega, Or.inr ⟨?_, ?_, rfl⟩⟩⟩
                  · rw [show p = at' by omega, hit]
                    exact fun h => by cases h
                  · rw [show p = at' by omega, hit, hru9]
            · show (0 ≤ (0 : Int) ∧ (0 : Int) ≤ p) ∧ (stkI (upI td 0 (169 * 0 + 13 * 0 + fd)) (upI tt 0 kk) (0 + 1) = (itS nr lf ln (bsM bd) tm (dvT dvV) (nuT nuV) [(0, 0, fd, kk)] (0 : Int).toNat).map mE) ∧ (SOK fd (dvT dvV) (dvT ctV) (nuT nuV) R9 (itS nr lf ln (bsM bd) tm (dvT dvV) (nuT nuV) [(0, 0, fd, kk)] (0 : Int).toNat)) ∧ (0 ≤ (0 + 1) ∧ (0 + 1) ≤ 200)
              refine ⟨by omega, ?_, ?_, by omega⟩
              · rw [stk_push (by omega)]
                rfl
              · exact ⟨⟨by show (0:Int) ≤ 0 ∧ (0:Int) ≤ 4; omega, by show (0:Int) ≤ 0 ∧ 0 ≤ fd ∧ fd ≤ fd; omega, hct, hdv, by show 0 ≤ kk; omega, by show kk < nuV (169 * 0 + 13 * 0 + fd); omega⟩, by show ((0 : Nat) : Int) + 2 * R9 0 0 fd ≤ 154; omega, trivial⟩
          · refine J_aload_n d_Mo_tree_54 rfl 1 rfl ?_
            refine J_iconst d_Mo_tree_55 ?_
            refine J_callV (st := []) [Value.int (iI 1)] ms_Mo_91 rfl (c_Mo_refuse) rfl rfl ⟨Nat.le_of_ble_eq_true rfl, Nat.le_of_ble_eq_true rfl⟩ ⟨Nat.le_of_ble_eq_true rfl, Nat.le_of_ble_eq_true rfl⟩ (Nat.le_of_ble_eq_true rfl) d_Mo_tree_56 (fun v w' hp => ?_)
            obtain ⟨rfl, rfl⟩ := hp
            show J l D b Y_Mo_tree _ _ (ad, cM ad r lp 1 nr lf ln bd fd tm it true dvV ctV nuV mt xV yV td tt tc) 0 0 59 [(4, Value.long (iL (if ctV (169 * 0 + 13 * 0 + fd) = true then nuV (169 * 0 + 13 * 0 + fd) else -1))), (0, Value.ref (ad 0)), (1, Value.long (iL kk)), (3, Value.int (iI p))] [Value.int (iI 0)]
            refine J_iret rfl d_Mo_tree_59 ⟨Nat.le_of_ble_eq_true rfl, Nat.le_of_ble_eq_true rfl⟩ ?_
            exact ⟨_, _, _, _, _, _, _, _, _, _, rfl, rfl, hWV, Or.inl ⟨by omega, rfl, rfl⟩⟩
end M11
