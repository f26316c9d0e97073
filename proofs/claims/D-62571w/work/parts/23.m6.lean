section JZ
variable {l : Launch} {D : jD} {b : Nat} {Y : jM} {R : Room} {post : Option Value → jW → Prop} {w : jW} {k n pc : Nat} {lv : List (Nat × Value)} {st : List Value}
/-- an array's contents matter within its bounds alone -/
theorem J.cell {i t nn : Nat} {f g : Int → Value} {c' : Nat → Option jE} (hc : w.2 i = some (.inl (t, nn, f))) (hfg : ∀ j, 0 ≤ j → j < (nn : Int) → f j = g j) (hw : va_up w.2 i (some (.inl (t, nn, g))) = c') (kk : J l D b Y R post (w.1, c') k n pc lv st) : J l D b Y R post w k n pc lv st := by
  intro p e s m args below meth c B K H locs ls hH hS hl
  have hat := (hH.1 i _ hc).2
  have e1 : arrV (D.2.2.1 t) nn (fun j => f (j : Int)) = arrV (D.2.2.1 t) nn (fun j => g (j : Int)) := by
    unfold arrV
    congr 2
    funext j
    exact hfg j.val (by omega) (by have := j.isLt; omega)
  have hnew : jAt D (w.1 i) (.inl (t, nn, g)) H := ⟨hat.1, by rw [hat.2, e1]⟩
  have hH2 := hH.set hc hnew (fun _ _ => rfl)
  rw [hw] at hH2
  exact kk p e s m args below meth c B K H locs ls hH2 hS hl
end JZ
theorem sfx_len {n i j : Int} (hn : n < 2 ∨ n = 2 ∨ n = 3) : ∀ (m : Nat) (c1 c2 : Int), (j - c1).toNat * 20 + (j - c2).toNat ≤ m → i ≤ c1 ∧ c1 ≤ c2 ∧ c2 ≤ j → j ≤ i + 12 → (sfx n j c1 c2).length ≤ m + 1 := by
  intro m
  induction m with
  | zero =>
    intro c1 c2 hm hc hj
    rw [sfx_eq, if_neg (by omega), if_pos (by omega)]
    exact Nat.le_refl _
  | succ m ih =>
    intro c1 c2 hm hc hj
    rw [sfx_eq, List.length_cons]
    split
    · have := ih c1 (c2 + 1) (by omega) (by omega) hj
      omega
    · split
      · simp
      · have := ih (c1 + 1) (c1 + 1) (by omega) (by omega) hj
        omega
theorem nWays_le {f : Int × Int → Bool} : ∀ l : List (Int × Int), nWays f l ≤ l.length
  | [] => Int.le_refl _
  | p :: l => by
    have := nWays_le (f := f) l
    rw [nWays_cons, List.length_cons]
    split <;> omega
theorem nWays_sfx {f : Int × Int → Bool} {n i j : Int} (hn : 0 ≤ n ∧ n ≤ 3) (hij : 0 ≤ i ∧ i ≤ j ∧ j ≤ 12) : 0 ≤ nWays f (sfx n j i i) ∧ nWays f (sfx n j i i) ≤ 300 := by
  have h1 := (nWays_pos (f := f) (sfx n j i i)).1
  have h2 := nWays_le (f := f) (sfx n j i i)
  have h3 := sfx_len (n := n) (i := i) (j := j) (by omega) 252 i i (by omega) (by omega) (by omega)
  omega
theorem cst_In_265 : Cond.constant "java/lang/Integer" 265 (1431655765) ∈ tb := tb_in (List.mem_of_getElem? (i := 406) (by decide +kernel)) rfl
theorem cst_In_266 : Cond.constant "java/lang/Integer" 266 (858993459) ∈ tb := tb_in (List.mem_of_getElem? (i := 407) (by decide +kernel)) rfl
theorem cst_In_267 : Cond.constant "java/lang/Integer" 267 (252645135) ∈ tb := tb_in (List.mem_of_getElem? (i := 408) (by decide +kernel)) rfl
theorem cst_CF_199 : Cond.constantLong "ChartForest" 199 (-1) ∈ tb := tb_in (List.mem_of_getElem? (i := 579) (by decide +kernel)) rfl
theorem cst_CF_201 : Cond.constant "ChartForest" 201 (1073741824) ∈ tb := tb_in (List.mem_of_getElem? (i := 580) (by decide +kernel)) rfl
theorem cst_CF_202 : Cond.constantLong "ChartForest" 202 (1000000000000) ∈ tb := tb_in (List.mem_of_getElem? (i := 589) (by decide +kernel)) rfl
theorem cst_Mo_145 : Cond.constantLong "ChartForestModel" 145 (-1) ∈ tb := tb_in (List.mem_of_getElem? (i := 917) (by decide +kernel)) rfl
theorem cst_Mo_143 : Cond.constantLong "ChartForestModel" 143 (1000000000000) ∈ tb := tb_in (List.mem_of_getElem? (i := 929) (by decide +kernel)) rfl
theorem cst_La_111 : Cond.constantLong "ChartForestLaw" 111 (4294967295) ∈ tb := tb_in (List.mem_of_getElem? (i := 966) (by decide +kernel)) rfl
section M6
variable {l : Launch} {D : jD} {b : Nat} {w : jW} {ad : Nat → Nat} {r : Nat → Option jE} {lp : Bool} {rf : Int} {nr : Int} {lf : Int → Int} {ln : Int → Int} {bd : Int → Int} {fd : Int} {tm : Int → Int} {it : Int → Bool} {wk : Bool} {dv : Int → Bool} {ct : Int → Bool} {nu : Int → Int} {mt : Int → Bool} {c1 : Int} {c2 : Int} {td : Int → Int} {tt : Int → Int} {tc : Int}
set_option maxHeartbeats 4000000 in
theorem c_Mo_findDerived  (hg : gOK nr lf ln bd) (htm : ∀ x, 0 ≤ x → x < 12 → -2147483648 ≤ tm x ∧ tm x ≤ 2147483647) (hf : 0 ≤ fd ∧ fd ≤ 12) : Ct l D b Y_Mo_findDerived { frames := 4, cells := 0, slots := 0, locals := 97 } [Value.ref (ad 0)] (ad, cM ad r lp rf nr lf ln bd fd tm it wk dv ct nu mt c1 c2 td tt tc) (fun v w' => v = none ∧ ∃ dv' d1 d2, w' = (ad, cM ad r lp rf nr lf ln bd fd tm it wk dv' ct nu mt d1 d2 td tt tc) ∧ DerL nr lf ln bd tm fd dv') := by
  refine Ct_of (by decide) (Nat.le_of_ble_eq_true rfl) ?_
  have hg1 := hg.1
  show J l D b Y_Mo_findDerived _ _ (ad, cM ad r lp rf nr lf ln bd fd tm it wk dv ct nu mt c1 c2 td tt tc) 0 0 0 [(0, Value.ref (ad 0))] []
  refine J_iconst d_Mo_findDerived_0 ?_
  refine J_istore_n d_Mo_findDerived_1 rfl (by decide) rfl ?_
  refine J.loop (σ := Int × (Int → Bool)) (fun xx_ => match xx_ with | (k, dv0) => (0 ≤ k ∧ k ≤ 845) ∧ (dv0 = clr0 dv k)) (fun xx_ => match xx_ with | (k, dv0) => (845 - k).toNat) (ws := fun xx_ => match xx_ with | (k, dv0) => (ad, cM ad r lp rf nr lf ln bd fd tm it wk dv0 ct nu mt c1 c2 td tt tc)) (ks := fun _ => 0) (ns := fun _ => 0) (lvs := fun xx_ => match xx_ with | (k, dv0) => [(1, Value.int (iI k)), (0, Value.ref (ad 0))]) (sts := fun _ => []) ?_ (0, dv) ?_
  · rintro ⟨k, dv0⟩ hI ih1
    have hI : (0 ≤ k ∧ k ≤ 845) ∧ (dv0 = clr0 dv k) := hI
    obtain ⟨hk, hc0⟩ := hI
    show J l D b Y_Mo_findDerived _ _ (ad, cM ad r lp rf nr lf ln bd fd tm it wk dv0 ct nu mt c1 c2 td tt tc) 0 0 2 [(1, Value.int (iI k)), (0, Value.ref (ad 0))] []
    refine J_iload_n d_Mo_findDerived_2 rfl 0 rfl ?_
    refine J_sipush d_Mo_findDerived_3 (by decide) ?_
    refine J_icmp_ge (tgt := 22) d_Mo_findDerived_6 rfl (by omega) (by omega) (fun h6_2 => ?_) (fun h6_2 => ?_)
    · have hk845 : k = 845 := by omega
      refine J.cell (i := 6) (g := fun j => Value.int (iI (bz ((fun _ => false) j)))) rfl (fun j a1 a2 => by rw [hc0, hk845]; unfold clr0; rw [if_pos (by omega)]) uM_dv ?_
      refine J_iconst d_Mo_findDerived_22 ?_
      refine J_istore_n d_Mo_findDerived_23 rfl (by decide) rfl ?_
      refine J.loop (σ := Bool × (Int → Bool) × Int × Int) (fun xx_ => match xx_ with | (mo, dv1, x1, y1) => (DSn nr lf ln bd tm fd dv1) ∧ (mo = false → DCl nr lf ln bd tm fd dv1)) (fun xx_ => match xx_ with | (mo, dv1, x1, y1) => (845 - cnt dv1 845).toNat + (if mo = true then 1 else 0)) (ws := fun xx_ => match xx_ with | (mo, dv1, x1, y1) => (ad, cM ad r lp rf nr lf ln bd fd tm it wk dv1 ct nu mt x1 y1 td tt tc)) (ks := fun _ => 0) (ns := fun _ => 0) (lvs := fun xx_ => match xx_ with | (mo, dv1, x1, y1) => [(1, Value.int (iI (bz mo))), (0, Value.ref (ad 0))]) (sts := fun _ => []) ?_ (true, (fun _ => false), c1, c2) ?_
      · rintro ⟨mo, dv1, x1, y1⟩ hI ih3
        have hI : (DSn nr lf ln bd tm fd dv1) ∧ (mo = false → DCl nr lf ln bd tm fd dv1) := hI
        obtain ⟨hS, hC⟩ := hI
        show J l D b Y_Mo_findDerived _ _ (ad, cM ad r lp rf nr lf ln bd fd tm it wk dv1 ct nu mt x1 y1 td tt tc) 0 0 24 [(1, Value.int (iI (bz mo))), (0, Value.ref (ad 0))] []
        refine J_iload_n d_Mo_findDerived_24 rfl 0 rfl ?_
        refine J_ifB_eq (tgt := 128) d_Mo_findDerived_25 rfl (fun h25_4 => ?_) (fun h25_4 => ?_)
        · refine J_vret rfl d_Mo_findDerived_128 ⟨Nat.le_of_ble_eq_true rfl, Nat.le_of_ble_eq_true rfl⟩ ?_
          exact ⟨rfl, _, _, _, rfl, hC ‹_›, hS⟩
        · refine J_iconst d_Mo_findDerived_28 ?_
          refine J_istore_n d_Mo_findDerived_29 rfl (by decide) rfl ?_
          refine J_iconst d_Mo_findDerived_30 ?_
          refine J_istore_n d_Mo_findDerived_31 rfl (by decide) rfl ?_
          refine J.loop (σ := Int × Bool × (Int → Bool) × Int × Int) (fun xx_ => match xx_ with | (r', mo2, dv2, x2, y2) => (0 ≤ r' ∧ r' ≤ nr) ∧ (PD nr lf ln bd tm fd dv1 dv2 mo2 r' 0 0)) (fun xx_ => match xx_ with | (r', mo2, dv2, x2, y2) => (nr - r').toNat) (ws := fun xx_ => match xx_ with | (r', mo2, dv2, x2, y2) => (ad, cM ad r lp rf nr lf ln bd fd tm it wk dv2 ct nu mt x2 y2 td tt tc)) (ks := fun _ => 0) (ns := fun _ => 0) (lvs := fun xx_ => match xx_ with | (r', mo2, dv2, x2, y2) => [(2, Value.int (iI r')), (1, Value.int (iI (bz mo2))), (0, Value.ref (ad 0))]) (sts := fun _ => []) ?_ (0, false, dv1, x1, y1) ?_
          · rintro ⟨r', mo2, dv2, x2, y2⟩ hI ih5
            have hI : (0 ≤ r' ∧ r' ≤ nr) ∧ (PD nr lf ln bd tm fd dv1 dv2 mo2 r' 0 0) := hI
            obtain ⟨hr, hP2⟩ := hI
            show J l D b Y_Mo_findDerived _ _ (ad, cM ad r lp rf nr lf ln bd fd tm it wk dv2 ct nu mt x2 y2 td tt tc) 0 0 32 [(2, Value.int (iI r')), (1, Value.int (iI (bz mo2))), (0, Value.ref (ad 0))] []
            refine J_iload_n d_Mo_findDerived_32 rfl 0 rfl ?_
            refine J_aload_n d_Mo_findDerived_33 rfl 2 rfl ?_
            refine J_get fs_Mo_73 rfl rfl d_Mo_findDerived_34 ?_
            refine J_icmp_ge (tgt := 125) d_Mo_findDerived_37 rfl (by omega) (by omega) (fun h37_6 => ?_) (fun h37_6 => ?_)
            · refine J_goto (tgt := 24) d_Mo_findDerived_125 rfl ?_
              refine J.sub [1, 2] rfl ?_
              exact ih3 (mo2, dv2, x2, y2) (show (DSn nr lf ln bd tm fd dv2) ∧ (mo2 = false → DCl nr lf ln bd tm fd dv2) by
                  exact ⟨hP2.2.1, fun h => pd_cl hP2 (by omega) h⟩) (show (845 - cnt dv2 845).toNat + (if mo2 = true then 1 else 0) < (845 - cnt dv1 845).toNat + (if mo = true then 1 else 0) by
                  rw [show mo = true by assumption]
                  exact pd_mu hP2)
            · refine J_iconst d_Mo_findDerived_40 ?_
              refine J_istore_n d_Mo_findDerived_41 rfl (by decide) rfl ?_
              refine J.loop (σ := Int × Bool × (Int → Bool) × Int × Int) (fun xx_ => match xx_ with | (i, mo3, dv3, x3, y3) => (0 ≤ i ∧ i ≤ fd + 1) ∧ (PD nr lf ln bd tm fd dv1 dv3 mo3 r' i i)) (fun xx_ => match xx_ with | (i, mo3, dv3, x3, y3) => (fd + 1 - i).toNat) (ws := fun xx_ => match xx_ with | (i, mo3, dv3, x3, y3) => (ad, cM ad r lp rf nr lf ln bd fd tm it wk dv3 ct nu mt x3 y3 td tt tc)) (ks := fun _ => 0) (ns := fun _ => 0) (lvs := fun xx_ => match xx_ with | (i, mo3, dv3, x3, y3) => [(3, Value.int (iI i)), (2, Value.int (iI r')), (1, Value.int (iI (bz mo3))), (0, Value.ref (ad 0))]) (sts := fun _ => []) ?_ (0, mo2, dv2, x2, y2) ?_
              · rintro ⟨i, mo3, dv3, x3, y3⟩ hI ih7
                have hI : (0 ≤ i ∧ i ≤ fd + 1) ∧ (PD nr lf ln bd tm fd dv1 dv3 mo3 r' i i) := hI
                obtain ⟨hi, hP3⟩ := hI
                show J l D b Y_Mo_findDerived _ _ (ad, cM ad r lp rf nr lf ln bd fd tm it wk dv3 ct nu mt x3 y3 td tt tc) 0 0 42 [(3, Value.int (iI i)), (2, Value.int (iI r')), (1, Value.int (iI (bz mo3))), (0, Value.ref (ad 0))] []
                refine J_iload_n d_Mo_findDerived_42 rfl 0 rfl ?_
                refine J_aload_n d_Mo_findDerived_43 rfl 3 rfl ?_
                refine J_get fs_Mo_97 rfl rfl d_Mo_findDerived_44 ?_
                refine J_icmp_gt (tgt := 119) d_Mo_findDerived_47 rfl (by omega) (by omega) (fun h47_8 => ?_) (fun h47_8 => ?_)
                · refine J_iinc (j := 1) d_Mo_findDerived_119 rfl (by decide) rfl ?_
                  refine J_goto (tgt := 32) d_Mo_findDerived_122 rfl ?_
                  refine J.sub [0, 2, 3] rfl ?_
                  exact ih5 (r' + 1, mo3, dv3, x3, y3) (show (0 ≤ (r' + 1) ∧ (r' + 1) ≤ nr) ∧ (PD nr lf ln bd tm fd dv1 dv3 mo3 (r' + 1) 0 0) by
                      exact ⟨by omega, pd_move hP3 (by omega)⟩) (show (nr - (r' + 1)).toNat < (nr - r').toNat by
                      omega)
                · refine J_iload_n d_Mo_findDerived_50 rfl 0 rfl ?_
                  refine J_istore d_Mo_findDerived_51 (by decide) rfl ?_
                  refine J.loop (σ := Int × Bool × (Int → Bool) × Int × Int) (fun xx_ => match xx_ with | (j, mo4, dv4, x4, y4) => (i ≤ j ∧ j ≤ fd + 1) ∧ (PD nr lf ln bd tm fd dv1 dv4 mo4 r' i j)) (fun xx_ => match xx_ with | (j, mo4, dv4, x4, y4) => (fd + 1 - j).toNat) (ws := fun xx_ => match xx_ with | (j, mo4, dv4, x4, y4) => (ad, cM ad r lp rf nr lf ln bd fd tm it wk dv4 ct nu mt x4 y4 td tt tc)) (ks := fun _ => 0) (ns := fun _ => 0) (lvs := fun xx_ => match xx_ with | (j, mo4, dv4, x4, y4) => [(4, Value.int (iI j)), (3, Value.int (iI i)), (2, Value.int (iI r')), (1, Value.int (iI (bz mo4))), (0, Value.ref (ad 0))]) (sts := fun _ => []) ?_ (i, mo3, dv3, x3, y3) ?_
                  · rintro ⟨j, mo4, dv4, x4, y4⟩ hI ih9
                    have hI : (i ≤ j ∧ j ≤ fd + 1) ∧ (PD nr lf ln bd tm fd dv1 dv4 mo4 r' i j) := hI
                    obtain ⟨hj, hP⟩ := hI
                    show J l D b Y_Mo_findDerived _ _ (ad, cM ad r lp rf nr lf ln bd fd tm it wk dv4 ct nu mt x4 y4 td tt tc) 0 0 53 [(4, Value.int (iI j)), (3, Value.int (iI i)), (2, Value.int (iI r')), (1, Value.int (iI (bz mo4))), (0, Value.ref (ad 0))] []
                    refine J_iload d_Mo_findDerived_53 0 rfl ?_
                    refine J_aload_n d_Mo_findDerived_55 rfl 4 rfl ?_
                    refine J_get fs_Mo_97 rfl rfl d_Mo_findDerived_56 ?_
                    refine J_icmp_gt (tgt := 113) d_Mo_findDerived_59 rfl (by omega) (by omega) (fun h59_10 => ?_) (fun h59_10 => ?_)
                    · refine J_iinc (j := 1) d_Mo_findDerived_113 rfl (by decide) rfl ?_
                      refine J_goto (tgt := 42) d_Mo_findDerived_116 rfl ?_
                      refine J.sub [0, 2, 3, 4] rfl ?_
                      exact ih7 (i + 1, mo4, dv4, x4, y4) (show (0 ≤ (i + 1) ∧ (i + 1) ≤ fd + 1) ∧ (PD nr lf ln bd tm fd dv1 dv4 mo4 r' (i + 1) (i + 1)) by
                          exact ⟨by omega, pd_move hP (by omega)⟩) (show (fd + 1 - (i + 1)).toNat < (fd + 1 - i).toNat by
                          omega)
                    · refine J_aload_n d_Mo_findDerived_62 rfl 4 rfl ?_
                      refine J_get fs_Mo_7 rfl rfl d_Mo_findDerived_63 ?_
                      refine J_iload_n d_Mo_findDerived_66 rfl 2 rfl ?_
                      refine J_iald rfl (by omega) (by decide) d_Mo_findDerived_67 ?_
                      have hlr := hg.2.1 r' (by omega) (by omega)
                      refine J_iload_n d_Mo_findDerived_68 rfl 1 rfl ?_
                      refine J_iload d_Mo_findDerived_69 0 rfl ?_
                      refine J_callS (st := []) [Value.int (iI (lf r')), Value.int (iI i), Value.int (iI j)] ms_Mo_113 (c_Mo_node) rfl rfl ⟨Nat.le_of_ble_eq_true rfl, Nat.le_of_ble_eq_true rfl⟩ ⟨Nat.le_of_ble_eq_true rfl, Nat.le_of_ble_eq_true rfl⟩ (Nat.le_of_ble_eq_true rfl) d_Mo_findDerived_71 (fun v w' hp => ?_)
                      obtain ⟨rfl, rfl⟩ := hp
                      show J l D b Y_Mo_findDerived _ _ (ad, cM ad r lp rf nr lf ln bd fd tm it wk dv4 ct nu mt x4 y4 td tt tc) 0 0 74 [(4, Value.int (iI j)), (3, Value.int (iI i)), (2, Value.int (iI r')), (1, Value.int (iI (bz mo4))), (0, Value.ref (ad 0))] [Value.int (iI (169 * (lf r') + 13 * i + j))]
                      refine J_istore d_Mo_findDerived_74 (by decide) rfl ?_
                      have hlr2 := hg.2.1 r' (by omega) (by omega)
                      refine J_aload_n d_Mo_findDerived_76 rfl 5 rfl ?_
                      refine J_get fs_Mo_26 rfl rfl d_Mo_findDerived_77 ?_
                      refine J_iload d_Mo_findDerived_80 0 rfl ?_
                      refine J_zald rfl (by omega) (by decide) d_Mo_findDerived_82 ?_
                      refine J_ifB_ne (tgt := 107) d_Mo_findDerived_83 rfl (fun h83_12 => ?_) (fun h83_12 => ?_)
                      · refine J_iinc (j := 1) d_Mo_findDerived_107 rfl (by decide) rfl ?_
                        refine J_goto (tgt := 53) d_Mo_findDerived_110 rfl ?_
                        refine J.sub [0, 2, 3, 4, 5] rfl ?_
                        exact ih9 (j + 1, mo4, dv4, x4, y4) (show (i ≤ (j + 1) ∧ (j + 1) ≤ fd + 1) ∧ (PD nr lf ln bd tm fd dv1 dv4 mo4 r' i (j + 1)) by
                            exact ⟨by omega, pd_skip hP (by first | exact Or.inl ‹_› | exact Or.inr (fun hw => by have := (nWays_pos _).2.mpr hw; omega))⟩) (show (fd + 1 - (j + 1)).toNat < (fd + 1 - j).toNat by
                            omega)
                      · refine J_aload_n d_Mo_findDerived_86 rfl 5 rfl ?_
                        refine J_iload_n d_Mo_findDerived_87 rfl 3 rfl ?_
                        refine J_iload_n d_Mo_findDerived_88 rfl 2 rfl ?_
                        refine J_iload d_Mo_findDerived_89 1 rfl ?_
                        refine J_callV (st := []) [Value.int (iI r'), Value.int (iI i), Value.int (iI j)] ms_Mo_140 rfl (c_Mo_waysBy hg htm (by omega) (by omega)) rfl rfl ⟨Nat.le_of_ble_eq_true rfl, Nat.le_of_ble_eq_true rfl⟩ ⟨Nat.le_of_ble_eq_true rfl, Nat.le_of_ble_eq_true rfl⟩ (Nat.le_of_ble_eq_true rfl) d_Mo_findDerived_91 (fun v w' hp => ?_)
                        obtain ⟨x13, y13, rfl, rfl⟩ := hp
                        show J l D b Y_Mo_findDerived _ _ (ad, cM ad r lp rf nr lf ln bd fd tm it wk dv4 ct nu mt x13 y13 td tt tc) 0 0 94 [(5, Value.int (iI (169 * (lf r') + 13 * i + j))), (4, Value.int (iI j)), (3, Value.int (iI i)), (2, Value.int (iI r')), (1, Value.int (iI (bz mo4))), (0, Value.ref (ad 0))] [Value.int (iI (nWays (fun p => wayB tm (dvT dv4) (ln r') (bsM bd r') p.1 p.2 i j) (sfx (ln r') j i i)))]
                        have hw13 := nWays_sfx (f := fun p => wayB tm (dvT dv4) (ln r') (bsM bd r') p.1 p.2 i j) (hg.2.2.1 r' (by omega) (by omega)) (i := i) (j := j) (by omega)
                        refine J_if_le (tgt := 107) d_Mo_findDerived_94 rfl (by omega) (fun h94_14 => ?_) (fun h94_14 => ?_)
                        · refine J_iinc (j := 1) d_Mo_findDerived_107 rfl (by decide) rfl ?_
                          refine J_goto (tgt := 53) d_Mo_findDerived_110 rfl ?_
                          refine J.sub [0, 2, 3, 4, 5] rfl ?_
                          exact ih9 (j + 1, mo4, dv4, x13, y13) (show (i ≤ (j + 1) ∧ (j + 1) ≤ fd + 1) ∧ (PD nr lf ln bd tm fd dv1 dv4 mo4 r' i (j + 1)) by
                              exact ⟨by omega, pd_skip hP (by first | exact Or.inl ‹_› | exact Or.inr (fun hw => by have := (nWays_pos _).2.mpr hw; omega))⟩) (show (fd + 1 - (j + 1)).toNat < (fd + 1 - j).toNat by
                              omega)
                        · refine J_aload_n d_Mo_findDerived_97 rfl 5 rfl ?_
                          refine J_get fs_Mo_26 rfl rfl d_Mo_findDerived_98 ?_
                          refine J_iload d_Mo_findDerived_101 0 rfl ?_
                          refine J_iconst d_Mo_findDerived_103 ?_
                          refine J.top (show Value.int (iI 1) = Value.int (iI (bz true)) from rfl) ?_
                          refine J_zast rfl (by omega) (by decide) uM_dv d_Mo_findDerived_104 ?_
                          refine J_iconst d_Mo_findDerived_105 ?_
                          refine J_istore_n d_Mo_findDerived_106 rfl (by decide) rfl ?_
                          refine J_iinc (j := 2) d_Mo_findDerived_107 rfl (by decide) rfl ?_
                          refine J_goto (tgt := 53) d_Mo_findDerived_110 rfl ?_
                          refine J.sub [0, 3, 4, 1, 5] rfl ?_
                          exact ih9 (j + 1, true, upI dv4 (169 * (lf r') + 13 * i + j) true, x13, y13) (show (i ≤ (j + 1) ∧ (j + 1) ≤ fd + 1) ∧ (PD nr lf ln bd tm fd dv1 (upI dv4 (169 * (lf r') + 13 * i + j) true) true r' i (j + 1)) by
                              exact ⟨by omega, pd_set hP hg (by omega) (by omega) ‹_› ((nWays_pos _).2.mp (by omega))⟩) (show (fd + 1 - (j + 1)).toNat < (fd + 1 - j).toNat by
                              omega)
                  · show (i ≤ i ∧ i ≤ fd + 1) ∧ (PD nr lf ln bd tm fd dv1 dv3 mo3 r' i i)
                    exact ⟨by omega, hP3⟩
              · show (0 ≤ (0 : Int) ∧ (0 : Int) ≤ fd + 1) ∧ (PD nr lf ln bd tm fd dv1 dv2 mo2 r' (0 : Int) (0 : Int))
                exact ⟨by omega, pd_move hP2 (by omega)⟩
          · show (0 ≤ (0 : Int) ∧ (0 : Int) ≤ nr) ∧ (PD nr lf ln bd tm fd dv1 dv1 false (0 : Int) 0 0)
            exact ⟨by omega, pd_0 hS⟩
      · show (DSn nr lf ln bd tm fd (fun _ => false)) ∧ (true = false → DCl nr lf ln bd tm fd (fun _ => false))
        exact ⟨(fun T _ k h => by cases h), (fun h => by cases h)⟩
    · refine J_aload_n d_Mo_findDerived_9 rfl 1 rfl ?_
      refine J_get fs_Mo_26 rfl rfl d_Mo_findDerived_10 ?_
      refine J_iload_n d_Mo_findDerived_13 rfl 0 rfl ?_
      refine J_iconst d_Mo_findDerived_14 ?_
      refine J.top (show Value.int (iI 0) = Value.int (iI (bz false)) from rfl) ?_
      refine J_zast rfl (by omega) (by decide) uM_dv d_Mo_findDerived_15 ?_
      refine J_iinc (j := 0) d_Mo_findDerived_16 rfl (by decide) rfl ?_
      refine J_goto (tgt := 2) d_Mo_findDerived_19 rfl ?_
      exact ih1 (k + 1, upI dv0 k false) (show (0 ≤ (k + 1) ∧ (k + 1) ≤ 845) ∧ ((upI dv0 k false) = clr0 dv (k + 1)) by
          exact ⟨by omega, by rw [hc0, clr0_s (by omega)]⟩) (show (845 - (k + 1)).toNat < (845 - k).toNat by
          omega)
  · show (0 ≤ (0 : Int) ∧ (0 : Int) ≤ 845) ∧ (dv = clr0 dv (0 : Int))
    exact ⟨by omega, (clr0_0 _).symm⟩
set_option maxHeartbeats 4000000 in
theorem c_Mo_times {a : Int} {e : Int} (ha : 0 ≤ a ∧ a ≤ 1000000000000) (he : 0 ≤ e ∧ e ≤ 1000000000000) : Ct l D b Y_Mo_times { frames := 0, cells := 0, slots := 0, locals := 0 } [Value.long (iL a), Value.long (iL e)] w (fun v w' => v = some (.long (iL (cp a e))) ∧ w' = w) := by
  refine Ct_of (by decide) (Nat.le_of_ble_eq_true rfl) ?_
  show J l D b Y_Mo_times _ _ w 0 0 0 [(0, Value.long (iL a)), (2, Value.long (iL e))] []
  refine J_lload_n d_Mo_times_0 rfl 0 rfl ?_
  refine J_lconst (z := 0) d_Mo_times_1 rfl ?_
  refine J_lcmp_eq (tgt := 12) d_Mo_times_2 d_Mo_times_3 rfl (by omega) (by omega) (fun h2_1 => ?_) (fun h2_1 => ?_)
  · refine J_lconst (z := 0) d_Mo_times_12 rfl ?_
    refine J_lret rfl d_Mo_times_13 ⟨Nat.le_of_ble_eq_true rfl, Nat.le_of_ble_eq_true rfl⟩ ?_
    exact ⟨by rw [cp_zero (by omega)], rfl⟩
  · refine J_lload_n d_Mo_times_6 rfl 1 rfl ?_
    refine J_lconst (z := 0) d_Mo_times_7 rfl ?_
    refine J_lcmp_ne (tgt := 14) d_Mo_times_8 d_Mo_times_9 rfl (by omega) (by omega) (fun h8_2 => ?_) (fun h8_2 => ?_)
    · refine J_lload_n d_Mo_times_14 rfl 1 rfl ?_
      refine J_ldc2 (z := 1000000000000) d_Mo_times_15 cst_Mo_143 rfl ?_
      refine J_lload_n d_Mo_times_18 rfl 0 rfl ?_
      refine J_ladd d_Mo_times_19 ?_
      refine J_lconst (z := 1) d_Mo_times_20 rfl ?_
      refine J_lsub d_Mo_times_21 ?_
      refine J_lload_n d_Mo_times_22 rfl 0 rfl ?_
      refine J_ldiv d_Mo_times_23 (by omega) (by omega) ?_
      have hq0 := Int.ediv_nonneg (a := 1000000000000 + a - 1) (b := a) (by omega) (by omega)
      have hq1 := Int.ediv_le_self (a := 1000000000000 + a - 1) a (by omega)
      refine J_lcmp_lt (tgt := 34) d_Mo_times_24 d_Mo_times_25 rfl (by omega) (by omega) (fun h24_3 => ?_) (fun h24_3 => ?_)
      · refine J_lload_n d_Mo_times_34 rfl 0 rfl ?_
        refine J_lload_n d_Mo_times_35 rfl 1 rfl ?_
        refine J_lmul d_Mo_times_36 ?_
        refine J_lret rfl d_Mo_times_37 ⟨Nat.le_of_ble_eq_true rfl, Nat.le_of_ble_eq_true rfl⟩ ?_
        exact ⟨by rw [cp_times (by omega) he.1, if_neg (by omega)], rfl⟩
      · refine J_ldc2 (z := 1000000000000) d_Mo_times_28 cst_Mo_143 rfl ?_
        refine J_goto (tgt := 37) d_Mo_times_31 rfl ?_
        refine J_lret rfl d_Mo_times_37 ⟨Nat.le_of_ble_eq_true rfl, Nat.le_of_ble_eq_true rfl⟩ ?_
        exact ⟨by rw [cp_times (by omega) he.1, if_pos (by omega)], rfl⟩
    · refine J_lconst (z := 0) d_Mo_times_12 rfl ?_
      refine J_lret rfl d_Mo_times_13 ⟨Nat.le_of_ble_eq_true rfl, Nat.le_of_ble_eq_true rfl⟩ ?_
      exact ⟨by rw [cp_zero (by omega)], rfl⟩
set_option maxHeartbeats 4000000 in
theorem c_Mo_byWay {q : Int} {i : Int} {j : Int} (hg : gOK nr lf ln bd) (hq : 0 ≤ q ∧ q < nr) (hij : 0 ≤ i ∧ i ≤ j ∧ j ≤ 12) (hc : i ≤ c1 ∧ c1 ≤ c2 ∧ c2 ≤ j) (hnu : ∀ x, 0 ≤ x → x < 845 → ct x = true → 0 ≤ nu x ∧ nu x ≤ 1000000000000) : Ct l D b Y_Mo_byWay { frames := 1, cells := 0, slots := 0, locals := 24 } [Value.ref (ad 0), Value.int (iI q), Value.int (iI i), Value.int (iI j)] (ad, cM ad r lp rf nr lf ln bd fd tm it wk dv ct nu mt c1 c2 td tt tc) (fun v w' => ∃ z, v = some (.long (iL z)) ∧ w' = (ad, cM ad r lp rf nr lf ln bd fd tm it wk dv ct nu mt c1 c2 td tt tc) ∧ ((wOk (dvT ct) ln (bsM bd) i j (q, c1, c2) ∧ z = pV (nuT nu) ln (bsM bd) i j (q, c1, c2) ∧ 0 ≤ z ∧ z ≤ 1000000000000) ∨ (¬ wOk (dvT ct) ln (bsM bd) i j (q, c1, c2) ∧ z = -1))) := by
  refine Ct_of (by decide) (Nat.le_of_ble_eq_true rfl) ?_
  have hg1 := hg.1
  have hlq := hg.2.2.1 q (by omega) (by omega)
  show J l D b Y_Mo_byWay _ _ (ad, cM ad r lp rf nr lf ln bd fd tm it wk dv ct nu mt c1 c2 td tt tc) 0 0 0 [(0, Value.ref (ad 0)), (1, Value.int (iI q)), (2, Value.int (iI i)), (3, Value.int (iI j))] []
  refine J_lconst (z := 1) d_Mo_byWay_0 rfl ?_
  refine J_lstore d_Mo_byWay_1 (by decide) rfl ?_
  refine J_iconst d_Mo_byWay_3 ?_
  refine J_istore d_Mo_byWay_4 (by decide) rfl ?_
  refine J.loop (σ := Int × Int) (fun xx_ => match xx_ with | (k, al) => (0 ≤ k ∧ k ≤ ln q) ∧ (al = pVk (nuT nu) ln (bsM bd) i j (q, c1, c2) k) ∧ (0 ≤ al ∧ al ≤ 1000000000000) ∧ (∀ x, 0 ≤ x → x < k → bsM bd q x < 8 → dvT ct (bsM bd q x) (cutV (ln q) c1 c2 x i j) (cutV (ln q) c1 c2 (x + 1) i j) = true)) (fun xx_ => match xx_ with | (k, al) => (ln q - k).toNat) (ws := fun xx_ => match xx_ with | (k, al) => (ad, cM ad r lp rf nr lf ln bd fd tm it wk dv ct nu mt c1 c2 td tt tc)) (ks := fun _ => 0) (ns := fun _ => 0) (lvs := fun xx_ => match xx_ with | (k, al) => [(6, Value.int (iI k)), (4, Value.long (iL al)), (0, Value.ref (ad 0)), (1, Value.int (iI q)), (2, Value.int (iI i)), (3, Value.int (iI j))]) (sts := fun _ => []) ?_ (0, 1) ?_
  · rintro ⟨k, al⟩ hI ih1
    have hI : (0 ≤ k ∧ k ≤ ln q) ∧ (al = pVk (nuT nu) ln (bsM bd) i j (q, c1, c2) k) ∧ (0 ≤ al ∧ al ≤ 1000000000000) ∧ (∀ x, 0 ≤ x → x < k → bsM bd q x < 8 → dvT ct (bsM bd q x) (cutV (ln q) c1 c2 x i j) (cutV (ln q) c1 c2 (x + 1) i j) = true) := hI
    obtain ⟨hk, hal, hav, hok⟩ := hI
    show J l D b Y_Mo_byWay _ _ (ad, cM ad r lp rf nr lf ln bd fd tm it wk dv ct nu mt c1 c2 td tt tc) 0 0 6 [(6, Value.int (iI k)), (4, Value.long (iL al)), (0, Value.ref (ad 0)), (1, Value.int (iI q)), (2, Value.int (iI i)), (3, Value.int (iI j))] []
    refine J_iload d_Mo_byWay_6 0 rfl ?_
    refine J_aload_n d_Mo_byWay_8 rfl 2 rfl ?_
    refine J_get fs_Mo_13 rfl rfl d_Mo_byWay_9 ?_
    refine J_iload_n d_Mo_byWay_12 rfl 3 rfl ?_
    refine J_iald rfl (by omega) (by decide) d_Mo_byWay_13 ?_
    refine J_icmp_ge (tgt := 121) d_Mo_byWay_14 rfl (by omega) (by omega) (fun h14_2 => ?_) (fun h14_2 => ?_)
    · refine J_lload d_Mo_byWay_121 1 rfl ?_
      refine J_lret rfl d_Mo_byWay_123 ⟨Nat.le_of_ble_eq_true rfl, Nat.le_of_ble_eq_true rfl⟩ ?_
      exact ⟨_, rfl, rfl, Or.inl ⟨fun x a1 a2 => hok x a1 (by have a2 : x < ln q := a2; omega), by rw [hal, show k = ln q by omega]; rfl, hav⟩⟩
    · refine J_aload_n d_Mo_byWay_17 rfl 2 rfl ?_
      refine J_get fs_Mo_16 rfl rfl d_Mo_byWay_18 ?_
      refine J_iconst d_Mo_byWay_21 ?_
      refine J_iload_n d_Mo_byWay_22 rfl 3 rfl ?_
      refine J_imul d_Mo_byWay_23 ?_
      refine J_iload d_Mo_byWay_24 0 rfl ?_
      refine J_iadd d_Mo_byWay_26 ?_
      refine J_iald rfl (by omega) (by decide) d_Mo_byWay_27 ?_
      have hsy := hg.2.2.2.1 (3 * q + k) (by omega) (by omega)
      have hsz := hg.2.2.2.2 q k (by omega) (by omega) (by omega) (by omega)
      refine J_istore d_Mo_byWay_28 (by decide) rfl ?_
      refine J_aload_n d_Mo_byWay_30 rfl 3 rfl ?_
      refine J_iload_n d_Mo_byWay_31 rfl 4 rfl ?_
      refine J_iload d_Mo_byWay_32 1 rfl ?_
      refine J_iload_n d_Mo_byWay_34 rfl 5 rfl ?_
      refine J_iload_n d_Mo_byWay_35 rfl 6 rfl ?_
      refine J_callV (st := []) [Value.int (iI q), Value.int (iI k), Value.int (iI i), Value.int (iI j)] ms_Mo_123 rfl (c_Mo_cut hg (by omega) (by omega)) rfl rfl ⟨Nat.le_of_ble_eq_true rfl, Nat.le_of_ble_eq_true rfl⟩ ⟨Nat.le_of_ble_eq_true rfl, Nat.le_of_ble_eq_true rfl⟩ (Nat.le_of_ble_eq_true rfl) d_Mo_byWay_36 (fun v w' hp => ?_)
      obtain ⟨rfl, rfl⟩ := hp
      show J l D b Y_Mo_byWay _ _ (ad, cM ad r lp rf nr lf ln bd fd tm it wk dv ct nu mt c1 c2 td tt tc) 0 0 39 [(7, Value.int (iI (bd ((3 * q) + k)))), (6, Value.int (iI k)), (4, Value.long (iL al)), (0, Value.ref (ad 0)), (1, Value.int (iI q)), (2, Value.int (iI i)), (3, Value.int (iI j))] [Value.int (iI (cutV (ln q) c1 c2 k i j))]
      refine J_istore d_Mo_byWay_39 (by decide) rfl ?_
      refine J_aload_n d_Mo_byWay_41 rfl 4 rfl ?_
      refine J_iload_n d_Mo_byWay_42 rfl 5 rfl ?_
      refine J_iload d_Mo_byWay_43 2 rfl ?_
      refine J_iconst d_Mo_byWay_45 ?_
      refine J_iadd d_Mo_byWay_46 ?_
      refine J_iload_n d_Mo_byWay_47 rfl 6 rfl ?_
      refine J_iload_n d_Mo_byWay_48 rfl 7 rfl ?_
      refine J_callV (st := []) [Value.int (iI q), Value.int (iI (k + 1)), Value.int (iI i), Value.int (iI j)] ms_Mo_123 rfl (c_Mo_cut hg (by omega) (by omega)) rfl rfl ⟨Nat.le_of_ble_eq_true rfl, Nat.le_of_ble_eq_true rfl⟩ ⟨Nat.le_of_ble_eq_true rfl, Nat.le_of_ble_eq_true rfl⟩ (Nat.le_of_ble_eq_true rfl) d_Mo_byWay_49 (fun v w' hp => ?_)
      obtain ⟨rfl, rfl⟩ := hp
      show J l D b Y_Mo_byWay _ _ (ad, cM ad r lp rf nr lf ln bd fd tm it wk dv ct nu mt c1 c2 td tt tc) 0 0 52 [(8, Value.int (iI (cutV (ln q) c1 c2 k i j))), (7, Value.int (iI (bd ((3 * q) + k)))), (6, Value.int (iI k)), (4, Value.long (iL al)), (0, Value.ref (ad 0)), (1, Value.int (iI q)), (2, Value.int (iI i)), (3, Value.int (iI j))] [Value.int (iI (cutV (ln q) c1 c2 (k + 1) i j))]
      refine J_istore d_Mo_byWay_52 (by decide) rfl ?_
      have hca := cutV_rng (n := ln q) (k := k) hc
      have hcb := cutV_rng (n := ln q) (k := k + 1) hc
      refine J_iload d_Mo_byWay_54 2 rfl ?_
      refine J_bipush d_Mo_byWay_56 (by decide) ?_
      refine J_icmp_ge (tgt := 82) d_Mo_byWay_58 rfl (by omega) (by omega) (fun h58_5 => ?_) (fun h58_5 => ?_)
      · refine J_iload d_Mo_byWay_82 2 rfl ?_
        refine J_bipush d_Mo_byWay_84 (by decide) ?_
        refine J_icmp_ge (tgt := 111) d_Mo_byWay_86 rfl (by omega) (by omega) (fun h86_6 => ?_) (fun h86_6 => ?_)
        · refine J_lload d_Mo_byWay_111 4 rfl ?_
          refine J_lstore d_Mo_byWay_113 (by decide) rfl ?_
          refine J_iinc (j := 4) d_Mo_byWay_115 rfl (by decide) rfl ?_
          refine J_goto (tgt := 6) d_Mo_byWay_118 rfl ?_
          refine J.sub [0, 1, 5, 6, 7, 8] rfl ?_
          exact ih1 (k + 1, al) (show (0 ≤ (k + 1) ∧ (k + 1) ≤ ln q) ∧ (al = pVk (nuT nu) ln (bsM bd) i j (q, c1, c2) (k + 1)) ∧ (0 ≤ al ∧ al ≤ 1000000000000) ∧ (∀ x, 0 ≤ x → x < (k + 1) → bsM bd q x < 8 → dvT ct (bsM bd q x) (cutV (ln q) c1 c2 x i j) (cutV (ln q) c1 c2 (x + 1) i j) = true) by
              refine ⟨by omega, ?_, hav, fun x a1 a2 a3 => by
                by_cases hx : x = k
                · subst hx
                  first
                    | exact ‹ct _ = true›
                    | (have a3 : bd (3 * q + x) < 8 := a3; omega)
                · exact hok x a1 (by omega) a3⟩
              rw [pVk_s _ _ _ _ _ _ (by omega), if_neg (show ¬ bsM bd q k < 8 from by show ¬ bd (3 * q + k) < 8; omega), ← hal]) (show (ln q - (k + 1)).toNat < (ln q - k).toNat by
              omega)
        · refine J_lload d_Mo_byWay_89 4 rfl ?_
          refine J_aload_n d_Mo_byWay_91 rfl 5 rfl ?_
          refine J_get fs_Mo_32 rfl rfl d_Mo_byWay_92 ?_
          refine J_iload d_Mo_byWay_95 2 rfl ?_
          refine J_iload d_Mo_byWay_97 1 rfl ?_
          refine J_iload d_Mo_byWay_99 0 rfl ?_
          refine J_callS (st := [Value.ref (ad 8), Value.long (iL al)]) [Value.int (iI (bd ((3 * q) + k))), Value.int (iI (cutV (ln q) c1 c2 k i j)), Value.int (iI (cutV (ln q) c1 c2 (k + 1) i j))] ms_Mo_113 (c_Mo_node) rfl rfl ⟨Nat.le_of_ble_eq_true rfl, Nat.le_of_ble_eq_true rfl⟩ ⟨Nat.le_of_ble_eq_true rfl, Nat.le_of_ble_eq_true rfl⟩ (Nat.le_of_ble_eq_true rfl) d_Mo_byWay_101 (fun v w' hp => ?_)
          obtain ⟨rfl, rfl⟩ := hp
          show J l D b Y_Mo_byWay _ _ (ad, cM ad r lp rf nr lf ln bd fd tm it wk dv ct nu mt c1 c2 td tt tc) 0 0 104 [(9, Value.int (iI (cutV (ln q) c1 c2 (k + 1) i j))), (8, Value.int (iI (cutV (ln q) c1 c2 k i j))), (7, Value.int (iI (bd ((3 * q) + k)))), (6, Value.int (iI k)), (4, Value.long (iL al)), (0, Value.ref (ad 0)), (1, Value.int (iI q)), (2, Value.int (iI i)), (3, Value.int (iI j))] [Value.int (iI (169 * (bd ((3 * q) + k)) + 13 * (cutV (ln q) c1 c2 k i j) + (cutV (ln q) c1 c2 (k + 1) i j))), Value.ref (ad 8), Value.long (iL al)]
          refine J_lald rfl (by omega) (by decide) d_Mo_byWay_104 ?_
          have hnk := hnu (169 * bd (3 * q + k) + 13 * cutV (ln q) c1 c2 k i j + cutV (ln q) c1 c2 (k + 1) i j) (by omega) (by omega) (by first | exact ‹ct _ = true› | omega)
          refine J_callS (st := []) [Value.long (iL al), Value.long (iL (nu (169 * (bd ((3 * q) + k)) + 13 * (cutV (ln q) c1 c2 k i j) + (cutV (ln q) c1 c2 (k + 1) i j))))] ms_Mo_147 (c_Mo_times (by omega) (by omega)) rfl rfl ⟨Nat.le_of_ble_eq_true rfl, Nat.le_of_ble_eq_true rfl⟩ ⟨Nat.le_of_ble_eq_true rfl, Nat.le_of_ble_eq_true rfl⟩ (Nat.le_of_ble_eq_true rfl) d_Mo_byWay_105 (fun v w' hp => ?_)
          obtain ⟨rfl, rfl⟩ := hp
          show J l D b Y_Mo_byWay _ _ (ad, cM ad r lp rf nr lf ln bd fd tm it wk dv ct nu mt c1 c2 td tt tc) 0 0 108 [(9, Value.int (iI (cutV (ln q) c1 c2 (k + 1) i j))), (8, Value.int (iI (cutV (ln q) c1 c2 k i j))), (7, Value.int (iI (bd ((3 * q) + k)))), (6, Value.int (iI k)), (4, Value.long (iL al)), (0, Value.ref (ad 0)), (1, Value.int (iI q)), (2, Value.int (iI i)), (3, Value.int (iI j))] [Value.long (iL (cp al (nu (169 * (bd ((3 * q) + k)) + 13 * (cutV (ln q) c1 c2 k i j) + (cutV (ln q) c1 c2 (k + 1) i j)))))]
          refine J_goto (tgt := 113) d_Mo_byWay_108 rfl ?_
          refine J_lstore d_Mo_byWay_113 (by decide) rfl ?_
          refine J_iinc (j := 4) d_Mo_byWay_115 rfl (by decide) rfl ?_
          refine J_goto (tgt := 6) d_Mo_byWay_118 rfl ?_
          refine J.sub [0, 1, 5, 6, 7, 8] rfl ?_
          exact ih1 (k + 1, cp al (nu (169 * (bd ((3 * q) + k)) + 13 * (cutV (ln q) c1 c2 k i j) + (cutV (ln q) c1 c2 (k + 1) i j)))) (show (0 ≤ (k + 1) ∧ (k + 1) ≤ ln q) ∧ ((cp al (nu (169 * (bd ((3 * q) + k)) + 13 * (cutV (ln q) c1 c2 k i j) + (cutV (ln q) c1 c2 (k + 1) i j)))) = pVk (nuT nu) ln (bsM bd) i j (q, c1, c2) (k + 1)) ∧ (0 ≤ (cp al (nu (169 * (bd ((3 * q) + k)) + 13 * (cutV (ln q) c1 c2 k i j) + (cutV (ln q) c1 c2 (k + 1) i j)))) ∧ (cp al (nu (169 * (bd ((3 * q) + k)) + 13 * (cutV (ln q) c1 c2 k i j) + (cutV (ln q) c1 c2 (k + 1) i j)))) ≤ 1000000000000) ∧ (∀ x, 0 ≤ x → x < (k + 1) → bsM bd q x < 8 → dvT ct (bsM bd q x) (cutV (ln q) c1 c2 x i j) (cutV (ln q) c1 c2 (x + 1) i j) = true) by
              refine ⟨by omega, ?_, cp_rng (by omega) (by omega), fun x a1 a2 a3 => by
                by_cases hx : x = k
                · subst hx
                  first
                    | exact ‹ct _ = true›
                    | (have a3 : bd (3 * q + x) < 8 := a3; omega)
                · exact hok x a1 (by omega) a3⟩
              rw [pVk_s _ _ _ _ _ _ (by omega), if_pos (show bsM bd q k < 8 from by show bd (3 * q + k) < 8; omega), ← hal]
              rfl) (show (ln q - (k + 1)).toNat < (ln q - k).toNat by
              omega)
      · refine J_aload_n d_Mo_byWay_61 rfl 5 rfl ?_
        refine J_get fs_Mo_29 rfl rfl d_Mo_byWay_62 ?_
        refine J_iload d_Mo_byWay_65 2 rfl ?_
        refine J_iload d_Mo_byWay_67 1 rfl ?_
        refine J_iload d_Mo_byWay_69 0 rfl ?_
        refine J_callS (st := [Value.ref (ad 7)]) [Value.int (iI (bd ((3 * q) + k))), Value.int (iI (cutV (ln q) c1 c2 k i j)), Value.int (iI (cutV (ln q) c1 c2 (k + 1) i j))] ms_Mo_113 (c_Mo_node) rfl rfl ⟨Nat.le_of_ble_eq_true rfl, Nat.le_of_ble_eq_true rfl⟩ ⟨Nat.le_of_ble_eq_true rfl, Nat.le_of_ble_eq_true rfl⟩ (Nat.le_of_ble_eq_true rfl) d_Mo_byWay_71 (fun v w' hp => ?_)
        obtain ⟨rfl, rfl⟩ := hp
        show J l D b Y_Mo_byWay _ _ (ad, cM ad r lp rf nr lf ln bd fd tm it wk dv ct nu mt c1 c2 td tt tc) 0 0 74 [(9, Value.int (iI (cutV (ln q) c1 c2 (k + 1) i j))), (8, Value.int (iI (cutV (ln q) c1 c2 k i j))), (7, Value.int (iI (bd ((3 * q) + k)))), (6, Value.int (iI k)), (4, Value.long (iL al)), (0, Value.ref (ad 0)), (1, Value.int (iI q)), (2, Value.int (iI i)), (3, Value.int (iI j))] [Value.int (iI (169 * (bd ((3 * q) + k)) + 13 * (cutV (ln q) c1 c2 k i j) + (cutV (ln q) c1 c2 (k + 1) i j))), Value.ref (ad 7)]
        refine J_zald rfl (by omega) (by decide) d_Mo_byWay_74 ?_
        refine J_ifB_ne (tgt := 82) d_Mo_byWay_75 rfl (fun h75_10 => ?_) (fun h75_10 => ?_)
        · refine J_iload d_Mo_byWay_82 2 rfl ?_
          refine J_bipush d_Mo_byWay_84 (by decide) ?_
          refine J_icmp_ge (tgt := 111) d_Mo_byWay_86 rfl (by omega) (by omega) (fun h86_11 => ?_) (fun h86_11 => ?_)
          · refine J_lload d_Mo_byWay_111 4 rfl ?_
            refine J_lstore d_Mo_byWay_113 (by decide) rfl ?_
            refine J_iinc (j := 4) d_Mo_byWay_115 rfl (by decide) rfl ?_
            refine J_goto (tgt := 6) d_Mo_byWay_118 rfl ?_
            refine J.sub [0, 1, 5, 6, 7, 8] rfl ?_
            exact ih1 (k + 1, al) (show (0 ≤ (k + 1) ∧ (k + 1) ≤ ln q) ∧ (al = pVk (nuT nu) ln (bsM bd) i j (q, c1, c2) (k + 1)) ∧ (0 ≤ al ∧ al ≤ 1000000000000) ∧ (∀ x, 0 ≤ x → x < (k + 1) → bsM bd q x < 8 → dvT ct (bsM bd q x) (cutV (ln q) c1 c2 x i j) (cutV (ln q) c1 c2 (x + 1) i j) = true) by
                refine ⟨by omega, ?_, hav, fun x a1 a2 a3 => by
                  by_cases hx : x = k
                  · subst hx
                    first
                      | exact ‹ct _ = true›
                      | (have a3 : bd (3 * q + x) < 8 := a3; omega)
                  · exact hok x a1 (by omega) a3⟩
                rw [pVk_s _ _ _ _ _ _ (by omega), if_neg (show ¬ bsM bd q k < 8 from by show ¬ bd (3 * q + k) < 8; omega), ← hal]) (show (ln q - (k + 1)).toNat < (ln q - k).toNat by
                omega)
          · refine J_lload d_Mo_byWay_89 4 rfl ?_
            refine J_aload_n d_Mo_byWay_91 rfl 5 rfl ?_
            refine J_get fs_Mo_32 rfl rfl d_Mo_byWay_92 ?_
            refine J_iload d_Mo_byWay_95 2 rfl ?_
            refine J_iload d_Mo_byWay_97 1 rfl ?_
            refine J_iload d_Mo_byWay_99 0 rfl ?_
            refine J_callS (st := [Value.ref (ad 8), Value.long (iL al)]) [Value.int (iI (bd ((3 * q) + k))), Value.int (iI (cutV (ln q) c1 c2 k i j)), Value.int (iI (cutV (ln q) c1 c2 (k + 1) i j))] ms_Mo_113 (c_Mo_node) rfl rfl ⟨Nat.le_of_ble_eq_true rfl, Nat.le_of_ble_eq_true rfl⟩ ⟨Nat.le_of_ble_eq_true rfl, Nat.le_of_ble_eq_true rfl⟩ (Nat.le_of_ble_eq_true rfl) d_Mo_byWay_101 (fun v w' hp => ?_)
            obtain ⟨rfl, rfl⟩ := hp
            show J l D b Y_Mo_byWay _ _ (ad, cM ad r lp rf nr lf ln bd fd tm it wk dv ct nu mt c1 c2 td tt tc) 0 0 104 [(9, Value.int (iI (cutV (ln q) c1 c2 (k + 1) i j))), (8, Value.int (iI (cutV (ln q) c1 c2 k i j))), (7, Value.int (iI (bd ((3 * q) + k)))), (6, Value.int (iI k)), (4, Value.long (iL al)), (0, Value.ref (ad 0)), (1, Value.int (iI q)), (2, Value.int (iI i)), (3, Value.int (iI j))] [Value.int (iI (169 * (bd ((3 * q) + k)) + 13 * (cutV (ln q) c1 c2 k i j) + (cutV (ln q) c1 c2 (k + 1) i j))), Value.ref (ad 8), Value.long (iL al)]
            refine J_lald rfl (by omega) (by decide) d_Mo_byWay_104 ?_
            have hnk := hnu (169 * bd (3 * q + k) + 13 * cutV (ln q) c1 c2 k i j + cutV (ln q) c1 c2 (k + 1) i j) (by omega) (by omega) (by first | exact ‹ct _ = true› | omega)
            refine J_callS (st := []) [Value.long (iL al), Value.long (iL (nu (169 * (bd ((3 * q) + k)) + 13 * (cutV (ln q) c1 c2 k i j) + (cutV (ln q) c1 c2 (k + 1) i j))))] ms_Mo_147 (c_Mo_times (by omega) (by omega)) rfl rfl ⟨Nat.le_of_ble_eq_true rfl, Nat.le_of_ble_eq_true rfl⟩ ⟨Nat.le_of_ble_eq_true rfl, Nat.le_of_ble_eq_true rfl⟩ (Nat.le_of_ble_eq_true rfl) d_Mo_byWay_105 (fun v w' hp => ?_)
            obtain ⟨rfl, rfl⟩ := hp
            show J l D b Y_Mo_byWay _ _ (ad, cM ad r lp rf nr lf ln bd fd tm it wk dv ct nu mt c1 c2 td tt tc) 0 0 108 [(9, Value.int (iI (cutV (ln q) c1 c2 (k + 1) i j))), (8, Value.int (iI (cutV (ln q) c1 c2 k i j))), (7, Value.int (iI (bd ((3 * q) + k)))), (6, Value.int (iI k)), (4, Value.long (iL al)), (0, Value.ref (ad 0)), (1, Value.int (iI q)), (2, Value.int (iI i)), (3, Value.int (iI j))] [Value.long (iL (cp al (nu (169 * (bd ((3 * q) + k)) + 13 * (cutV (ln q) c1 c2 k i j) + (cutV (ln q) c1 c2 (k + 1) i j)))))]
            refine J_goto (tgt := 113) d_Mo_byWay_108 rfl ?_
            refine J_lstore d_Mo_byWay_113 (by decide) rfl ?_
            refine J_iinc (j := 4) d_Mo_byWay_115 rfl (by decide) rfl ?_
            refine J_goto (tgt := 6) d_Mo_byWay_118 rfl ?_
            refine J.sub [0, 1, 5, 6, 7, 8] rfl ?_
            exact ih1 (k + 1, cp al (nu (169 * (bd ((3 * q) + k)) + 13 * (cutV (ln q) c1 c2 k i j) + (cutV (ln q) c1 c2 (k + 1) i j)))) (show (0 ≤ (k + 1) ∧ (k + 1) ≤ ln q) ∧ ((cp al (nu (169 * (bd ((3 * q) + k)) + 13 * (cutV (ln q) c1 c2 k i j) + (cutV (ln q) c1 c2 (k + 1) i j)))) = pVk (nuT nu) ln (bsM bd) i j (q, c1, c2) (k + 1)) ∧ (0 ≤ (cp al (nu (169 * (bd ((3 * q) + k)) + 13 * (cutV (ln q) c1 c2 k i j) + (cutV (ln q) c1 c2 (k + 1) i j)))) ∧ (cp al (nu (169 * (bd ((3 * q) + k)) + 13 * (cutV (ln q) c1 c2 k i j) + (cutV (ln q) c1 c2 (k + 1) i j)))) ≤ 1000000000000) ∧ (∀ x, 0 ≤ x → x < (k + 1) → bsM bd q x < 8 → dvT ct (bsM bd q x) (cutV (ln q) c1 c2 x i j) (cutV (ln q) c1 c2 (x + 1) i j) = true) by
                refine ⟨by omega, ?_, cp_rng (by omega) (by omega), fun x a1 a2 a3 => by
                  by_cases hx : x = k
                  · subst hx
                    first
                      | exact ‹ct _ = true›
                      | (have a3 : bd (3 * q + x) < 8 := a3; omega)
                  · exact hok x a1 (by omega) a3⟩
                rw [pVk_s _ _ _ _ _ _ (by omega), if_pos (show bsM bd q k < 8 from by show bd (3 * q + k) < 8; omega), ← hal]
                rfl) (show (ln q - (k + 1)).toNat < (ln q - k).toNat by
                omega)
        · refine J_ldc2 (z := -1) d_Mo_byWay_78 cst_Mo_145 rfl ?_
          refine J_lret rfl d_Mo_byWay_81 ⟨Nat.le_of_ble_eq_true rfl, Nat.le_of_ble_eq_true rfl⟩ ?_
          exact ⟨_, rfl, rfl, Or.inr ⟨fun hw => by
            have := hw k (by omega) (by show k < ln q; omega) (by show bd (3 * q + k) < 8; omega)
            exact absurd (this.symm.trans (show dvT ct _ _ _ = false from ‹ct _ = false›)) (by decide), rfl⟩⟩
  · show (0 ≤ (0 : Int) ∧ (0 : Int) ≤ ln q) ∧ ((1 : Int) = pVk (nuT nu) ln (bsM bd) i j (q, c1, c2) (0 : Int)) ∧ (0 ≤ (1 : Int) ∧ (1 : Int) ≤ 1000000000000) ∧ (∀ x, 0 ≤ x → x < (0 : Int) → bsM bd q x < 8 → dvT ct (bsM bd q x) (cutV (ln q) c1 c2 x i j) (cutV (ln q) c1 c2 (x + 1) i j) = true)
    exact ⟨by omega, rfl, by omega, fun x _ _ => by omega⟩
end M6
