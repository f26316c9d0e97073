/-! Integer.bitCount of small numbers; what meetAll does, in words -/
def anR (a b : Int) : Int := (iI a &&& iI b).toInt
theorem anR_eq (a b : Int) : iI a &&& iI b = iI (anR a b) := iI_of _
def bq1 (x : Int) : Int := x - anR (usr x 1) 1431655765
def bq2 (x : Int) : Int := anR x 858993459 + anR (usr x 2) 858993459
def bq3 (x : Int) : Int := anR (x + usr x 4) 252645135
def bq4 (x : Int) : Int := x + usr x 8
def bq5 (x : Int) : Int := x + usr x 16
theorem bq_key : ∀ m : Nat, m < 32 → iI (anR (bq5 (bq4 (bq3 (bq2 (bq1 (m : Int)))))) 63) = iI (cnt (bit (m : Int)) 5) := by decide +kernel
/-- what is below the nonterminal s over i .. j -/
def Kz (nr : Int) (lf ln bd tm : Int → Int) (dv : Int → Int → Int → Bool) (s i j : Int) (z : Int × Int) : Prop := ∃ q ∈ wl nr lf ln s i j 0, wayT tm dv ln (bsM bd) i j q = true ∧ ∃ k, MB ln bd i j q k z
/-- a pass of meetAll -/
def MP (nr : Int) (lf ln bd tm : Int → Int) (dv : Int → Int → Int → Bool) (i j : Int) (mt : Int → Int → Bool) (d1 : Int) (mt1 : Int → Int → Bool) (d2 : Int) (mt2 : Int → Int → Bool) (mo : Bool) (s : Int) : Prop :=
  (0 ≤ d2 ∧ d2 ≤ 31) ∧ (∀ z, mS mt z → mS mt2 z) ∧ (∀ U : Int × Int → Prop, (∀ z, mS mt z → U z) → (∀ x, 0 ≤ x → x ≤ 4 → U (5 * j + x, i) → ∀ z, Kz nr lf ln bd tm dv x i j z → U z) → ∀ z, mS mt2 z → U z) ∧
  (∀ x, 0 ≤ x → x ≤ 4 → bit d2 x = true → mS mt2 (5 * j + x, i) ∧ ∀ z, Kz nr lf ln bd tm dv x i j z → mS mt2 z) ∧
  (mo = false → d2 = d1 ∧ mt2 = mt1 ∧ ∀ x, 0 ≤ x → x < s → mS mt1 (5 * j + x, i) → bit d1 x = true) ∧ (mo = true → cnt (bit d1) 5 < cnt (bit d2) 5) ∧ ∀ y, bit d1 y = true → bit d2 y = true
section PN11
variable {nr : Int} {lf ln bd tm : Int → Int} {dv : Int → Int → Int → Bool} {i j d1 d2 s : Int} {mt mt1 mt2 mt3 : Int → Int → Bool} {mo : Bool}
theorem mp_new (h : MP nr lf ln bd tm dv i j mt d1 mt1 d2 mt2 mo s) : MP nr lf ln bd tm dv i j mt d2 mt2 d2 mt2 false 0 := by
  obtain ⟨h1, h2, h3, h4, -, -, -⟩ := h
  exact ⟨h1, h2, h3, h4, fun _ => ⟨rfl, rfl, fun x a b => by omega⟩, (fun e => by cases e), fun _ h => h⟩
theorem mp_0 : MP nr lf ln bd tm dv i j mt 0 mt 0 mt false 0 := ⟨by omega, fun _ h => h, fun U a b => a, (fun x a b c => by rw [bit_0] at c; cases c), fun _ => ⟨rfl, rfl, fun x a b => by omega⟩, (fun e => by cases e), fun _ h => h⟩
theorem mp_no (h : MP nr lf ln bd tm dv i j mt d1 mt1 d2 mt2 mo s) (hk : bit d2 s = true ∨ mt2 (5 * j + s) i = false) : MP nr lf ln bd tm dv i j mt d1 mt1 d2 mt2 mo (s + 1) := by
  obtain ⟨h1, h2, h3, h4, h5, h6, h7⟩ := h
  refine ⟨h1, h2, h3, h4, fun e => ?_, h6, h7⟩
  obtain ⟨e1, e2, e3⟩ := h5 e
  refine ⟨e1, e2, fun x a b c => ?_⟩
  by_cases hx : x = s
  · rw [hx] at c ⊢
    rcases hk with k | k
    · rw [← e1]
      exact k
    · rw [e2] at k
      unfold mS at c
      rw [k] at c
      cases c
  · exact e3 x a (by omega) c
theorem mp_yes (h : MP nr lf ln bd tm dv i j mt d1 mt1 d2 mt2 mo s) (hs : 0 ≤ s ∧ s ≤ 4) (hb : bit d2 s = false) (hm : mt2 (5 * j + s) i = true) (h3' : ∀ z, mS mt3 z ↔ mS mt2 z ∨ Kz nr lf ln bd tm dv s i j z) : MP nr lf ln bd tm dv i j mt d1 mt1 (orI d2 (p2 s)) mt3 true (s + 1) := by
  obtain ⟨h1, h2, h3, h4, h5, h6, h7⟩ := h
  have hp := p2_31 hs
  have up : ∀ y, bit d2 y = true → bit (orI d2 (p2 s)) y = true := fun y e => by rw [bit_or, e]; rfl
  refine ⟨orI_31 h1 (by omega), fun z e => (h3' z).mpr (Or.inl (h2 z e)), fun U u1 u2 z e => ?_, fun x a b c => ?_, (fun e => by cases e), fun _ => ?_, fun y e => up y (h7 y e)⟩
  · rcases (h3' z).mp e with e | e
    · exact h3 U u1 u2 z e
    · exact u2 s hs.1 hs.2 (h3 U u1 u2 _ hm) z e
  · rw [bit_or, bit_p2 hs.1 a, Bool.or_eq_true, decide_eq_true_iff] at c
    rcases c with c | c
    · obtain ⟨k1, k2⟩ := h4 x a b c
      exact ⟨(h3' _).mpr (Or.inl k1), fun z e => (h3' z).mpr (Or.inl (k2 z e))⟩
    · subst c
      exact ⟨(h3' _).mpr (Or.inl hm), fun z e => (h3' z).mpr (Or.inr e)⟩
  · have : cnt (bit d2) 5 < cnt (bit (orI d2 (p2 s))) 5 := cnt_lt (by omega) (fun y _ _ e => up y e) (c := s) (by omega) (by rw [hb]; decide) (by rw [bit_or, bit_p2 hs.1 hs.1, decide_eq_true rfl, Bool.or_true])
    have h8 := cnt_le (P := bit d1) (Q := bit d2) (k := 5) (by omega) (fun y _ _ e => h7 y e)
    omega
theorem mp_mu (h : MP nr lf ln bd tm dv i j mt d1 mt1 d2 mt2 mo s) : (5 - cnt (bit d2) 5).toNat + (if mo = true then 1 else 0) < (5 - cnt (bit d1) 5).toNat + (if true = true then 1 else 0) := by
  obtain ⟨-, -, -, -, h5, h6, -⟩ := h
  have r1 := cnt_rng (bit d1) (show (0 : Int) ≤ 5 by omega)
  have r2 := cnt_rng (bit d2) (show (0 : Int) ≤ 5 by omega)
  cases mo with
  | false =>
    rw [(h5 rfl).1]
    simp
  | true =>
    have := h6 rfl
    simp
    omega
/-- meetAll's end -/
def MA (nr : Int) (lf ln bd tm : Int → Int) (dv : Int → Int → Int → Bool) (i j : Int) (mt mt' : Int → Int → Bool) : Prop :=
  (∀ z, mS mt z → mS mt' z) ∧ (∀ U : Int × Int → Prop, (∀ z, mS mt z → U z) → (∀ x, 0 ≤ x → x ≤ 4 → U (5 * j + x, i) → ∀ z, Kz nr lf ln bd tm dv x i j z → U z) → ∀ z, mS mt' z → U z) ∧ ∀ x, 0 ≤ x → x ≤ 4 → mS mt' (5 * j + x, i) → ∀ z, Kz nr lf ln bd tm dv x i j z → mS mt' z
theorem mp_end (h : MP nr lf ln bd tm dv i j mt d1 mt1 d2 mt2 mo s) (hs : 5 ≤ s) (hm : mo = false) : MA nr lf ln bd tm dv i j mt mt2 ∧ cnt (bit d2) 5 = cnt (fun x => mt2 (5 * j + x) i) 5 := by
  obtain ⟨h1, h2, h3, h4, h5, -, -⟩ := h
  obtain ⟨e1, e2, e3⟩ := h5 hm
  have iff : ∀ x, 0 ≤ x → x ≤ 4 → (bit d2 x = true ↔ mt2 (5 * j + x) i = true) := fun x a b => ⟨fun c => (h4 x a b c).1, fun c => by rw [e1]; exact e3 x a (by omega) (by rw [← e2]; exact c)⟩
  refine ⟨⟨h2, h3, fun x a b c => (h4 x a b ((iff x a b).mpr c)).2⟩, cnt_congr (by omega) (fun x a b => ?_)⟩
  cases hb : bit d2 x with
  | true => exact ((iff x a (by omega)).mp hb).symm
  | false =>
    cases hc : mt2 (5 * j + x) i with
    | false => rfl
    | true =>
      rw [(iff x a (by omega)).mpr hc] at hb
      cases hb
end PN11
section N11
variable {l : Launch} {D : jD} {b : Nat} {w : jW} {ad : Nat → Nat} {r : Nat → Option jE} {lp : Bool} {fd : Int} {nr : Int} {nc : Int} {nd : Int} {mc : Int} {lf : Int → Int} {ln : Int → Int} {bd : Int → Int} {tm : Int → Int} {it : Int → Int → Int} {th : Int → Int → Bool} {my : Int → Int} {lps : Int → Int → Int} {em : Int → Int} {mk : Int → Int → Int} {tr : Int → Int → Int → Int} {wg : Bool} {wr : Value} {we : Int} {wc : Int → Int} {wb : Bool} {vg : Bool} {vr : Value} {ve : Int} {vc : Int → Int} {vb : Bool} {sy : Int → Int} {sf : Int → Int} {so : Int → Int} {st : Int → Int} {sn : Int} {ne : Int → Int} {mt : Int → Int → Bool}
set_option maxHeartbeats 4000000 in
theorem c_In_bitCount {d : Int}  (hd : 0 ≤ d ∧ d ≤ 31) : Ct l D b Y_In_bitCount { frames := 0, cells := 0, slots := 0, locals := 0 } [Value.int (iI d)] w (fun v w' => v = some (.int (iI (cnt (bit d) 5))) ∧ w' = w) := by
  refine Ct_of (by decide) (Nat.le_of_ble_eq_true rfl) ?_
  show J l D b Y_In_bitCount _ _ w 0 0 0 [(0, Value.int (iI d))] []
  refine J_iload_n d_In_bitCount_0 rfl 0 rfl ?_
  refine J_iload_n d_In_bitCount_1 rfl 0 rfl ?_
  refine J_iconst d_In_bitCount_2 ?_
  refine J_iushr d_In_bitCount_3 (usr_eq _ _) ?_
  refine J_ldc_w (z := 1431655765) d_In_bitCount_4 cst_In_265 rfl ?_
  refine J_iand d_In_bitCount_7 (anR_eq _ _) ?_
  refine J_isub d_In_bitCount_8 ?_
  obtain ⟨y1, ey1⟩ : ∃ y, y = d - (anR (usr d 1) 1431655765) := ⟨_, rfl⟩
  rw [← ey1]
  refine J_istore_n d_In_bitCount_9 rfl (by decide) rfl ?_
  refine J_iload_n d_In_bitCount_10 rfl 0 rfl ?_
  refine J_ldc_w (z := 858993459) d_In_bitCount_11 cst_In_266 rfl ?_
  refine J_iand d_In_bitCount_14 (anR_eq _ _) ?_
  refine J_iload_n d_In_bitCount_15 rfl 0 rfl ?_
  refine J_iconst d_In_bitCount_16 ?_
  refine J_iushr d_In_bitCount_17 (usr_eq _ _) ?_
  refine J_ldc_w (z := 858993459) d_In_bitCount_18 cst_In_266 rfl ?_
  refine J_iand d_In_bitCount_21 (anR_eq _ _) ?_
  refine J_iadd d_In_bitCount_22 ?_
  obtain ⟨y2, ey2⟩ : ∃ y, y = (anR y1 858993459) + (anR (usr y1 2) 858993459) := ⟨_, rfl⟩
  rw [← ey2]
  refine J_istore_n d_In_bitCount_23 rfl (by decide) rfl ?_
  refine J_iload_n d_In_bitCount_24 rfl 0 rfl ?_
  refine J_iload_n d_In_bitCount_25 rfl 0 rfl ?_
  refine J_iconst d_In_bitCount_26 ?_
  refine J_iushr d_In_bitCount_27 (usr_eq _ _) ?_
  refine J_iadd d_In_bitCount_28 ?_
  refine J_ldc_w (z := 252645135) d_In_bitCount_29 cst_In_267 rfl ?_
  refine J_iand d_In_bitCount_32 (anR_eq _ _) ?_
  obtain ⟨y3, ey3⟩ : ∃ y, y = anR (y2 + (usr y2 4)) 252645135 := ⟨_, rfl⟩
  rw [← ey3]
  refine J_istore_n d_In_bitCount_33 rfl (by decide) rfl ?_
  refine J_iload_n d_In_bitCount_34 rfl 0 rfl ?_
  refine J_iload_n d_In_bitCount_35 rfl 0 rfl ?_
  refine J_bipush d_In_bitCount_36 (by decide) ?_
  refine J_iushr d_In_bitCount_38 (usr_eq _ _) ?_
  refine J_iadd d_In_bitCount_39 ?_
  obtain ⟨y4, ey4⟩ : ∃ y, y = y3 + (usr y3 8) := ⟨_, rfl⟩
  rw [← ey4]
  refine J_istore_n d_In_bitCount_40 rfl (by decide) rfl ?_
  refine J_iload_n d_In_bitCount_41 rfl 0 rfl ?_
  refine J_iload_n d_In_bitCount_42 rfl 0 rfl ?_
  refine J_bipush d_In_bitCount_43 (by decide) ?_
  refine J_iushr d_In_bitCount_45 (usr_eq _ _) ?_
  refine J_iadd d_In_bitCount_46 ?_
  obtain ⟨y5, ey5⟩ : ∃ y, y = y4 + (usr y4 16) := ⟨_, rfl⟩
  rw [← ey5]
  refine J_istore_n d_In_bitCount_47 rfl (by decide) rfl ?_
  refine J_iload_n d_In_bitCount_48 rfl 0 rfl ?_
  refine J_bipush d_In_bitCount_49 (by decide) ?_
  refine J_iand d_In_bitCount_51 (anR_eq _ _) ?_
  refine J_iret rfl d_In_bitCount_52 ⟨Nat.le_of_ble_eq_true rfl, Nat.le_of_ble_eq_true rfl⟩ ?_
  refine ⟨?_, rfl⟩
  obtain ⟨m, rfl⟩ := Int.eq_ofNat_of_zero_le hd.1
  have h9 := bq_key m (by omega)
  rw [ey5, ey4, ey3, ey2, ey1]
  exact congrArg (fun x => some (Value.int x)) h9
set_option maxHeartbeats 4000000 in
theorem c_CF_meetAll {i : Int} {j : Int}  (hg : gOK nr lf ln bd) (htm : ∀ x, 0 ≤ x → x < 12 → -2147483648 ≤ tm x ∧ tm x ≤ 2147483647) (hmk : MkR mk) (hij : 0 ≤ i ∧ i ≤ j ∧ j ≤ 12) : Ct l D b Y_CF_meetAll { frames := 4, cells := 0, slots := 0, locals := 90 } [Value.ref (ad 100), Value.int (iI i), Value.int (iI j)] (ad, cC ad r lp fd nr nr nr mc lf ln bd tm it th my lps em mk tr wg wr we wc wb vg vr ve vc vb sy sf so st sn ne mt) (fun v w' => ∃ mt' g' r' e' cu' b', v = some (.int (iI (cnt (fun x => mt' (5 * j + x) i) 5))) ∧ w' = (ad, cC ad r lp fd nr nr nr mc lf ln bd tm it th my lps em mk tr g' r' e' cu' b' vg vr ve vc vb sy sf so st sn ne mt') ∧ MA nr lf ln bd tm (dvM mk) i j mt mt') := by
  refine Ct_of (by decide) (Nat.le_of_ble_eq_true rfl) ?_
  show J l D b Y_CF_meetAll _ _ (ad, cC ad r lp fd nr nr nr mc lf ln bd tm it th my lps em mk tr wg wr we wc wb vg vr ve vc vb sy sf so st sn ne mt) 0 0 0 [(0, Value.ref (ad 100)), (1, Value.int (iI i)), (2, Value.int (iI j))] []
  refine J_iconst d_CF_meetAll_0 ?_
  refine J_istore_n d_CF_meetAll_1 rfl (by decide) rfl ?_
  refine J_iconst d_CF_meetAll_2 ?_
  refine J_istore d_CF_meetAll_3 (by decide) rfl ?_
  refine J.sub [0, 1, 2, 3, 4] (lv' := [(4, Value.int (iI 1)), (3, Value.int (iI 0)), (0, Value.ref (ad 100)), (1, Value.int (iI i)), (2, Value.int (iI j))]) rfl ?_
  refine J.loop (σ := Bool × Int × (Int → Int → Bool) × Int × (Int → Int → Bool) × Int × Bool × Value × Int × (Int → Int) × Bool) (fun xx_ => match xx_ with | (mo, d1, mt1, d0, mt0, s0, g1, r1, e1, cu1, b1) => (0 ≤ d1 ∧ d1 ≤ 31) ∧ ((mo = true → MP nr lf ln bd tm (dvM mk) i j mt d1 mt1 d1 mt1 false 0) ∧ (mo = false → 5 ≤ s0 ∧ MP nr lf ln bd tm (dvM mk) i j mt d0 mt0 d1 mt1 mo s0))) (fun xx_ => match xx_ with | (mo, d1, mt1, d0, mt0, s0, g1, r1, e1, cu1, b1) => (5 - cnt (bit d1) 5).toNat + (if mo = true then 1 else 0)) (ws := fun xx_ => match xx_ with | (mo, d1, mt1, d0, mt0, s0, g1, r1, e1, cu1, b1) => (ad, cC ad r lp fd nr nr nr mc lf ln bd tm it th my lps em mk tr g1 r1 e1 cu1 b1 vg vr ve vc vb sy sf so st sn ne mt1)) (ks := fun _ => 0) (ns := fun _ => 0) (lvs := fun xx_ => match xx_ with | (mo, d1, mt1, d0, mt0, s0, g1, r1, e1, cu1, b1) => [(4, Value.int (iI (bz mo))), (3, Value.int (iI d1)), (0, Value.ref (ad 100)), (1, Value.int (iI i)), (2, Value.int (iI j))]) (sts := fun _ => []) ?_ (true, 0, mt, 0, mt, 0, wg, wr, we, wc, wb) ?_
  · rintro ⟨mo, d1, mt1, d0, mt0, s0, g1, r1, e1, cu1, b1⟩ hI ih1
    have hI : (0 ≤ d1 ∧ d1 ≤ 31) ∧ ((mo = true → MP nr lf ln bd tm (dvM mk) i j mt d1 mt1 d1 mt1 false 0) ∧ (mo = false → 5 ≤ s0 ∧ MP nr lf ln bd tm (dvM mk) i j mt d0 mt0 d1 mt1 mo s0)) := hI
    obtain ⟨hd1, hM1⟩ := hI
    show J l D b Y_CF_meetAll _ _ (ad, cC ad r lp fd nr nr nr mc lf ln bd tm it th my lps em mk tr g1 r1 e1 cu1 b1 vg vr ve vc vb sy sf so st sn ne mt1) 0 0 5 [(4, Value.int (iI (bz mo))), (3, Value.int (iI d1)), (0, Value.ref (ad 100)), (1, Value.int (iI i)), (2, Value.int (iI j))] []
    refine J_iload d_CF_meetAll_5 0 rfl ?_
    refine J_ifB_eq (tgt := 74) d_CF_meetAll_7 rfl (fun h7_2 => ?_) (fun h7_2 => ?_)
    · refine J_iload_n d_CF_meetAll_74 rfl 1 rfl ?_
      refine J_callS (st := []) [Value.int (iI d1)] ms_CF_261 (c_In_bitCount (by omega)) rfl rfl ⟨Nat.le_of_ble_eq_true rfl, Nat.le_of_ble_eq_true rfl⟩ ⟨Nat.le_of_ble_eq_true rfl, Nat.le_of_ble_eq_true rfl⟩ (Nat.le_of_ble_eq_true rfl) d_CF_meetAll_75 (fun v w' hp => ?_)
      obtain ⟨rfl, rfl⟩ := hp
      show J l D b Y_CF_meetAll _ _ (ad, cC ad r lp fd nr nr nr mc lf ln bd tm it th my lps em mk tr g1 r1 e1 cu1 b1 vg vr ve vc vb sy sf so st sn ne mt1) 0 0 78 [(4, Value.int (iI (bz mo))), (3, Value.int (iI d1)), (0, Value.ref (ad 100)), (1, Value.int (iI i)), (2, Value.int (iI j))] [Value.int (iI (cnt (bit d1) 5))]
      refine J_iret rfl d_CF_meetAll_78 ⟨Nat.le_of_ble_eq_true rfl, Nat.le_of_ble_eq_true rfl⟩ ?_
      obtain ⟨q1, q2⟩ := hM1.2 ‹_›
      obtain ⟨k1, k2⟩ := mp_end q2 q1 ‹_›
      exact ⟨mt1, _, _, _, _, _, by rw [k2], rfl, k1⟩
    · refine J_iconst d_CF_meetAll_10 ?_
      refine J_istore d_CF_meetAll_11 (by decide) rfl ?_
      refine J_iconst d_CF_meetAll_13 ?_
      refine J_istore d_CF_meetAll_14 (by decide) rfl ?_
      refine J.loop (σ := Int × Bool × Int × (Int → Int → Bool) × Bool × Value × Int × (Int → Int) × Bool) (fun xx_ => match xx_ with | (s, mo2, d2, mt2, g2, r2, e2, cu2, b2) => (0 ≤ s ∧ s ≤ 5) ∧ (MP nr lf ln bd tm (dvM mk) i j mt d1 mt1 d2 mt2 mo2 s)) (fun xx_ => match xx_ with | (s, mo2, d2, mt2, g2, r2, e2, cu2, b2) => (5 - s).toNat) (ws := fun xx_ => match xx_ with | (s, mo2, d2, mt2, g2, r2, e2, cu2, b2) => (ad, cC ad r lp fd nr nr nr mc lf ln bd tm it th my lps em mk tr g2 r2 e2 cu2 b2 vg vr ve vc vb sy sf so st sn ne mt2)) (ks := fun _ => 0) (ns := fun _ => 0) (lvs := fun xx_ => match xx_ with | (s, mo2, d2, mt2, g2, r2, e2, cu2, b2) => [(5, Value.int (iI s)), (4, Value.int (iI (bz mo2))), (3, Value.int (iI d2)), (0, Value.ref (ad 100)), (1, Value.int (iI i)), (2, Value.int (iI j))]) (sts := fun _ => []) ?_ (0, false, d1, mt1, g1, r1, e1, cu1, b1) ?_
      · rintro ⟨s, mo2, d2, mt2, g2, r2, e2, cu2, b2⟩ hI ih4
        have hI : (0 ≤ s ∧ s ≤ 5) ∧ (MP nr lf ln bd tm (dvM mk) i j mt d1 mt1 d2 mt2 mo2 s) := hI
        obtain ⟨hs, hM2⟩ := hI
        show J l D b Y_CF_meetAll _ _ (ad, cC ad r lp fd nr nr nr mc lf ln bd tm it th my lps em mk tr g2 r2 e2 cu2 b2 vg vr ve vc vb sy sf so st sn ne mt2) 0 0 16 [(5, Value.int (iI s)), (4, Value.int (iI (bz mo2))), (3, Value.int (iI d2)), (0, Value.ref (ad 100)), (1, Value.int (iI i)), (2, Value.int (iI j))] []
        refine J_iload d_CF_meetAll_16 0 rfl ?_
        refine J_iconst d_CF_meetAll_18 ?_
        refine J_icmp_ge (tgt := 71) d_CF_meetAll_19 rfl (by omega) (by omega) (fun h19_5 => ?_) (fun h19_5 => ?_)
        · refine J_goto (tgt := 5) d_CF_meetAll_71 rfl ?_
          refine J.sub [1, 2, 3, 4, 5] rfl ?_
          exact ih1 (mo2, d2, mt2, d1, mt1, s, g2, r2, e2, cu2, b2) (show (0 ≤ d2 ∧ d2 ≤ 31) ∧ ((mo2 = true → MP nr lf ln bd tm (dvM mk) i j mt d2 mt2 d2 mt2 false 0) ∧ (mo2 = false → 5 ≤ s ∧ MP nr lf ln bd tm (dvM mk) i j mt d1 mt1 d2 mt2 mo2 s)) by
              exact ⟨hM2.1, fun _ => mp_new hM2, fun _ => ⟨by omega, hM2⟩⟩) (show ((5 - cnt (bit d2) 5).toNat + (if mo2 = true then 1 else 0)) < ((5 - cnt (bit d1) 5).toNat + (if mo = true then 1 else 0)) by
              rw [show mo = true by assumption]
              exact mp_mu hM2)
        · refine J_iload_n d_CF_meetAll_22 rfl 2 rfl ?_
          refine J_iload d_CF_meetAll_23 0 rfl ?_
          refine J_ishr d_CF_meetAll_25 (iI_shr (by have := hM2.1; omega) (by omega)) ?_
          refine J_iconst d_CF_meetAll_26 ?_
          refine J_iand d_CF_meetAll_27 (iI_bit (by have := hM2.1; omega)) ?_
          refine J_ifB_ne (tgt := 65) d_CF_meetAll_28 rfl (fun h28_6 => ?_) (fun h28_6 => ?_)
          · refine J_iinc (j := 0) d_CF_meetAll_65 rfl (by decide) rfl ?_
            refine J_goto (tgt := 16) d_CF_meetAll_68 rfl ?_
            exact ih4 (s + 1, mo2, d2, mt2, g2, r2, e2, cu2, b2) (show (0 ≤ (s + 1) ∧ (s + 1) ≤ 5) ∧ (MP nr lf ln bd tm (dvM mk) i j mt d1 mt1 d2 mt2 mo2 (s + 1)) by
                exact ⟨by omega, mp_no hM2 (by first | exact Or.inl ‹_› | exact Or.inr ‹_›)⟩) (show ((5 - (s + 1)).toNat) < ((5 - s).toNat) by
                omega)
          · refine J_aload_n d_CF_meetAll_31 rfl 3 rfl ?_
            refine J_get fs_CF_65 rfl rfl d_CF_meetAll_32 ?_
            refine J_iconst d_CF_meetAll_35 ?_
            refine J_iload_n d_CF_meetAll_36 rfl 5 rfl ?_
            refine J_imul d_CF_meetAll_37 ?_
            refine J_iload d_CF_meetAll_38 0 rfl ?_
            refine J_iadd d_CF_meetAll_40 ?_
            refine J_aald (v := Value.ref (ad (idM ((5 * j) + s)))) rfl rfl (by omega) (by decide) rfl d_CF_meetAll_41 ?_
            refine J_iload_n d_CF_meetAll_42 rfl 4 rfl ?_
            refine J_zald (hidM (k := ((5 * j) + s)) (by omega)) (by omega) (by decide) d_CF_meetAll_43 ?_
            refine J_ifB_eq (tgt := 65) d_CF_meetAll_44 rfl (fun h44_7 => ?_) (fun h44_7 => ?_)
            · refine J_iinc (j := 0) d_CF_meetAll_65 rfl (by decide) rfl ?_
              refine J_goto (tgt := 16) d_CF_meetAll_68 rfl ?_
              exact ih4 (s + 1, mo2, d2, mt2, g2, r2, e2, cu2, b2) (show (0 ≤ (s + 1) ∧ (s + 1) ≤ 5) ∧ (MP nr lf ln bd tm (dvM mk) i j mt d1 mt1 d2 mt2 mo2 (s + 1)) by
                  exact ⟨by omega, mp_no hM2 (by first | exact Or.inl ‹_› | exact Or.inr ‹_›)⟩) (show ((5 - (s + 1)).toNat) < ((5 - s).toNat) by
                  omega)
            · refine J_iload_n d_CF_meetAll_47 rfl 2 rfl ?_
              refine J_iconst d_CF_meetAll_48 ?_
              refine J_iload d_CF_meetAll_49 0 rfl ?_
              refine J_ishl d_CF_meetAll_51 (iI_shl1 (by omega)) ?_
              refine J_ior d_CF_meetAll_52 (iI_or (by have := hM2.1; omega) (by have := p2_rng (s := s) (by omega); omega)) ?_
              refine J_istore_n d_CF_meetAll_53 rfl (by decide) rfl ?_
              refine J_aload_n d_CF_meetAll_54 rfl 3 rfl ?_
              refine J_iload d_CF_meetAll_55 1 rfl ?_
              refine J_iload_n d_CF_meetAll_57 rfl 4 rfl ?_
              refine J_iload_n d_CF_meetAll_58 rfl 5 rfl ?_
              refine J_callV (st := []) [Value.int (iI s), Value.int (iI i), Value.int (iI j)] ms_CF_258 rfl (c_CF_markBelow hg htm hmk (by omega) (by omega)) rfl rfl ⟨Nat.le_of_ble_eq_true rfl, Nat.le_of_ble_eq_true rfl⟩ ⟨Nat.le_of_ble_eq_true rfl, Nat.le_of_ble_eq_true rfl⟩ (Nat.le_of_ble_eq_true rfl) d_CF_meetAll_59 (fun v w' hp => ?_)
              obtain ⟨mt8, g8, r8, e8, cu8, b8, rfl, rfl, hY8⟩ := hp
              show J l D b Y_CF_meetAll _ _ (ad, cC ad r lp fd nr nr nr mc lf ln bd tm it th my lps em mk tr g8 r8 e8 cu8 b8 vg vr ve vc vb sy sf so st sn ne mt8) 0 0 62 [(3, Value.int (iI (orI d2 (p2 s)))), (5, Value.int (iI s)), (4, Value.int (iI (bz mo2))), (0, Value.ref (ad 100)), (1, Value.int (iI i)), (2, Value.int (iI j))] []
              refine J_iconst d_CF_meetAll_62 ?_
              refine J_istore d_CF_meetAll_63 (by decide) rfl ?_
              refine J_iinc (j := 2) d_CF_meetAll_65 rfl (by decide) rfl ?_
              refine J_goto (tgt := 16) d_CF_meetAll_68 rfl ?_
              exact ih4 (s + 1, true, orI d2 (p2 s), mt8, g8, r8, e8, cu8, b8) (show (0 ≤ (s + 1) ∧ (s + 1) ≤ 5) ∧ (MP nr lf ln bd tm (dvM mk) i j mt d1 mt1 (orI d2 (p2 s)) mt8 true (s + 1)) by
                  exact ⟨by omega, mp_yes hM2 (by omega) ‹_› ‹_› hY8⟩) (show ((5 - (s + 1)).toNat) < ((5 - s).toNat) by
                  omega)
      · show (0 ≤ (0 : Int) ∧ (0 : Int) ≤ 5) ∧ (MP nr lf ln bd tm (dvM mk) i j mt d1 mt1 d1 mt1 false (0 : Int))
        exact ⟨by omega, hM1.1 ‹_›⟩
  · show (0 ≤ (0 : Int) ∧ (0 : Int) ≤ 31) ∧ ((true = true → MP nr lf ln bd tm (dvM mk) i j mt (0 : Int) mt (0 : Int) mt false 0) ∧ (true = false → 5 ≤ (0 : Int) ∧ MP nr lf ln bd tm (dvM mk) i j mt (0 : Int) mt (0 : Int) mt true (0 : Int)))
    exact ⟨by omega, fun _ => mp_0, (fun h => by cases h)⟩
end N11
