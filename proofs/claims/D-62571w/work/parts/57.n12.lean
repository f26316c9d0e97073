/-! nodes of the component in words -/
def mY (mt : Int → Int → Bool) (y : Int) : Bool := mt (5 * (y % 13) + y / 169) (y % 169 / 13)
def MtR (mt : Int → Int → Bool) : Prop := ∀ z, mS mt z → (0 ≤ z.1 ∧ z.1 < 65) ∧ (0 ≤ z.2 ∧ z.2 < 13)
def prB (fd L i y : Int) : Bool := decide ((y % 169 / 13 ≤ y % 13 ∧ y % 13 ≤ fd) ∧ (L < y % 13 - y % 169 / 13 ∨ (y % 13 - y % 169 / 13 = L ∧ y % 169 / 13 < i)))
theorem cnt_str {P P' Q : Int → Bool} {i j : Int} (hij : 0 ≤ i ∧ i ≤ 12 ∧ 0 ≤ j ∧ j ≤ 12) (h0 : ∀ y, 0 ≤ y → y < 845 → y % 169 / 13 = i → y % 13 = j → P y = false) (h1 : ∀ y, 0 ≤ y → y < 845 → P' y = if y % 169 / 13 = i ∧ y % 13 = j then Q (y / 169) else P y) : cnt P' 845 = cnt P 845 + cnt Q 5 := by
  have step : ∀ k, 0 ≤ k → k ≤ 5 → cnt (fun y => if (y % 169 / 13 = i ∧ y % 13 = j) ∧ y / 169 < k then Q (y / 169) else P y) 845 = cnt P 845 + cnt Q k := by
    intro k hk
    refine int_ind (Q := fun k => k ≤ 5 → cnt (fun y => if (y % 169 / 13 = i ∧ y % 13 = j) ∧ y / 169 < k then Q (y / 169) else P y) 845 = cnt P 845 + cnt Q k) ?_ ?_ k hk
    · intro _
      rw [cnt_0, Int.add_zero]
      exact cnt_congr (by omega) (fun y a b => if_neg (by omega))
    · intro k hk ih h5
      rw [cnt_s Q hk]
      have ih := ih (by omega)
      by_cases hq : Q k = true
      · rw [if_pos hq, ← Int.add_assoc, ← ih]
        have e := cnt_up1 (P := fun y => if (y % 169 / 13 = i ∧ y % 13 = j) ∧ y / 169 < k then Q (y / 169) else P y) (c := 169 * k + 13 * i + j) 845 (by omega) ⟨by omega, by
          show ¬ (if ((169 * k + 13 * i + j) % 169 / 13 = i ∧ (169 * k + 13 * i + j) % 13 = j) ∧ (169 * k + 13 * i + j) / 169 < k then Q ((169 * k + 13 * i + j) / 169) else P (169 * k + 13 * i + j)) = true
          rw [if_neg (by omega), h0 _ (by omega) (by omega) (by omega) (by omega)]
          decide⟩
        rw [if_pos (by omega)] at e
        rw [← e]
        refine cnt_congr (by omega) (fun y a b => ?_)
        rw [upI_ap]
        by_cases hy : y = 169 * k + 13 * i + j
        · rw [if_pos hy, if_pos (by omega), show y / 169 = k by omega]
          exact hq
        · rw [if_neg hy]
          by_cases hc : (y % 169 / 13 = i ∧ y % 13 = j) ∧ y / 169 < k
          · rw [if_pos hc, if_pos (by omega)]
          · rw [if_neg hc, if_neg (by omega)]
      · rw [if_neg hq, ← ih]
        refine cnt_congr (by omega) (fun y a b => ?_)
        by_cases hc : (y % 169 / 13 = i ∧ y % 13 = j) ∧ y / 169 < k
        · rw [if_pos hc, if_pos (by omega)]
        · rw [if_neg hc]
          by_cases hc2 : (y % 169 / 13 = i ∧ y % 13 = j) ∧ y / 169 < k + 1
          · rw [if_pos hc2, show y / 169 = k by omega, h0 y a b hc2.1.1 hc2.1.2]
            cases hqq : Q k with
            | false => rfl
            | true => exact absurd hqq hq
          · rw [if_neg hc2]
  rw [← step 5 (by omega) (by omega)]
  refine cnt_congr (by omega) (fun y a b => ?_)
  rw [h1 y a b]
  by_cases hc : y % 169 / 13 = i ∧ y % 13 = j
  · rw [if_pos hc, if_pos ⟨hc, by omega⟩]
  · rw [if_neg hc, if_neg (fun h => hc h.1)]
theorem kz_sub {nr : Int} {lf ln bd tm : Int → Int} {dv : Int → Int → Int → Bool} {s i j : Int} {z : Int × Int} (hg : gOK nr lf ln bd) (hij : 0 ≤ i ∧ i ≤ j ∧ j ≤ 12) (h : Kz nr lf ln bd tm dv s i j z) : ∃ x a b, (0 ≤ x ∧ x ≤ 4) ∧ (i ≤ a ∧ a ≤ b ∧ b ≤ j) ∧ z = (5 * b + x, a) := by
  obtain ⟨q, h1, h2, k, h3, h4, h5⟩ := h
  obtain ⟨w1, w2, w3, w4⟩ := wl_in (fun r a b => hg.2.2.1 r a (by have := hg.1; omega)) hij h1
  have hl := hg.2.2.1 q.1 w1 (by have := hg.1; omega)
  have hb := hg.2.2.2.1 (3 * q.1 + k) (by omega) (by have := hg.1; omega)
  have hbb : bsM bd q.1 k = bd (3 * q.1 + k) := rfl
  have r1 := cutV_rng (n := ln q.1) (k := k) w4
  have r2 := cutV_rng (n := ln q.1) (k := k + 1) w4
  have r3 := cutV_mono (k := k) w4 hl.2 h3
  exact ⟨bsM bd q.1 k, _, _, by omega, ⟨r1.1, r3, r2.2⟩, h5⟩
/-- while nodes goes: all longer stretches, and those of the length L that begin before i, have been gone through -/
def NI (nr : Int) (lf ln bd tm : Int → Int) (dv : Int → Int → Int → Bool) (fd L i : Int) (mt : Int → Int → Bool) (n : Int) : Prop :=
  mS mt (5 * fd, 0) ∧ (∀ U : Int × Int → Prop, U (5 * fd, 0) → (∀ a b x, 0 ≤ a → a ≤ b → b ≤ fd → 0 ≤ x → x ≤ 4 → U (5 * b + x, a) → ∀ z, Kz nr lf ln bd tm dv x a b z → U z) → ∀ z, mS mt z → U z) ∧
  (∀ a b x, 0 ≤ a → a ≤ b → b ≤ fd → 0 ≤ x → x ≤ 4 → (L < b - a ∨ (b - a = L ∧ a < i)) → mS mt (5 * b + x, a) → ∀ z, Kz nr lf ln bd tm dv x a b z → mS mt z) ∧ n = cnt (fun y => prB fd L i y && mY mt y) 845
section PN12
variable {nr : Int} {lf ln bd tm : Int → Int} {dv : Int → Int → Int → Bool} {fd L i n : Int} {mt mt' : Int → Int → Bool}
theorem ni_0 (hf : 0 ≤ fd ∧ fd ≤ 12) (hL : L = fd) : NI nr lf ln bd tm dv fd L 0 (upI (fun _ _ => false) (5 * fd) (upI (fun _ => false) 0 true)) 0 := by
  have e : ∀ z, mS (upI (fun _ _ => false) (5 * fd) (upI (fun _ => false) 0 true)) z ↔ z = (5 * fd, 0) := fun z => (mS_up (mt := fun _ _ => false) z).trans ⟨fun h => h.elim (fun h => by cases h) id, Or.inr⟩
  refine ⟨(e _).mpr rfl, fun U u1 u2 z h => by rw [(e z).mp h]; exact u1, fun a b x h1 h2 h3 h4 h5 h6 => by omega, ?_⟩
  refine (cnt_none (by omega) (fun y a b h => ?_)).symm
  rw [Bool.and_eq_true] at h
  have := of_decide_eq_true h.1
  omega
theorem ni_step (hg : gOK nr lf ln bd) (hf : 0 ≤ fd ∧ fd ≤ 12) (h : NI nr lf ln bd tm dv fd L i mt n) (hi : 0 ≤ i ∧ 0 ≤ L ∧ i + L ≤ fd) (hM : MA nr lf ln bd tm dv i (i + L) mt mt') : NI nr lf ln bd tm dv fd L (i + 1) mt' (n + cnt (fun x => mt' (5 * (i + L) + x) i) 5) := by
  obtain ⟨h1, h2, h3, h4⟩ := h
  obtain ⟨m1, m2, m3⟩ := hM
  -- marks come only within the stretch
  have sub : ∀ z, mS mt' z → mS mt z ∨ ∃ x a b, (0 ≤ x ∧ x ≤ 4) ∧ (i ≤ a ∧ a ≤ b ∧ b ≤ i + L) ∧ z = (5 * b + x, a) := m2 _ (fun z => Or.inl) (fun x a b _ z hz => Or.inr (kz_sub hg (by omega) hz))
  have same : ∀ a b x, 0 ≤ a → a ≤ b → b ≤ fd → 0 ≤ x → x ≤ 4 → (L < b - a ∨ (b - a = L ∧ a < i)) → (mS mt' (5 * b + x, a) ↔ mS mt (5 * b + x, a)) := by
    intro a b x a1 a2 a3 a4 a5 a6
    refine ⟨fun e => ?_, m1 _⟩
    rcases sub _ e with e | ⟨x', a', b', e1, e2, e3⟩
    · exact e
    · have f1 := congrArg Prod.fst e3
      have f2 := congrArg Prod.snd e3
      simp only at f1 f2
      omega
  refine ⟨m1 _ h1, fun U u1 u2 z hz => m2 U (h2 U u1 u2) (fun x a b c => u2 i (i + L) x (by omega) (by omega) (by omega) a b c) z hz, fun a b x a1 a2 a3 a4 a5 a6 a7 z hz => ?_, ?_⟩
  · by_cases hab : a = i ∧ b = i + L
    · rw [hab.1, hab.2] at a7 hz
      exact m3 x a4 a5 a7 z hz
    · have a8 : L < b - a ∨ (b - a = L ∧ a < i) := by omega
      exact m1 z (h3 a b x a1 a2 a3 a4 a5 a8 ((same a b x a1 a2 a3 a4 a5 a8).mp a7) z hz)
  · rw [h4]
    refine (cnt_str (i := i) (j := i + L) (by omega) (fun y a b c d => ?_) (fun y a b => ?_)).symm
    · have : prB fd L i y = false := decide_eq_false (by omega)
      rw [this]
      rfl
    · by_cases hc : y % 169 / 13 = i ∧ y % 13 = i + L
      · rw [if_pos hc]
        have : prB fd L (i + 1) y = true := decide_eq_true (by omega)
        rw [this]
        unfold mY
        rw [hc.1, hc.2]
        rfl
      · rw [if_neg hc]
        by_cases hp : prB fd L i y = true
        · have hp' := of_decide_eq_true hp
          have : prB fd L (i + 1) y = true := decide_eq_true (by omega)
          rw [this, hp]
          have e := same (y % 169 / 13) (y % 13) (y / 169) (by omega) hp'.1.1 hp'.1.2 (by omega) (by omega) hp'.2
          show (true && mt' _ _) = (true && mt _ _)
          rw [Bool.true_and, Bool.true_and]
          cases e1 : mt (5 * (y % 13) + y / 169) (y % 169 / 13) with
          | true => exact e.mpr e1
          | false =>
            cases e2 : mt' (5 * (y % 13) + y / 169) (y % 169 / 13) with
            | false => rfl
            | true => rw [← e1]; exact (e.mp e2).symm
        · have hp2 : prB fd L i y = false := by
            cases e : prB fd L i y with
            | false => rfl
            | true => exact absurd e hp
          have hp' := of_decide_eq_false hp2
          have : prB fd L (i + 1) y = false := decide_eq_false (by omega)
          rw [this, hp2]
          rfl
theorem ni_len (h : NI nr lf ln bd tm dv fd L i mt n) (hi : fd < i + L) (hiL : 0 ≤ i) : NI nr lf ln bd tm dv fd (L + (-1)) 0 mt n := by
  obtain ⟨h1, h2, h3, h4⟩ := h
  refine ⟨h1, h2, fun a b x a1 a2 a3 a4 a5 a6 => h3 a b x a1 a2 a3 a4 a5 (by omega), ?_⟩
  rw [h4]
  refine cnt_congr (by omega) (fun y a b => ?_)
  have : prB fd L i y = prB fd (L + (-1)) 0 y := by
    unfold prB
    congr 1
    exact propext ⟨fun ⟨p, q⟩ => ⟨p, by omega⟩, fun ⟨p, q⟩ => ⟨p, by omega⟩⟩
  rw [this]
theorem ma_rng (hg : gOK nr lf ln bd) {j : Int} (hij : 0 ≤ i ∧ i ≤ j ∧ j ≤ 12) (h : MtR mt) (hM : MA nr lf ln bd tm dv i j mt mt') : MtR mt' := by
  refine hM.2.1 (fun z => (0 ≤ z.1 ∧ z.1 < 65) ∧ (0 ≤ z.2 ∧ z.2 < 13)) h (fun x a b _ z hz => ?_)
  obtain ⟨x', a', b', e1, e2, e3⟩ := kz_sub hg hij hz
  rw [e3]
  show (0 ≤ 5 * b' + x' ∧ 5 * b' + x' < 65) ∧ (0 ≤ a' ∧ a' < 13)
  omega
end PN12
/-- the end of nodes -/
def NE (nr : Int) (lf ln bd tm : Int → Int) (dv : Int → Int → Int → Bool) (fd : Int) (mt : Int → Int → Bool) (n : Int) : Prop := NI nr lf ln bd tm dv fd (-1) 0 mt n
section N12
variable {l : Launch} {D : jD} {b : Nat} {w : jW} {ad : Nat → Nat} {r : Nat → Option jE} {lp : Bool} {fd : Int} {nr : Int} {nc : Int} {nd : Int} {mc : Int} {lf : Int → Int} {ln : Int → Int} {bd : Int → Int} {tm : Int → Int} {it : Int → Int → Int} {th : Int → Int → Bool} {my : Int → Int} {lps : Int → Int → Int} {em : Int → Int} {mk : Int → Int → Int} {tr : Int → Int → Int → Int} {wg : Bool} {wr : Value} {we : Int} {wc : Int → Int} {wb : Bool} {vg : Bool} {vr : Value} {ve : Int} {vc : Int → Int} {vb : Bool} {sy : Int → Int} {sf : Int → Int} {so : Int → Int} {st : Int → Int} {sn : Int} {ne : Int → Int} {mt : Int → Int → Bool}
set_option maxHeartbeats 4000000 in
theorem c_CF_nodes   (hg : gOK nr lf ln bd) (htm : ∀ x, 0 ≤ x → x < 12 → -2147483648 ≤ tm x ∧ tm x ≤ 2147483647) (hmk : MkR mk) (hf : 0 ≤ fd ∧ fd ≤ 12) (hmt : MtR mt) : Ct l D b Y_CF_nodes { frames := 5, cells := 0, slots := 0, locals := 115 } [Value.ref (ad 100)] (ad, cC ad r lp fd nr nr nr mc lf ln bd tm it th my lps em mk tr wg wr we wc wb vg vr ve vc vb sy sf so st sn ne mt) (fun v w' => ∃ z mt' g' r' e' cu' b', v = some (.int (iI z)) ∧ w' = (ad, cC ad r lp fd nr nr nr mc lf ln bd tm it th my lps em mk tr g' r' e' cu' b' vg vr ve vc vb sy sf so st sn ne mt') ∧ MtR mt' ∧ ((dvM mk 0 0 fd = false ∧ z = 0) ∨ (dvM mk 0 0 fd = true ∧ NE nr lf ln bd tm (dvM mk) fd mt' z))) := by
  refine Ct_of (by decide) (Nat.le_of_ble_eq_true rfl) ?_
  show J l D b Y_CF_nodes _ _ (ad, cC ad r lp fd nr nr nr mc lf ln bd tm it th my lps em mk tr wg wr we wc wb vg vr ve vc vb sy sf so st sn ne mt) 0 0 0 [(0, Value.ref (ad 100))] []
  refine J_aload_n d_CF_nodes_0 rfl 0 rfl ?_
  refine J_iconst d_CF_nodes_1 ?_
  refine J_iconst d_CF_nodes_2 ?_
  refine J_aload_n d_CF_nodes_3 rfl 0 rfl ?_
  refine J_get fs_CF_109 rfl rfl d_CF_nodes_4 ?_
  refine J_callV (st := []) [Value.int (iI 0), Value.int (iI 0), Value.int (iI fd)] ms_CF_251 rfl (c_CF_derives htm hmk (by omega) (by omega)) rfl rfl ⟨Nat.le_of_ble_eq_true rfl, Nat.le_of_ble_eq_true rfl⟩ ⟨Nat.le_of_ble_eq_true rfl, Nat.le_of_ble_eq_true rfl⟩ (Nat.le_of_ble_eq_true rfl) d_CF_nodes_7 (fun v w' hp => ?_)
  obtain ⟨rfl, rfl⟩ := hp
  show J l D b Y_CF_nodes _ _ (ad, cC ad r lp fd nr nr nr mc lf ln bd tm it th my lps em mk tr wg wr we wc wb vg vr ve vc vb sy sf so st sn ne mt) 0 0 10 [(0, Value.ref (ad 100))] [Value.int (iI (bz (dsy tm (dvM mk) 0 0 fd)))]
  refine J_ifB_ne (tgt := 15) d_CF_nodes_10 rfl (fun h10_2 => ?_) (fun h10_2 => ?_)
  · refine J_iconst d_CF_nodes_15 ?_
    refine J_istore_n d_CF_nodes_16 rfl (by decide) rfl ?_
    refine J.sub [0, 1] (lv' := [(1, Value.int (iI 0)), (0, Value.ref (ad 100))]) rfl ?_
    refine J.loop (σ := Int × (Int → Int → Bool)) (fun xx_ => match xx_ with | (k, mt1) => (0 ≤ k ∧ k ≤ 65) ∧ (MtR mt1 ∧ ∀ x y, 0 ≤ x → x < k → mt1 x y = false)) (fun xx_ => match xx_ with | (k, mt1) => (65 - k).toNat) (ws := fun xx_ => match xx_ with | (k, mt1) => (ad, cC ad r lp fd nr nr nr mc lf ln bd tm it th my lps em mk tr wg wr we wc wb vg vr ve vc vb sy sf so st sn ne mt1)) (ks := fun _ => 0) (ns := fun _ => 0) (lvs := fun xx_ => match xx_ with | (k, mt1) => [(1, Value.int (iI k)), (0, Value.ref (ad 100))]) (sts := fun _ => []) ?_ (0, mt) ?_
    · rintro ⟨k, mt1⟩ hI ih3
      have hI : (0 ≤ k ∧ k ≤ 65) ∧ (MtR mt1 ∧ ∀ x y, 0 ≤ x → x < k → mt1 x y = false) := hI
      obtain ⟨hk, h1⟩ := hI
      show J l D b Y_CF_nodes _ _ (ad, cC ad r lp fd nr nr nr mc lf ln bd tm it th my lps em mk tr wg wr we wc wb vg vr ve vc vb sy sf so st sn ne mt1) 0 0 17 [(1, Value.int (iI k)), (0, Value.ref (ad 100))] []
      refine J_iload_n d_CF_nodes_17 rfl 0 rfl ?_
      refine J_aload_n d_CF_nodes_18 rfl 1 rfl ?_
      refine J_get fs_CF_65 rfl rfl d_CF_nodes_19 ?_
      refine J_alen rfl d_CF_nodes_22 ?_
      refine J_icmp_ge (tgt := 55) d_CF_nodes_23 rfl (by omega) (by omega) (fun h23_4 => ?_) (fun h23_4 => ?_)
      · have hm0 : mt1 = fun _ _ => false := by
          funext x y
          cases e : mt1 x y with
          | false => rfl
          | true =>
            have := (h1.1 (x, y) e).1
            simp only at this
            rw [h1.2 x y this.1 (by omega)] at e
            cases e
        refine J_aload_n d_CF_nodes_55 rfl 1 rfl ?_
        refine J_get fs_CF_65 rfl rfl d_CF_nodes_56 ?_
        refine J_iconst d_CF_nodes_59 ?_
        refine J_aload_n d_CF_nodes_60 rfl 1 rfl ?_
        refine J_get fs_CF_109 rfl rfl d_CF_nodes_61 ?_
        refine J_imul d_CF_nodes_64 ?_
        refine J_aald (v := Value.ref (ad (idM (5 * fd)))) rfl rfl (by omega) (by decide) rfl d_CF_nodes_65 ?_
        refine J_iconst d_CF_nodes_66 ?_
        refine J_iconst d_CF_nodes_67 ?_
        refine J.top (show Value.int (iI 1) = Value.int (iI (bz true)) from rfl) ?_
        refine J_zast (hidM (k := (5 * fd)) (by omega)) (by omega) (by decide) (uidM_mt (k := (5 * fd)) (by omega)) d_CF_nodes_68 ?_
        refine J_iconst d_CF_nodes_69 ?_
        refine J_istore_n d_CF_nodes_70 rfl (by decide) rfl ?_
        refine J_aload_n d_CF_nodes_71 rfl 1 rfl ?_
        refine J_get fs_CF_109 rfl rfl d_CF_nodes_72 ?_
        refine J_istore_n d_CF_nodes_75 rfl (by decide) rfl ?_
        refine J.sub [0, 1, 2] (lv' := [(2, Value.int (iI fd)), (1, Value.int (iI 0)), (0, Value.ref (ad 100))]) rfl ?_
        refine J.loop (σ := Int × Int × (Int → Int → Bool) × Bool × Value × Int × (Int → Int) × Bool) (fun xx_ => match xx_ with | (L, n, mt3, g1, r1, e1, cu1, b1) => (-1 ≤ L ∧ L ≤ fd) ∧ (MtR mt3 ∧ NI nr lf ln bd tm (dvM mk) fd L 0 mt3 n)) (fun xx_ => match xx_ with | (L, n, mt3, g1, r1, e1, cu1, b1) => (L + 1).toNat) (ws := fun xx_ => match xx_ with | (L, n, mt3, g1, r1, e1, cu1, b1) => (ad, cC ad r lp fd nr nr nr mc lf ln bd tm it th my lps em mk tr g1 r1 e1 cu1 b1 vg vr ve vc vb sy sf so st sn ne mt3)) (ks := fun _ => 0) (ns := fun _ => 0) (lvs := fun xx_ => match xx_ with | (L, n, mt3, g1, r1, e1, cu1, b1) => [(2, Value.int (iI L)), (1, Value.int (iI n)), (0, Value.ref (ad 100))]) (sts := fun _ => []) ?_ (fd, 0, upI mt1 (5 * fd) (upI (mt1 (5 * fd)) 0 true), wg, wr, we, wc, wb) ?_
        · rintro ⟨L, n, mt3, g1, r1, e1, cu1, b1⟩ hI ih5
          have hI : (-1 ≤ L ∧ L ≤ fd) ∧ (MtR mt3 ∧ NI nr lf ln bd tm (dvM mk) fd L 0 mt3 n) := hI
          obtain ⟨hL, h3⟩ := hI
          show J l D b Y_CF_nodes _ _ (ad, cC ad r lp fd nr nr nr mc lf ln bd tm it th my lps em mk tr g1 r1 e1 cu1 b1 vg vr ve vc vb sy sf so st sn ne mt3) 0 0 76 [(2, Value.int (iI L)), (1, Value.int (iI n)), (0, Value.ref (ad 100))] []
          refine J_iload_n d_CF_nodes_76 rfl 0 rfl ?_
          refine J_if_lt (tgt := 115) d_CF_nodes_77 rfl (by omega) (fun h77_6 => ?_) (fun h77_6 => ?_)
          · refine J_iload_n d_CF_nodes_115 rfl 1 rfl ?_
            refine J_iret rfl d_CF_nodes_116 ⟨Nat.le_of_ble_eq_true rfl, Nat.le_of_ble_eq_true rfl⟩ ?_
            refine ⟨n, mt3, _, _, _, _, _, rfl, rfl, h3.1, Or.inr ⟨‹_›, ?_⟩⟩
            have h9 := h3.2
            rw [show L = -1 by omega] at h9
            exact h9
          · refine J_iconst d_CF_nodes_80 ?_
            refine J_istore_n d_CF_nodes_81 rfl (by decide) rfl ?_
            refine J.loop (σ := Int × Int × (Int → Int → Bool) × Bool × Value × Int × (Int → Int) × Bool) (fun xx_ => match xx_ with | (i, n2, mt4, g2, r2, e2, cu2, b2) => (0 ≤ i ∧ i ≤ 14) ∧ (MtR mt4 ∧ NI nr lf ln bd tm (dvM mk) fd L i mt4 n2)) (fun xx_ => match xx_ with | (i, n2, mt4, g2, r2, e2, cu2, b2) => (14 - i).toNat) (ws := fun xx_ => match xx_ with | (i, n2, mt4, g2, r2, e2, cu2, b2) => (ad, cC ad r lp fd nr nr nr mc lf ln bd tm it th my lps em mk tr g2 r2 e2 cu2 b2 vg vr ve vc vb sy sf so st sn ne mt4)) (ks := fun _ => 0) (ns := fun _ => 0) (lvs := fun xx_ => match xx_ with | (i, n2, mt4, g2, r2, e2, cu2, b2) => [(3, Value.int (iI i)), (2, Value.int (iI L)), (1, Value.int (iI n2)), (0, Value.ref (ad 100))]) (sts := fun _ => []) ?_ (0, n, mt3, g1, r1, e1, cu1, b1) ?_
            · rintro ⟨i, n2, mt4, g2, r2, e2, cu2, b2⟩ hI ih7
              have hI : (0 ≤ i ∧ i ≤ 14) ∧ (MtR mt4 ∧ NI nr lf ln bd tm (dvM mk) fd L i mt4 n2) := hI
              obtain ⟨hi4, h4⟩ := hI
              show J l D b Y_CF_nodes _ _ (ad, cC ad r lp fd nr nr nr mc lf ln bd tm it th my lps em mk tr g2 r2 e2 cu2 b2 vg vr ve vc vb sy sf so st sn ne mt4) 0 0 82 [(3, Value.int (iI i)), (2, Value.int (iI L)), (1, Value.int (iI n2)), (0, Value.ref (ad 100))] []
              refine J_iload_n d_CF_nodes_82 rfl 0 rfl ?_
              refine J_iload_n d_CF_nodes_83 rfl 1 rfl ?_
              refine J_iadd d_CF_nodes_84 ?_
              refine J_aload_n d_CF_nodes_85 rfl 3 rfl ?_
              refine J_get fs_CF_109 rfl rfl d_CF_nodes_86 ?_
              refine J_icmp_gt (tgt := 109) d_CF_nodes_89 rfl (by omega) (by omega) (fun h89_8 => ?_) (fun h89_8 => ?_)
              · refine J_iinc (j := 1) d_CF_nodes_109 rfl (by decide) rfl ?_
                refine J_goto (tgt := 76) d_CF_nodes_112 rfl ?_
                refine J.sub [0, 2, 3] rfl ?_
                exact ih5 (L + (-1), n2, mt4, g2, r2, e2, cu2, b2) (show (-1 ≤ (L + (-1)) ∧ (L + (-1)) ≤ fd) ∧ (MtR mt4 ∧ NI nr lf ln bd tm (dvM mk) fd (L + (-1)) 0 mt4 n2) by
                    exact ⟨by omega, h4.1, ni_len h4.2 (by omega) (by omega)⟩) (show (((L + (-1)) + 1).toNat) < ((L + 1).toNat) by
                    omega)
              · refine J_iload_n d_CF_nodes_92 rfl 2 rfl ?_
                refine J_aload_n d_CF_nodes_93 rfl 3 rfl ?_
                refine J_iload_n d_CF_nodes_94 rfl 0 rfl ?_
                refine J_iload_n d_CF_nodes_95 rfl 0 rfl ?_
                refine J_iload_n d_CF_nodes_96 rfl 1 rfl ?_
                refine J_iadd d_CF_nodes_97 ?_
                refine J_callV (st := [Value.int (iI n2)]) [Value.int (iI i), Value.int (iI (i + L))] ms_CF_254 rfl (c_CF_meetAll hg htm hmk (by omega)) rfl rfl ⟨Nat.le_of_ble_eq_true rfl, Nat.le_of_ble_eq_true rfl⟩ ⟨Nat.le_of_ble_eq_true rfl, Nat.le_of_ble_eq_true rfl⟩ (Nat.le_of_ble_eq_true rfl) d_CF_nodes_98 (fun v w' hp => ?_)
                obtain ⟨mt9, g9, r9, e9, cu9, b9, rfl, rfl, hMA9⟩ := hp
                show J l D b Y_CF_nodes _ _ (ad, cC ad r lp fd nr nr nr mc lf ln bd tm it th my lps em mk tr g9 r9 e9 cu9 b9 vg vr ve vc vb sy sf so st sn ne mt9) 0 0 101 [(3, Value.int (iI i)), (2, Value.int (iI L)), (1, Value.int (iI n2)), (0, Value.ref (ad 100))] [Value.int (iI (cnt (fun x => mt9 (5 * (i + L) + x) i) 5)), Value.int (iI n2)]
                refine J_iadd d_CF_nodes_101 ?_
                refine J_istore_n d_CF_nodes_102 rfl (by decide) rfl ?_
                refine J_iinc (j := 1) d_CF_nodes_103 rfl (by decide) rfl ?_
                refine J_goto (tgt := 82) d_CF_nodes_106 rfl ?_
                refine J.sub [0, 2, 1, 3] rfl ?_
                exact ih7 (i + 1, n2 + (cnt (fun x => mt9 (5 * (i + L) + x) i) 5), mt9, g9, r9, e9, cu9, b9) (show (0 ≤ (i + 1) ∧ (i + 1) ≤ 14) ∧ (MtR mt9 ∧ NI nr lf ln bd tm (dvM mk) fd L (i + 1) mt9 (n2 + (cnt (fun x => mt9 (5 * (i + L) + x) i) 5))) by
                    exact ⟨by omega, ma_rng hg (by omega) h4.1 hMA9, ni_step hg hf h4.2 (by omega) hMA9⟩) (show ((14 - (i + 1)).toNat) < ((14 - i).toNat) by
                    omega)
            · show (0 ≤ (0 : Int) ∧ (0 : Int) ≤ 14) ∧ (MtR mt3 ∧ NI nr lf ln bd tm (dvM mk) fd L (0 : Int) mt3 n)
              exact ⟨by omega, h3⟩
        · show (-1 ≤ fd ∧ fd ≤ fd) ∧ (MtR (upI mt1 (5 * fd) (upI (mt1 (5 * fd)) 0 true)) ∧ NI nr lf ln bd tm (dvM mk) fd fd 0 (upI mt1 (5 * fd) (upI (mt1 (5 * fd)) 0 true)) (0 : Int))
          refine ⟨by omega, ?_, ?_⟩
          · rw [hm0]
            intro z hz
            have hz' := ((mS_up (mt := fun _ _ => false) z).mp hz).elim (fun h => by cases h) id
            rw [hz']
            show (0 ≤ 5 * fd ∧ 5 * fd < 65) ∧ ((0 : Int) ≤ 0 ∧ (0 : Int) < 13)
            omega
          · rw [hm0]
            exact ni_0 hf rfl
      · refine J_iconst d_CF_nodes_26 ?_
        refine J_istore_n d_CF_nodes_27 rfl (by decide) rfl ?_
        refine J.loop (σ := Int × (Int → Int → Bool)) (fun xx_ => match xx_ with | (i, mt2) => (0 ≤ i ∧ i ≤ 13) ∧ (MtR mt2 ∧ (∀ x y, 0 ≤ x → x < k → mt2 x y = false) ∧ ∀ y, 0 ≤ y → y < i → mt2 k y = false)) (fun xx_ => match xx_ with | (i, mt2) => (13 - i).toNat) (ws := fun xx_ => match xx_ with | (i, mt2) => (ad, cC ad r lp fd nr nr nr mc lf ln bd tm it th my lps em mk tr wg wr we wc wb vg vr ve vc vb sy sf so st sn ne mt2)) (ks := fun _ => 0) (ns := fun _ => 0) (lvs := fun xx_ => match xx_ with | (i, mt2) => [(2, Value.int (iI i)), (1, Value.int (iI k)), (0, Value.ref (ad 100))]) (sts := fun _ => []) ?_ (0, mt1) ?_
        · rintro ⟨i, mt2⟩ hI ih10
          have hI : (0 ≤ i ∧ i ≤ 13) ∧ (MtR mt2 ∧ (∀ x y, 0 ≤ x → x < k → mt2 x y = false) ∧ ∀ y, 0 ≤ y → y < i → mt2 k y = false) := hI
          obtain ⟨hi, h2⟩ := hI
          show J l D b Y_CF_nodes _ _ (ad, cC ad r lp fd nr nr nr mc lf ln bd tm it th my lps em mk tr wg wr we wc wb vg vr ve vc vb sy sf so st sn ne mt2) 0 0 28 [(2, Value.int (iI i)), (1, Value.int (iI k)), (0, Value.ref (ad 100))] []
          refine J_iload_n d_CF_nodes_28 rfl 0 rfl ?_
          refine J_bipush d_CF_nodes_29 (by decide) ?_
          refine J_icmp_ge (tgt := 49) d_CF_nodes_31 rfl (by omega) (by omega) (fun h31_11 => ?_) (fun h31_11 => ?_)
          · refine J_iinc (j := 1) d_CF_nodes_49 rfl (by decide) rfl ?_
            refine J_goto (tgt := 17) d_CF_nodes_52 rfl ?_
            refine J.sub [0, 2] rfl ?_
            exact ih3 (k + 1, mt2) (show (0 ≤ (k + 1) ∧ (k + 1) ≤ 65) ∧ (MtR mt2 ∧ ∀ x y, 0 ≤ x → x < (k + 1) → mt2 x y = false) by
                refine ⟨by omega, h2.1, fun x y a b => ?_⟩
                by_cases hx : x = k
                · rw [hx]
                  cases e : mt2 k y with
                  | false => rfl
                  | true =>
                    have := (h2.1 (k, y) e).2
                    simp only at this
                    rw [h2.2.2 y this.1 (by omega)] at e
                    cases e
                · exact h2.2.1 x y a (by omega)) (show ((65 - (k + 1)).toNat) < ((65 - k).toNat) by
                omega)
          · refine J_aload_n d_CF_nodes_34 rfl 2 rfl ?_
            refine J_get fs_CF_65 rfl rfl d_CF_nodes_35 ?_
            refine J_iload_n d_CF_nodes_38 rfl 1 rfl ?_
            refine J_aald (v := Value.ref (ad (idM k))) rfl rfl (by omega) (by decide) rfl d_CF_nodes_39 ?_
            refine J_iload_n d_CF_nodes_40 rfl 0 rfl ?_
            refine J_iconst d_CF_nodes_41 ?_
            refine J.top (show Value.int (iI 0) = Value.int (iI (bz false)) from rfl) ?_
            refine J_zast (hidM (k := k) (by omega)) (by omega) (by decide) (uidM_mt (k := k) (by omega)) d_CF_nodes_42 ?_
            refine J_iinc (j := 0) d_CF_nodes_43 rfl (by decide) rfl ?_
            refine J_goto (tgt := 28) d_CF_nodes_46 rfl ?_
            exact ih10 (i + 1, upI mt2 k (upI (mt2 k) i false)) (show (0 ≤ (i + 1) ∧ (i + 1) ≤ 13) ∧ (MtR (upI mt2 k (upI (mt2 k) i false)) ∧ (∀ x y, 0 ≤ x → x < k → (upI mt2 k (upI (mt2 k) i false)) x y = false) ∧ ∀ y, 0 ≤ y → y < (i + 1) → (upI mt2 k (upI (mt2 k) i false)) k y = false) by
                refine ⟨by omega, fun z hz => ?_, fun x y a b => ?_, fun y a b => ?_⟩
                · unfold mS at hz
                  rw [upI_ap] at hz
                  split at hz
                  · rename_i e
                    rw [upI_ap] at hz
                    split at hz
                    · cases hz
                    · exact h2.1 z (by unfold mS; rw [e]; exact hz)
                  · exact h2.1 z hz
                · rw [upI_ne _ _ (by omega)]
                  exact h2.2.1 x y a b
                · rw [upI_self, upI_ap]
                  split
                  · rfl
                  · exact h2.2.2 y a (by omega)) (show ((13 - (i + 1)).toNat) < ((13 - i).toNat) by
                omega)
        · show (0 ≤ (0 : Int) ∧ (0 : Int) ≤ 13) ∧ (MtR mt1 ∧ (∀ x y, 0 ≤ x → x < k → mt1 x y = false) ∧ ∀ y, 0 ≤ y → y < (0 : Int) → mt1 k y = false)
          exact ⟨by omega, h1.1, h1.2, fun y a b => by omega⟩
    · show (0 ≤ (0 : Int) ∧ (0 : Int) ≤ 65) ∧ (MtR mt ∧ ∀ x y, 0 ≤ x → x < (0 : Int) → mt x y = false)
      exact ⟨by omega, hmt, fun x y a b => by omega⟩
  · refine J_iconst d_CF_nodes_13 ?_
    refine J_iret rfl d_CF_nodes_14 ⟨Nat.le_of_ble_eq_true rfl, Nat.le_of_ble_eq_true rfl⟩ ?_
    exact ⟨0, mt, _, _, _, _, _, rfl, rfl, hmt, Or.inl ⟨‹_›, rfl⟩⟩
end N12
