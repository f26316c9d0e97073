theorem wd_zero (j : Int) : wd (fun _ => false) j = 0 := (wd_ext (x := 0) (fun n hn => by simp)).symm
section N19
variable {l : Launch} {D : jD} {b : Nat} {ad : Nat → Nat} {c : Nat → Option jE}
set_option maxHeartbeats 4000000 in
theorem c_Wa_init {i o j1 : Nat} (n01 : i ≠ j1) (ho : ad i = o) (hi : c i = some (.inr (5, [Value.null, Value.null, Value.int (iI 0), Value.null, Value.int (iI (bz false))]))) (ej1 : c j1 = none) : Ct l D b Y_Wa_init { frames := 1, cells := 1, slots := 4, locals := 21 } [Value.ref o] (ad, c) (fun v w' => v = none ∧ ∃ ad' c', w' = (ad', c') ∧ (∀ x, x ≠ j1 → ad' x = ad x) ∧ (∀ x, x ≠ i → x ≠ j1 → c' x = c x) ∧ c' i = some (.inr (5, [Value.null, Value.null, Value.int (iI 0), Value.ref (ad' j1), Value.int (iI (bz false))])) ∧ c' j1 = some (.inl (0, 4, fun j => Value.int (iI ((fun _ => (0 : Int)) j))))) := by
  refine Ct_of (by decide) (Nat.le_of_ble_eq_true rfl) ?_
  show J l D b Y_Wa_init _ _ (ad, c) 0 0 0 [(0, Value.ref o)] []
  refine J_aload_n d_Wa_init_0 rfl 0 rfl ?_
  refine J_obj oi_Wa_3 d_Wa_init_1 ⟨Nat.le_of_ble_eq_true rfl, Nat.le_of_ble_eq_true rfl⟩ ?_
  refine J_aload_n d_Wa_init_4 rfl 0 rfl ?_
  refine J_iconst d_Wa_init_5 ?_
  refine P_newa (i := j1) (t := 0) (N := 4) (f := fun j => Value.int (iI ((fun _ => (0 : Int)) j))) d_Wa_init_6 (by decide) rfl ar_0 (by rw [ej1]) (by decide) (fun _ => rfl) ⟨Nat.le_of_ble_eq_true rfl, Nat.le_of_ble_eq_true rfl⟩ (fun ad1 c1 h1 g1 => ?_)
  refine P_put (i := i) fs_Wa_9 (show ad1 i = o by rw [(h1 i n01).1]; exact ho) (by rw [(h1 i n01).2, hi]) (Nat.le_of_ble_eq_true rfl) (fun _ h => by cases h; exact Or.inr ⟨rfl, rfl⟩) rfl rfl d_Wa_init_8 (fun c2 h2 g2 => ?_)
  refine J_vret rfl d_Wa_init_11 ⟨Nat.le_of_ble_eq_true rfl, Nat.le_of_ble_eq_true rfl⟩ ?_
  have r0 : ad1 j1 = ad1 j1 := rfl
  refine ⟨rfl, ad1, c2, rfl, fun x xj1 => by rw [(h1 x xj1).1], fun x xi xj1 => by rw [h2 x xi, (h1 x xj1).2], ?_, (by rw [h2 j1 (Ne.symm n01), g1])⟩
  rw [r0]
  exact g2
set_option maxHeartbeats 4000000 in
theorem c_St_init {i o j1 j2 j3 j4 : Nat} (n01 : i ≠ j1) (n02 : i ≠ j2) (n03 : i ≠ j3) (n04 : i ≠ j4) (n12 : j1 ≠ j2) (n13 : j1 ≠ j3) (n14 : j1 ≠ j4) (n23 : j2 ≠ j3) (n24 : j2 ≠ j4) (n34 : j3 ≠ j4) (ho : ad i = o) (hi : c i = some (.inr (4, [Value.null, Value.null, Value.null, Value.null, Value.int (iI 0)]))) (ej1 : c j1 = none) (ej2 : c j2 = none) (ej3 : c j3 = none) (ej4 : c j4 = none) : Ct l D b Y_St_init { frames := 1, cells := 4, slots := 1024, locals := 21 } [Value.ref o] (ad, c) (fun v w' => v = none ∧ ∃ ad' c', w' = (ad', c') ∧ (∀ x, x ≠ j1 → x ≠ j2 → x ≠ j3 → x ≠ j4 → ad' x = ad x) ∧ (∀ x, x ≠ i → x ≠ j1 → x ≠ j2 → x ≠ j3 → x ≠ j4 → c' x = c x) ∧ c' i = some (.inr (4, [Value.ref (ad' j1), Value.ref (ad' j2), Value.ref (ad' j3), Value.ref (ad' j4), Value.int (iI 0)])) ∧ c' j1 = some (.inl (0, 256, fun j => Value.int (iI ((fun _ => (0 : Int)) j)))) ∧ c' j2 = some (.inl (0, 256, fun j => Value.int (iI ((fun _ => (0 : Int)) j)))) ∧ c' j3 = some (.inl (0, 256, fun j => Value.int (iI ((fun _ => (0 : Int)) j)))) ∧ c' j4 = some (.inl (1, 256, fun j => Value.long (iL ((fun _ => (0 : Int)) j))))) := by
  refine Ct_of (by decide) (Nat.le_of_ble_eq_true rfl) ?_
  show J l D b Y_St_init _ _ (ad, c) 0 0 0 [(0, Value.ref o)] []
  refine J_aload_n d_St_init_0 rfl 0 rfl ?_
  refine J_obj oi_St_1 d_St_init_1 ⟨Nat.le_of_ble_eq_true rfl, Nat.le_of_ble_eq_true rfl⟩ ?_
  refine J_aload_n d_St_init_4 rfl 0 rfl ?_
  refine J_sipush d_St_init_5 (by decide) ?_
  refine P_newa (i := j1) (t := 0) (N := 256) (f := fun j => Value.int (iI ((fun _ => (0 : Int)) j))) d_St_init_8 (by decide) rfl ar_0 (by rw [ej1]) (by decide) (fun _ => rfl) ⟨Nat.le_of_ble_eq_true rfl, Nat.le_of_ble_eq_true rfl⟩ (fun ad1 c1 h1 g1 => ?_)
  refine P_put (i := i) fs_St_7 (show ad1 i = o by rw [(h1 i n01).1]; exact ho) (by rw [(h1 i n01).2, hi]) (Nat.le_of_ble_eq_true rfl) (fun _ h => by cases h; exact Or.inr ⟨rfl, rfl⟩) rfl rfl d_St_init_10 (fun c2 h2 g2 => ?_)
  refine J_aload_n d_St_init_13 rfl 0 rfl ?_
  refine J_sipush d_St_init_14 (by decide) ?_
  refine P_newa (i := j2) (t := 0) (N := 256) (f := fun j => Value.int (iI ((fun _ => (0 : Int)) j))) d_St_init_17 (by decide) rfl ar_0 (by rw [h2 j2 (Ne.symm n02), (h1 j2 (Ne.symm n12)).2, ej2]) (by decide) (fun _ => rfl) ⟨Nat.le_of_ble_eq_true rfl, Nat.le_of_ble_eq_true rfl⟩ (fun ad3 c3 h3 g3 => ?_)
  refine P_put (i := i) fs_St_13 (show ad3 i = o by rw [(h3 i n02).1, (h1 i n01).1]; exact ho) (by rw [(h3 i n02).2, g2]) (Nat.le_of_ble_eq_true rfl) (fun _ h => by cases h; exact Or.inr ⟨rfl, rfl⟩) rfl rfl d_St_init_19 (fun c4 h4 g4 => ?_)
  refine J_aload_n d_St_init_22 rfl 0 rfl ?_
  refine J_sipush d_St_init_23 (by decide) ?_
  refine P_newa (i := j3) (t := 0) (N := 256) (f := fun j => Value.int (iI ((fun _ => (0 : Int)) j))) d_St_init_26 (by decide) rfl ar_0 (by rw [h4 j3 (Ne.symm n03), (h3 j3 (Ne.symm n23)).2, h2 j3 (Ne.symm n03), (h1 j3 (Ne.symm n13)).2, ej3]) (by decide) (fun _ => rfl) ⟨Nat.le_of_ble_eq_true rfl, Nat.le_of_ble_eq_true rfl⟩ (fun ad5 c5 h5 g5 => ?_)
  refine P_put (i := i) fs_St_16 (show ad5 i = o by rw [(h5 i n03).1, (h3 i n02).1, (h1 i n01).1]; exact ho) (by rw [(h5 i n03).2, g4]) (Nat.le_of_ble_eq_true rfl) (fun _ h => by cases h; exact Or.inr ⟨rfl, rfl⟩) rfl rfl d_St_init_28 (fun c6 h6 g6 => ?_)
  refine J_aload_n d_St_init_31 rfl 0 rfl ?_
  refine J_sipush d_St_init_32 (by decide) ?_
  refine P_newa (i := j4) (t := 1) (N := 256) (f := fun j => Value.long (iL ((fun _ => (0 : Int)) j))) d_St_init_35 (by decide) rfl ar_1 (by rw [h6 j4 (Ne.symm n04), (h5 j4 (Ne.symm n34)).2, h4 j4 (Ne.symm n04), (h3 j4 (Ne.symm n24)).2, h2 j4 (Ne.symm n04), (h1 j4 (Ne.symm n14)).2, ej4]) (by decide) (fun _ => rfl) ⟨Nat.le_of_ble_eq_true rfl, Nat.le_of_ble_eq_true rfl⟩ (fun ad7 c7 h7 g7 => ?_)
  refine P_put (i := i) fs_St_19 (show ad7 i = o by rw [(h7 i n04).1, (h5 i n03).1, (h3 i n02).1, (h1 i n01).1]; exact ho) (by rw [(h7 i n04).2, g6]) (Nat.le_of_ble_eq_true rfl) (fun _ h => by cases h; exact Or.inr ⟨rfl, rfl⟩) rfl rfl d_St_init_37 (fun c8 h8 g8 => ?_)
  refine J_vret rfl d_St_init_40 ⟨Nat.le_of_ble_eq_true rfl, Nat.le_of_ble_eq_true rfl⟩ ?_
  have r0 : ad7 j1 = ad1 j1 := (by rw [(h7 j1 n14).1, (h5 j1 n13).1, (h3 j1 n12).1])
  have r1 : ad7 j2 = ad3 j2 := (by rw [(h7 j2 n24).1, (h5 j2 n23).1])
  have r2 : ad7 j3 = ad5 j3 := (by rw [(h7 j3 n34).1])
  have r3 : ad7 j4 = ad7 j4 := rfl
  refine ⟨rfl, ad7, c8, rfl, fun x xj1 xj2 xj3 xj4 => by rw [(h7 x xj4).1, (h5 x xj3).1, (h3 x xj2).1, (h1 x xj1).1], fun x xi xj1 xj2 xj3 xj4 => by rw [h8 x xi, (h7 x xj4).2, h6 x xi, (h5 x xj3).2, h4 x xi, (h3 x xj2).2, h2 x xi, (h1 x xj1).2], ?_, (by rw [h8 j1 (Ne.symm n01), (h7 j1 n14).2, h6 j1 (Ne.symm n01), (h5 j1 n13).2, h4 j1 (Ne.symm n01), (h3 j1 n12).2, h2 j1 (Ne.symm n01), g1]), (by rw [h8 j2 (Ne.symm n02), (h7 j2 n24).2, h6 j2 (Ne.symm n02), (h5 j2 n23).2, h4 j2 (Ne.symm n02), g3]), (by rw [h8 j3 (Ne.symm n03), (h7 j3 n34).2, h6 j3 (Ne.symm n03), g5]), (by rw [h8 j4 (Ne.symm n04), g7])⟩
  rw [r0, r1, r2, r3]
  exact g8
set_option maxHeartbeats 4000000 in
theorem c_Se_init {i o j1 j2 j3 : Nat} (n01 : i ≠ j1) (n02 : i ≠ j2) (n03 : i ≠ j3) (n12 : j1 ≠ j2) (n13 : j1 ≠ j3) (n23 : j2 ≠ j3) (ho : ad i = o) (hi : c i = some (.inr (2, [Value.null, Value.null, Value.int (iI 0), Value.null, Value.int (iI 0)]))) (ej1 : c j1 = none) (ej2 : c j2 = none) (ej3 : c j3 = none) : Ct l D b Y_Se_init { frames := 1, cells := 3, slots := 586, locals := 21 } [Value.ref o] (ad, c) (fun v w' => v = none ∧ ∃ ad' c', w' = (ad', c') ∧ (∀ x, x ≠ j1 → x ≠ j2 → x ≠ j3 → ad' x = ad x) ∧ (∀ x, x ≠ i → x ≠ j1 → x ≠ j2 → x ≠ j3 → c' x = c x) ∧ c' i = some (.inr (2, [Value.ref (ad' j1), Value.ref (ad' j2), Value.int (iI 0), Value.ref (ad' j3), Value.int (iI 0)])) ∧ c' j1 = some (.inl (2, 572, fun j => Value.int (iI ((fun _ => (0 : Int)) j)))) ∧ c' j2 = some (.inl (1, 9, fun j => Value.long (wd (fun _ => false) j))) ∧ c' j3 = some (.inl (0, 5, fun j => Value.int (iI ((fun _ => (0 : Int)) j))))) := by
  refine Ct_of (by decide) (Nat.le_of_ble_eq_true rfl) ?_
  show J l D b Y_Se_init _ _ (ad, c) 0 0 0 [(0, Value.ref o)] []
  refine J_aload_n d_Se_init_0 rfl 0 rfl ?_
  refine J_obj oi_Se_3 d_Se_init_1 ⟨Nat.le_of_ble_eq_true rfl, Nat.le_of_ble_eq_true rfl⟩ ?_
  refine J_aload_n d_Se_init_4 rfl 0 rfl ?_
  refine J_sipush d_Se_init_5 (by decide) ?_
  refine P_newa (i := j1) (t := 2) (N := 572) (f := fun j => Value.int (iI ((fun _ => (0 : Int)) j))) d_Se_init_8 (by decide) rfl ar_2 (by rw [ej1]) (by decide) (fun _ => rfl) ⟨Nat.le_of_ble_eq_true rfl, Nat.le_of_ble_eq_true rfl⟩ (fun ad1 c1 h1 g1 => ?_)
  refine P_put (i := i) fs_Se_9 (show ad1 i = o by rw [(h1 i n01).1]; exact ho) (by rw [(h1 i n01).2, hi]) (Nat.le_of_ble_eq_true rfl) (fun _ h => by cases h; exact Or.inr ⟨rfl, rfl⟩) rfl rfl d_Se_init_10 (fun c2 h2 g2 => ?_)
  refine J_aload_n d_Se_init_13 rfl 0 rfl ?_
  refine J_bipush d_Se_init_14 (by decide) ?_
  refine P_newa (i := j2) (t := 1) (N := 9) (f := fun j => Value.long (wd (fun _ => false) j)) d_Se_init_16 (by decide) rfl ar_1 (by rw [h2 j2 (Ne.symm n02), (h1 j2 (Ne.symm n12)).2, ej2]) (by decide) (fun j => by show Value.long (wd (fun _ => false) j) = Value.long 0; rw [wd_zero]) ⟨Nat.le_of_ble_eq_true rfl, Nat.le_of_ble_eq_true rfl⟩ (fun ad3 c3 h3 g3 => ?_)
  refine P_put (i := i) fs_Se_15 (show ad3 i = o by rw [(h3 i n02).1, (h1 i n01).1]; exact ho) (by rw [(h3 i n02).2, g2]) (Nat.le_of_ble_eq_true rfl) (fun _ h => by cases h; exact Or.inr ⟨rfl, rfl⟩) rfl rfl d_Se_init_18 (fun c4 h4 g4 => ?_)
  refine J_aload_n d_Se_init_21 rfl 0 rfl ?_
  refine J_iconst d_Se_init_22 ?_
  refine P_newa (i := j3) (t := 0) (N := 5) (f := fun j => Value.int (iI ((fun _ => (0 : Int)) j))) d_Se_init_23 (by decide) rfl ar_0 (by rw [h4 j3 (Ne.symm n03), (h3 j3 (Ne.symm n23)).2, h2 j3 (Ne.symm n03), (h1 j3 (Ne.symm n13)).2, ej3]) (by decide) (fun _ => rfl) ⟨Nat.le_of_ble_eq_true rfl, Nat.le_of_ble_eq_true rfl⟩ (fun ad5 c5 h5 g5 => ?_)
  refine P_put (i := i) fs_Se_19 (show ad5 i = o by rw [(h5 i n03).1, (h3 i n02).1, (h1 i n01).1]; exact ho) (by rw [(h5 i n03).2, g4]) (Nat.le_of_ble_eq_true rfl) (fun _ h => by cases h; exact Or.inr ⟨rfl, rfl⟩) rfl rfl d_Se_init_25 (fun c6 h6 g6 => ?_)
  refine J_vret rfl d_Se_init_28 ⟨Nat.le_of_ble_eq_true rfl, Nat.le_of_ble_eq_true rfl⟩ ?_
  have r0 : ad5 j1 = ad1 j1 := (by rw [(h5 j1 n13).1, (h3 j1 n12).1])
  have r1 : ad5 j2 = ad3 j2 := (by rw [(h5 j2 n23).1])
  have r2 : ad5 j3 = ad5 j3 := rfl
  refine ⟨rfl, ad5, c6, rfl, fun x xj1 xj2 xj3 => by rw [(h5 x xj3).1, (h3 x xj2).1, (h1 x xj1).1], fun x xi xj1 xj2 xj3 => by rw [h6 x xi, (h5 x xj3).2, h4 x xi, (h3 x xj2).2, h2 x xi, (h1 x xj1).2], ?_, (by rw [h6 j1 (Ne.symm n01), (h5 j1 n13).2, h4 j1 (Ne.symm n01), (h3 j1 n12).2, h2 j1 (Ne.symm n01), g1]), (by rw [h6 j2 (Ne.symm n02), (h5 j2 n23).2, h4 j2 (Ne.symm n02), g3]), (by rw [h6 j3 (Ne.symm n03), g5])⟩
  rw [r0, r1, r2]
  exact g6
set_option maxHeartbeats 4000000 in
theorem c_Co_init {i o j1 j2 lo : Nat} {z : Int} (hz : 0 ≤ z ∧ z ≤ 12) (n01 : i ≠ j1) (n02 : i ≠ j2) (n12 : j1 ≠ j2) (l0 : ¬ (lo ≤ i ∧ i < lo + (z + 1).toNat)) (l1 : ¬ (lo ≤ j1 ∧ j1 < lo + (z + 1).toNat)) (l2 : ¬ (lo ≤ j2 ∧ j2 < lo + (z + 1).toNat)) (ho : ad i = o) (hi : c i = some (.inr (1, [Value.null, Value.null]))) (ej1 : c j1 = none) (ej2 : c j2 = none) (el : ∀ q, q < (z + 1).toNat → c (lo + q) = none) : Ct l D b Y_Co_init { frames := 1, cells := 15, slots := 91, locals := 21 } [Value.ref o, Value.int (iI z)] (ad, c) (fun v w' => v = none ∧ ∃ ad' c', w' = (ad', c') ∧ (∀ x, x ≠ j1 → x ≠ j2 → ¬ (lo ≤ x ∧ x < lo + (z + 1).toNat) → ad' x = ad x) ∧ (∀ x, x ≠ i → x ≠ j1 → x ≠ j2 → ¬ (lo ≤ x ∧ x < lo + (z + 1).toNat) → c' x = c x) ∧ c' i = some (.inr (1, [Value.ref (ad' j1), Value.ref (ad' j2)])) ∧ c' j1 = some (.inl (0, (z + 1).toNat, fun j => Value.int (iI ((fun _ => (0 : Int)) j)))) ∧ c' j2 = some (.inl (6, (z + 1).toNat, fun j => if 0 ≤ j ∧ j < (((z + 1).toNat : Nat) : Int) then Value.ref (ad' (lo + j.toNat)) else Value.null)) ∧ ∀ q, q < (z + 1).toNat → c' (lo + q) = some (.inl (1, 5, fun j => Value.long (iL ((fun _ => (0 : Int)) j))))) := by
  refine Ct_of (by decide) (Nat.le_of_ble_eq_true rfl) ?_
  show J l D b Y_Co_init _ _ (ad, c) 0 0 0 [(0, Value.ref o), (1, Value.int (iI z))] []
  refine J_aload_n d_Co_init_0 rfl 0 rfl ?_
  refine J_obj oi_Co_3 d_Co_init_1 ⟨Nat.le_of_ble_eq_true rfl, Nat.le_of_ble_eq_true rfl⟩ ?_
  refine J_aload_n d_Co_init_4 rfl 0 rfl ?_
  refine J_iload_n d_Co_init_5 rfl 1 rfl ?_
  refine J_iconst d_Co_init_6 ?_
  refine J_iadd d_Co_init_7 ?_
  have hN : (((z + 1).toNat : Nat) : Int) = z + 1 := by omega
  refine J.top (show Value.int (iI (z + 1)) = Value.int (iI (((z + 1).toNat : Nat) : Int)) by rw [hN]) ?_
  refine P_newa (i := j1) (t := 0) (N := (z + 1).toNat) (f := fun j => Value.int (iI ((fun _ => (0 : Int)) j))) d_Co_init_8 (by decide) rfl ar_0 ej1 (by omega) (fun _ => rfl) ⟨Nat.le_of_ble_eq_true rfl, by show 0 + (z + 1).toNat ≤ 91; omega⟩ (fun ad1 c1 h1 g1 => ?_)
  refine P_put (i := i) fs_Co_9 (show ad1 i = o by rw [(h1 i n01).1]; exact ho) (show c1 i = _ by rw [(h1 i n01).2]; exact hi) (Nat.le_of_ble_eq_true rfl) (fun _ h => by cases h; exact Or.inr ⟨rfl, rfl⟩) rfl rfl d_Co_init_10 (fun c2 h2 g2 => ?_)
  refine J_aload_n d_Co_init_13 rfl 0 rfl ?_
  refine J_iload_n d_Co_init_14 rfl 1 rfl ?_
  refine J_iconst d_Co_init_15 ?_
  refine J_iadd d_Co_init_16 ?_
  refine J_iconst d_Co_init_17 ?_
  refine J.stk (show [Value.int (iI 5), Value.int (iI (z + 1)), Value.ref o] = [Value.int (iI ((5 : Nat) : Int)), Value.int (iI (((z + 1).toNat : Nat) : Int)), Value.ref o] by rw [hN]; rfl) ?_
  refine P_multi (io := j2) (lo := lo) (t := 6) (ti := 1) (N := (z + 1).toNat) (M := 5) (ty := .long) (nm := "[[J") (fi := fun j => Value.long (iL ((fun _ => (0 : Int)) j))) d_Co_init_18 (by decide) ⟨rfl, rfl⟩ (fun U c h => h) (by decide) rfl cl_Co_15 (fun U h => h.2.1) rfl rfl (by rw [h2 j2 (Ne.symm n02), (h1 j2 (Ne.symm n12)).2]; exact ej2) (fun q hq => by rw [h2 (lo + q) (by omega), (h1 (lo + q) (by omega)).2]; exact el q hq) l2 ⟨by omega, by decide⟩ (fun _ => rfl) ⟨by show 0 + 1 + (1 + (z + 1).toNat) ≤ 15; omega, by show 0 + (z + 1).toNat + ((z + 1).toNat + (z + 1).toNat * 5) ≤ 91; omega⟩ (fun ad3 c3 h3 g3 k3 => ?_)
  have hi3 : c3 i = some (.inr (1, [Value.ref (ad1 j1), Value.null])) := by
    rw [(h3 i n02 l0).2]
    exact g2
  refine P_put (i := i) fs_Co_17 (show ad3 i = o by rw [(h3 i n02 l0).1, (h1 i n01).1]; exact ho) hi3 (Nat.le_of_ble_eq_true rfl) (fun _ h => by cases h; exact Or.inr ⟨rfl, rfl⟩) rfl rfl d_Co_init_22 (fun c4 h4 g4 => ?_)
  refine J_vret rfl d_Co_init_25 ⟨by show 0 + 1 + 1 + (z + 1).toNat ≤ 15; omega, by show 0 + (z + 1).toNat + (z + 1).toNat + (z + 1).toNat * 5 ≤ 91; omega⟩ ?_
  refine ⟨rfl, ad3, c4, rfl, fun x x1 x2 x3 => by rw [(h3 x x2 x3).1, (h1 x x1).1], fun x xi x1 x2 x3 => by rw [h4 x xi, (h3 x x2 x3).2, h2 x xi, (h1 x x1).2], ?_, ?_, ?_, fun q hq => ?_⟩
  · rw [(h3 j1 n12 l1).1]
    exact g4
  · rw [h4 j1 (Ne.symm n01), (h3 j1 n12 l1).2, h2 j1 (Ne.symm n01)]
    exact g1
  · rw [h4 j2 (Ne.symm n02)]
    exact g3
  · rw [h4 (lo + q) (by omega)]
    exact k3 q hq
theorem fs_AL_7 : FS "java/util/AbstractList" 7 7 2 := ⟨_, rfl, by decide, Or.inl (tb_in (List.mem_of_getElem? (i := 129) (by decide +kernel)) rfl)⟩
set_option maxHeartbeats 4000000 in
theorem c_AC_init {o : Nat} : Ct l D b Y_AC_init { frames := 1, cells := 0, slots := 0, locals := 21 } [Value.ref o] (ad, c) (fun v w' => v = none ∧ w' = (ad, c)) := by
  refine Ct_of (by decide) (Nat.le_of_ble_eq_true rfl) ?_
  show J l D b Y_AC_init _ _ (ad, c) 0 0 0 [(0, Value.ref o)] []
  refine J_aload_n d_AC_init_0 rfl 0 rfl ?_
  refine J_obj oi_AC_1 d_AC_init_1 ⟨Nat.le_of_ble_eq_true rfl, Nat.le_of_ble_eq_true rfl⟩ ?_
  refine J_vret rfl d_AC_init_4 ⟨Nat.le_of_ble_eq_true rfl, Nat.le_of_ble_eq_true rfl⟩ ?_
  exact ⟨rfl, rfl⟩
set_option maxHeartbeats 4000000 in
theorem c_AL_init {o i : Nat} {e : Value} {y z : Int} (ho : ad i = o) (hi : c i = some (.inr (7, [e, Value.int (iI y), Value.int (iI z)]))) : Ct l D b Y_AL_init { frames := 2, cells := 0, slots := 0, locals := 41 } [Value.ref o] (ad, c) (fun v w' => v = none ∧ ∃ c', w' = (ad, c') ∧ (∀ x, x ≠ i → c' x = c x) ∧ c' i = some (.inr (7, [e, Value.int (iI y), Value.int (iI 0)]))) := by
  refine Ct_of (by decide) (Nat.le_of_ble_eq_true rfl) ?_
  show J l D b Y_AL_init _ _ (ad, c) 0 0 0 [(0, Value.ref o)] []
  refine J_aload_n d_AL_init_0 rfl 0 rfl ?_
  refine J_callI (w := (ad, c)) (st := []) [] ms_AL_1 c_AC_init rfl rfl ⟨Nat.le_of_ble_eq_true rfl, Nat.le_of_ble_eq_true rfl⟩ ⟨Nat.le_of_ble_eq_true rfl, Nat.le_of_ble_eq_true rfl⟩ (Nat.le_of_ble_eq_true rfl) d_AL_init_1 (fun v w' hp => ?_)
  obtain ⟨rfl, rfl⟩ := hp
  refine J.stk (st' := []) rfl ?_
  refine J_aload_n d_AL_init_4 rfl 0 rfl ?_
  refine J_iconst d_AL_init_5 ?_
  refine P_put (i := i) fs_AL_7 ho hi (Nat.le_of_ble_eq_true rfl) (fun _ h => by cases h; exact Or.inl rfl) rfl rfl d_AL_init_6 (fun c1 h1 g1 => ?_)
  refine J_vret rfl d_AL_init_9 ⟨Nat.le_of_ble_eq_true rfl, Nat.le_of_ble_eq_true rfl⟩ ?_
  exact ⟨rfl, c1, rfl, h1, g1⟩
set_option maxHeartbeats 4000000 in
theorem c_Al_init {o i j : Nat} (hij : i ≠ j) (ho : ad i = o) (hi : c i = some (.inr (7, [Value.null, Value.int (iI 0), Value.int (iI 0)]))) (hj : c j = none) : Ct l D b Y_Al_init { frames := 3, cells := 1, slots := 10, locals := 61 } [Value.ref o, Value.int (iI 10)] (ad, c) (fun v w' => v = none ∧ ∃ ad' c', w' = (ad', c') ∧ (∀ x, x ≠ j → ad' x = ad x) ∧ (∀ x, x ≠ i → x ≠ j → c' x = c x) ∧ c' i = some (.inr (7, [Value.ref (ad' j), Value.int (iI 0), Value.int (iI 0)])) ∧ c' j = some (.inl (8, 10, fun _ => Value.null))) := by
  refine Ct_of (by decide) (Nat.le_of_ble_eq_true rfl) ?_
  show J l D b Y_Al_init _ _ (ad, c) 0 0 0 [(0, Value.ref o), (1, Value.int (iI 10))] []
  refine J_aload_n d_Al_init_0 rfl 0 rfl ?_
  refine J_callI (w := (ad, c)) (st := []) [] ms_Al_1 (c_AL_init ho hi) rfl rfl ⟨Nat.le_of_ble_eq_true rfl, Nat.le_of_ble_eq_true rfl⟩ ⟨Nat.le_of_ble_eq_true rfl, Nat.le_of_ble_eq_true rfl⟩ (Nat.le_of_ble_eq_true rfl) d_Al_init_1 (fun v w' hp => ?_)
  obtain ⟨rfl, c1, rfl, h1, g1⟩ := hp
  refine J.stk (st' := []) rfl ?_
  refine J_iload_n d_Al_init_4 rfl 1 rfl ?_
  refine J_if_le (tgt := 19) d_Al_init_5 rfl (by decide) (fun h => absurd h (by decide)) (fun h => ?_)
  refine J_aload_n d_Al_init_8 rfl 0 rfl ?_
  refine J_iload_n d_Al_init_9 rfl 1 rfl ?_
  refine P_anew (i := j) (t := 8) (N := 10) (f := fun _ => Value.null) d_Al_init_10 (by decide) rfl cl_Al_7 (fun U h => h.1.2.2) (by rw [h1 j (Ne.symm hij)]; exact hj) (by decide) (fun _ => rfl) ⟨Nat.le_of_ble_eq_true rfl, Nat.le_of_ble_eq_true rfl⟩ (fun ad2 c2 h2 g2 => ?_)
  refine P_put (i := i) fs_Al_9 (show ad2 i = o by rw [(h2 i hij).1]; exact ho) (show c2 i = _ by rw [(h2 i hij).2]; exact g1) (Nat.le_of_ble_eq_true rfl) (fun _ h => by cases h; exact Or.inl rfl) rfl rfl d_Al_init_13 (fun c3 h3 g3 => ?_)
  refine J_goto (tgt := 60) d_Al_init_16 rfl ?_
  refine J_vret rfl d_Al_init_60 ⟨Nat.le_of_ble_eq_true rfl, Nat.le_of_ble_eq_true rfl⟩ ?_
  exact ⟨rfl, ad2, c3, rfl, fun x hx => (h2 x hx).1, fun x xi hx => by rw [h3 x xi, (h2 x hx).2, h1 x xi], g3, by rw [h3 j (Ne.symm hij)]; exact g2⟩
end N19
