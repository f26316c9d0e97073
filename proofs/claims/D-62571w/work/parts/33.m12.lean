theorem ar_0 : Cond.arrayClass (jty 0) ∈ tb := tb_in (List.mem_of_getElem? (i := 110) (by decide +kernel)) rfl
theorem ar_1 : Cond.arrayClass (jty 1) ∈ tb := tb_in (List.mem_of_getElem? (i := 194) (by decide +kernel)) rfl
theorem ar_2 : Cond.arrayClass (jty 2) ∈ tb := tb_in (List.mem_of_getElem? (i := 223) (by decide +kernel)) rfl
theorem ar_3 : Cond.arrayClass (jty 3) ∈ tb := tb_in (List.mem_of_getElem? (i := 222) (by decide +kernel)) rfl
def mo0 : List Value := [Value.int (iI (bz false)), Value.int (iI 0), Value.int (iI 0), Value.null, Value.null, Value.null, Value.int (iI 0), Value.null, Value.null, Value.int (iI (bz false)), Value.null, Value.null, Value.null, Value.null, Value.int (iI 0), Value.int (iI 0), Value.null, Value.null, Value.int (iI 0)]
theorem gOK_0 : gOK 0 (fun _ => 0) (fun _ => 0) (fun _ => 0) := ⟨by omega, fun q _ _ => by show (0 : Int) ≤ 0 ∧ (0 : Int) ≤ 4; omega, fun q _ _ => by show (0 : Int) ≤ 0 ∧ (0 : Int) ≤ 3; omega, fun j _ _ => by show (0 : Int) ≤ 0 ∧ (0 : Int) ≤ 11; omega, fun q k a b => by omega⟩
section M12
variable {l : Launch} {D : jD} {b : Nat} {ad : Nat → Nat} {r : Nat → Option jE}
set_option maxHeartbeats 4000000 in
/-- the constructor: eleven arrays, then the first set -/
theorem c_Mo_init {z : Int} (hz : -2147483648 ≤ z ∧ z ≤ 2147483647) (hr : ∀ i, i < 12 → r i = none) : Ct l D b Y_Mo_init { frames := 6, cells := 11, slots := 12678, locals := 149 } [Value.ref (ad 0), Value.int (iI z)] (ad, va_up r 0 (some (.inr (6, mo0)))) (fun v w' => v = none ∧ ∃ ad' it', (∀ i, 12 ≤ i → ad' i = ad i) ∧ ad' 0 = ad 0 ∧ w' = (ad', cM ad' r (decide (z ≠ 0)) 0 0 (fun _ => (0 : Int)) (fun _ => (0 : Int)) (fun _ => (0 : Int)) 0 (fun _ => (0 : Int)) it' false (fun _ => false) (fun _ => false) (fun _ => (0 : Int)) (fun _ => false) 0 0 (fun _ => (0 : Int)) (fun _ => (0 : Int)) 0) ∧ Mks (decide (z ≠ 0)) 0 (fun _ => (0 : Int)) (fun _ => (0 : Int)) (fun _ => (0 : Int)) (fun _ => (0 : Int)) 0 (fun _ => false) it') := by
  refine Ct_of (by decide) (Nat.le_of_ble_eq_true rfl) ?_
  show J l D b Y_Mo_init _ _ (ad, va_up r 0 (some (.inr (6, mo0)))) 0 0 0 [(0, Value.ref (ad 0)), (1, Value.int (iI z))] []
  refine J_aload_n d_Mo_init_0 rfl 0 rfl ?_
  refine J_obj oi_Mo_1 d_Mo_init_1 ⟨Nat.le_of_ble_eq_true rfl, Nat.le_of_ble_eq_true rfl⟩ ?_
  refine J_aload_n d_Mo_init_4 rfl 0 rfl ?_
  refine J_bipush d_Mo_init_5 (by decide) ?_
  refine J_newa (i := 1) (t := 0) (N := 10) (f := fun j => Value.int (iI ((fun _ => (0 : Int)) j))) d_Mo_init_7 (by decide) rfl ar_0 (hr 1 (by decide)) (by decide) (fun _ => rfl) ⟨Nat.le_of_ble_eq_true rfl, Nat.le_of_ble_eq_true rfl⟩ (fun a1 => ?_)
  refine J_put (i := 0) (c' := fun x => match x with | 0 => some (.inr (6, [Value.int (iI (bz false)), Value.int (iI 0), Value.int (iI 0), Value.ref a1, Value.null, Value.null, Value.int (iI 0), Value.null, Value.null, Value.int (iI (bz false)), Value.null, Value.null, Value.null, Value.null, Value.int (iI 0), Value.int (iI 0), Value.null, Value.null, Value.int (iI 0)])) | 1 => some (.inl (0, 10, fun j => Value.int (iI ((fun _ => (0 : Int)) j)))) | x => r x) fs_Mo_7 rfl (Nat.le_of_ble_eq_true rfl) (fun _ h => by cases h; exact Or.inl rfl) rfl rfl (by
    funext x
    match x with
    | 0 => rfl
    | 1 => rfl
    | 2 => exact (show _ = r 2 from rfl)
    | 3 => exact (show _ = r 3 from rfl)
    | 4 => exact (show _ = r 4 from rfl)
    | 5 => exact (show _ = r 5 from rfl)
    | 6 => exact (show _ = r 6 from rfl)
    | 7 => exact (show _ = r 7 from rfl)
    | 8 => exact (show _ = r 8 from rfl)
    | 9 => exact (show _ = r 9 from rfl)
    | 10 => exact (show _ = r 10 from rfl)
    | 11 => exact (show _ = r 11 from rfl)
    | x + 12 => rfl) d_Mo_init_9 ?_
  refine J_aload_n d_Mo_init_12 rfl 0 rfl ?_
  refine J_bipush d_Mo_init_13 (by decide) ?_
  refine J_newa (i := 2) (t := 0) (N := 10) (f := fun j => Value.int (iI ((fun _ => (0 : Int)) j))) d_Mo_init_15 (by decide) rfl ar_0 (hr 2 (by decide)) (by decide) (fun _ => rfl) ⟨Nat.le_of_ble_eq_true rfl, Nat.le_of_ble_eq_true rfl⟩ (fun a2 => ?_)
  refine J_put (i := 0) (c' := fun x => match x with | 0 => some (.inr (6, [Value.int (iI (bz false)), Value.int (iI 0), Value.int (iI 0), Value.ref a1, Value.ref a2, Value.null, Value.int (iI 0), Value.null, Value.null, Value.int (iI (bz false)), Value.null, Value.null, Value.null, Value.null, Value.int (iI 0), Value.int (iI 0), Value.null, Value.null, Value.int (iI 0)])) | 1 => some (.inl (0, 10, fun j => Value.int (iI ((fun _ => (0 : Int)) j)))) | 2 => some (.inl (0, 10, fun j => Value.int (iI ((fun _ => (0 : Int)) j)))) | x => r x) fs_Mo_13 rfl (Nat.le_of_ble_eq_true rfl) (fun _ h => by cases h; exact Or.inl rfl) rfl rfl (by
    funext x
    match x with
    | 0 => rfl
    | 1 => rfl
    | 2 => rfl
    | 3 => exact (show _ = r 3 from rfl)
    | 4 => exact (show _ = r 4 from rfl)
    | 5 => exact (show _ = r 5 from rfl)
    | 6 => exact (show _ = r 6 from rfl)
    | 7 => exact (show _ = r 7 from rfl)
    | 8 => exact (show _ = r 8 from rfl)
    | 9 => exact (show _ = r 9 from rfl)
    | 10 => exact (show _ = r 10 from rfl)
    | 11 => exact (show _ = r 11 from rfl)
    | x + 12 => rfl) d_Mo_init_17 ?_
  refine J_aload_n d_Mo_init_20 rfl 0 rfl ?_
  refine J_bipush d_Mo_init_21 (by decide) ?_
  refine J_newa (i := 3) (t := 0) (N := 30) (f := fun j => Value.int (iI ((fun _ => (0 : Int)) j))) d_Mo_init_23 (by decide) rfl ar_0 (hr 3 (by decide)) (by decide) (fun _ => rfl) ⟨Nat.le_of_ble_eq_true rfl, Nat.le_of_ble_eq_true rfl⟩ (fun a3 => ?_)
  refine J_put (i := 0) (c' := fun x => match x with | 0 => some (.inr (6, [Value.int (iI (bz false)), Value.int (iI 0), Value.int (iI 0), Value.ref a1, Value.ref a2, Value.ref a3, Value.int (iI 0), Value.null, Value.null, Value.int (iI (bz false)), Value.null, Value.null, Value.null, Value.null, Value.int (iI 0), Value.int (iI 0), Value.null, Value.null, Value.int (iI 0)])) | 1 => some (.inl (0, 10, fun j => Value.int (iI ((fun _ => (0 : Int)) j)))) | 2 => some (.inl (0, 10, fun j => Value.int (iI ((fun _ => (0 : Int)) j)))) | 3 => some (.inl (0, 30, fun j => Value.int (iI ((fun _ => (0 : Int)) j)))) | x => r x) fs_Mo_16 rfl (Nat.le_of_ble_eq_true rfl) (fun _ h => by cases h; exact Or.inl rfl) rfl rfl (by
    funext x
    match x with
    | 0 => rfl
    | 1 => rfl
    | 2 => rfl
    | 3 => rfl
    | 4 => exact (show _ = r 4 from rfl)
    | 5 => exact (show _ = r 5 from rfl)
    | 6 => exact (show _ = r 6 from rfl)
    | 7 => exact (show _ = r 7 from rfl)
    | 8 => exact (show _ = r 8 from rfl)
    | 9 => exact (show _ = r 9 from rfl)
    | 10 => exact (show _ = r 10 from rfl)
    | 11 => exact (show _ = r 11 from rfl)
    | x + 12 => rfl) d_Mo_init_25 ?_
  refine J_aload_n d_Mo_init_28 rfl 0 rfl ?_
  refine J_bipush d_Mo_init_29 (by decide) ?_
  refine J_newa (i := 4) (t := 0) (N := 12) (f := fun j => Value.int (iI ((fun _ => (0 : Int)) j))) d_Mo_init_31 (by decide) rfl ar_0 (hr 4 (by decide)) (by decide) (fun _ => rfl) ⟨Nat.le_of_ble_eq_true rfl, Nat.le_of_ble_eq_true rfl⟩ (fun a4 => ?_)
  refine J_put (i := 0) (c' := fun x => match x with | 0 => some (.inr (6, [Value.int (iI (bz false)), Value.int (iI 0), Value.int (iI 0), Value.ref a1, Value.ref a2, Value.ref a3, Value.int (iI 0), Value.ref a4, Value.null, Value.int (iI (bz false)), Value.null, Value.null, Value.null, Value.null, Value.int (iI 0), Value.int (iI 0), Value.null, Value.null, Value.int (iI 0)])) | 1 => some (.inl (0, 10, fun j => Value.int (iI ((fun _ => (0 : Int)) j)))) | 2 => some (.inl (0, 10, fun j => Value.int (iI ((fun _ => (0 : Int)) j)))) | 3 => some (.inl (0, 30, fun j => Value.int (iI ((fun _ => (0 : Int)) j)))) | 4 => some (.inl (0, 12, fun j => Value.int (iI ((fun _ => (0 : Int)) j)))) | x => r x) fs_Mo_19 rfl (Nat.le_of_ble_eq_true rfl) (fun _ h => by cases h; exact Or.inl rfl) rfl rfl (by
    funext x
    match x with
    | 0 => rfl
    | 1 => rfl
    | 2 => rfl
    | 3 => rfl
    | 4 => rfl
    | 5 => exact (show _ = r 5 from rfl)
    | 6 => exact (show _ = r 6 from rfl)
    | 7 => exact (show _ = r 7 from rfl)
    | 8 => exact (show _ = r 8 from rfl)
    | 9 => exact (show _ = r 9 from rfl)
    | 10 => exact (show _ = r 10 from rfl)
    | 11 => exact (show _ = r 11 from rfl)
    | x + 12 => rfl) d_Mo_init_33 ?_
  refine J_aload_n d_Mo_init_36 rfl 0 rfl ?_
  refine J_sipush d_Mo_init_37 (by decide) ?_
  refine J_newa (i := 5) (t := 3) (N := 7436) (f := fun j => Value.int (iI (bz ((fun _ => false) j)))) d_Mo_init_40 (by decide) rfl ar_3 (hr 5 (by decide)) (by decide) (fun _ => rfl) ⟨Nat.le_of_ble_eq_true rfl, Nat.le_of_ble_eq_true rfl⟩ (fun a5 => ?_)
  refine J_put (i := 0) (c' := fun x => match x with | 0 => some (.inr (6, [Value.int (iI (bz false)), Value.int (iI 0), Value.int (iI 0), Value.ref a1, Value.ref a2, Value.ref a3, Value.int (iI 0), Value.ref a4, Value.ref a5, Value.int (iI (bz false)), Value.null, Value.null, Value.null, Value.null, Value.int (iI 0), Value.int (iI 0), Value.null, Value.null, Value.int (iI 0)])) | 1 => some (.inl (0, 10, fun j => Value.int (iI ((fun _ => (0 : Int)) j)))) | 2 => some (.inl (0, 10, fun j => Value.int (iI ((fun _ => (0 : Int)) j)))) | 3 => some (.inl (0, 30, fun j => Value.int (iI ((fun _ => (0 : Int)) j)))) | 4 => some (.inl (0, 12, fun j => Value.int (iI ((fun _ => (0 : Int)) j)))) | 5 => some (.inl (3, 7436, fun j => Value.int (iI (bz ((fun _ => false) j))))) | x => r x) fs_Mo_22 rfl (Nat.le_of_ble_eq_true rfl) (fun _ h => by cases h; exact Or.inl rfl) rfl rfl (by
    funext x
    match x with
    | 0 => rfl
    | 1 => rfl
    | 2 => rfl
    | 3 => rfl
    | 4 => rfl
    | 5 => rfl
    | 6 => exact (show _ = r 6 from rfl)
    | 7 => exact (show _ = r 7 from rfl)
    | 8 => exact (show _ = r 8 from rfl)
    | 9 => exact (show _ = r 9 from rfl)
    | 10 => exact (show _ = r 10 from rfl)
    | 11 => exact (show _ = r 11 from rfl)
    | x + 12 => rfl) d_Mo_init_42 ?_
  refine J_aload_n d_Mo_init_45 rfl 0 rfl ?_
  refine J_sipush d_Mo_init_46 (by decide) ?_
  refine J_newa (i := 6) (t := 3) (N := 845) (f := fun j => Value.int (iI (bz ((fun _ => false) j)))) d_Mo_init_49 (by decide) rfl ar_3 (hr 6 (by decide)) (by decide) (fun _ => rfl) ⟨Nat.le_of_ble_eq_true rfl, Nat.le_of_ble_eq_true rfl⟩ (fun a6 => ?_)
  refine J_put (i := 0) (c' := fun x => match x with | 0 => some (.inr (6, [Value.int (iI (bz false)), Value.int (iI 0), Value.int (iI 0), Value.ref a1, Value.ref a2, Value.ref a3, Value.int (iI 0), Value.ref a4, Value.ref a5, Value.int (iI (bz false)), Value.ref a6, Value.null, Value.null, Value.null, Value.int (iI 0), Value.int (iI 0), Value.null, Value.null, Value.int (iI 0)])) | 1 => some (.inl (0, 10, fun j => Value.int (iI ((fun _ => (0 : Int)) j)))) | 2 => some (.inl (0, 10, fun j => Value.int (iI ((fun _ => (0 : Int)) j)))) | 3 => some (.inl (0, 30, fun j => Value.int (iI ((fun _ => (0 : Int)) j)))) | 4 => some (.inl (0, 12, fun j => Value.int (iI ((fun _ => (0 : Int)) j)))) | 5 => some (.inl (3, 7436, fun j => Value.int (iI (bz ((fun _ => false) j))))) | 6 => some (.inl (3, 845, fun j => Value.int (iI (bz ((fun _ => false) j))))) | x => r x) fs_Mo_26 rfl (Nat.le_of_ble_eq_true rfl) (fun _ h => by cases h; exact Or.inl rfl) rfl rfl (by
    funext x
    match x with
    | 0 => rfl
    | 1 => rfl
    | 2 => rfl
    | 3 => rfl
    | 4 => rfl
    | 5 => rfl
    | 6 => rfl
    | 7 => exact (show _ = r 7 from rfl)
    | 8 => exact (show _ = r 8 from rfl)
    | 9 => exact (show _ = r 9 from rfl)
    | 10 => exact (show _ = r 10 from rfl)
    | 11 => exact (show _ = r 11 from rfl)
    | x + 12 => rfl) d_Mo_init_51 ?_
  refine J_aload_n d_Mo_init_54 rfl 0 rfl ?_
  refine J_sipush d_Mo_init_55 (by decide) ?_
  refine J_newa (i := 7) (t := 3) (N := 845) (f := fun j => Value.int (iI (bz ((fun _ => false) j)))) d_Mo_init_58 (by decide) rfl ar_3 (hr 7 (by decide)) (by decide) (fun _ => rfl) ⟨Nat.le_of_ble_eq_true rfl, Nat.le_of_ble_eq_true rfl⟩ (fun a7 => ?_)
  refine J_put (i := 0) (c' := fun x => match x with | 0 => some (.inr (6, [Value.int (iI (bz false)), Value.int (iI 0), Value.int (iI 0), Value.ref a1, Value.ref a2, Value.ref a3, Value.int (iI 0), Value.ref a4, Value.ref a5, Value.int (iI (bz false)), Value.ref a6, Value.ref a7, Value.null, Value.null, Value.int (iI 0), Value.int (iI 0), Value.null, Value.null, Value.int (iI 0)])) | 1 => some (.inl (0, 10, fun j => Value.int (iI ((fun _ => (0 : Int)) j)))) | 2 => some (.inl (0, 10, fun j => Value.int (iI ((fun _ => (0 : Int)) j)))) | 3 => some (.inl (0, 30, fun j => Value.int (iI ((fun _ => (0 : Int)) j)))) | 4 => some (.inl (0, 12, fun j => Value.int (iI ((fun _ => (0 : Int)) j)))) | 5 => some (.inl (3, 7436, fun j => Value.int (iI (bz ((fun _ => false) j))))) | 6 => some (.inl (3, 845, fun j => Value.int (iI (bz ((fun _ => false) j))))) | 7 => some (.inl (3, 845, fun j => Value.int (iI (bz ((fun _ => false) j))))) | x => r x) fs_Mo_29 rfl (Nat.le_of_ble_eq_true rfl) (fun _ h => by cases h; exact Or.inl rfl) rfl rfl (by
    funext x
    match x with
    | 0 => rfl
    | 1 => rfl
    | 2 => rfl
    | 3 => rfl
    | 4 => rfl
    | 5 => rfl
    | 6 => rfl
    | 7 => rfl
    | 8 => exact (show _ = r 8 from rfl)
    | 9 => exact (show _ = r 9 from rfl)
    | 10 => exact (show _ = r 10 from rfl)
    | 11 => exact (show _ = r 11 from rfl)
    | x + 12 => rfl) d_Mo_init_60 ?_
  refine J_aload_n d_Mo_init_63 rfl 0 rfl ?_
  refine J_sipush d_Mo_init_64 (by decide) ?_
  refine J_newa (i := 8) (t := 1) (N := 845) (f := fun j => Value.long (iL ((fun _ => (0 : Int)) j))) d_Mo_init_67 (by decide) rfl ar_1 (hr 8 (by decide)) (by decide) (fun _ => rfl) ⟨Nat.le_of_ble_eq_true rfl, Nat.le_of_ble_eq_true rfl⟩ (fun a8 => ?_)
  refine J_put (i := 0) (c' := fun x => match x with | 0 => some (.inr (6, [Value.int (iI (bz false)), Value.int (iI 0), Value.int (iI 0), Value.ref a1, Value.ref a2, Value.ref a3, Value.int (iI 0), Value.ref a4, Value.ref a5, Value.int (iI (bz false)), Value.ref a6, Value.ref a7, Value.ref a8, Value.null, Value.int (iI 0), Value.int (iI 0), Value.null, Value.null, Value.int (iI 0)])) | 1 => some (.inl (0, 10, fun j => Value.int (iI ((fun _ => (0 : Int)) j)))) | 2 => some (.inl (0, 10, fun j => Value.int (iI ((fun _ => (0 : Int)) j)))) | 3 => some (.inl (0, 30, fun j => Value.int (iI ((fun _ => (0 : Int)) j)))) | 4 => some (.inl (0, 12, fun j => Value.int (iI ((fun _ => (0 : Int)) j)))) | 5 => some (.inl (3, 7436, fun j => Value.int (iI (bz ((fun _ => false) j))))) | 6 => some (.inl (3, 845, fun j => Value.int (iI (bz ((fun _ => false) j))))) | 7 => some (.inl (3, 845, fun j => Value.int (iI (bz ((fun _ => false) j))))) | 8 => some (.inl (1, 845, fun j => Value.long (iL ((fun _ => (0 : Int)) j)))) | x => r x) fs_Mo_32 rfl (Nat.le_of_ble_eq_true rfl) (fun _ h => by cases h; exact Or.inl rfl) rfl rfl (by
    funext x
    match x with
    | 0 => rfl
    | 1 => rfl
    | 2 => rfl
    | 3 => rfl
    | 4 => rfl
    | 5 => rfl
    | 6 => rfl
    | 7 => rfl
    | 8 => rfl
    | 9 => exact (show _ = r 9 from rfl)
    | 10 => exact (show _ = r 10 from rfl)
    | 11 => exact (show _ = r 11 from rfl)
    | x + 12 => rfl) d_Mo_init_69 ?_
  refine J_aload_n d_Mo_init_72 rfl 0 rfl ?_
  refine J_sipush d_Mo_init_73 (by decide) ?_
  refine J_newa (i := 9) (t := 3) (N := 845) (f := fun j => Value.int (iI (bz ((fun _ => false) j)))) d_Mo_init_76 (by decide) rfl ar_3 (hr 9 (by decide)) (by decide) (fun _ => rfl) ⟨Nat.le_of_ble_eq_true rfl, Nat.le_of_ble_eq_true rfl⟩ (fun a9 => ?_)
  refine J_put (i := 0) (c' := fun x => match x with | 0 => some (.inr (6, [Value.int (iI (bz false)), Value.int (iI 0), Value.int (iI 0), Value.ref a1, Value.ref a2, Value.ref a3, Value.int (iI 0), Value.ref a4, Value.ref a5, Value.int (iI (bz false)), Value.ref a6, Value.ref a7, Value.ref a8, Value.ref a9, Value.int (iI 0), Value.int (iI 0), Value.null, Value.null, Value.int (iI 0)])) | 1 => some (.inl (0, 10, fun j => Value.int (iI ((fun _ => (0 : Int)) j)))) | 2 => some (.inl (0, 10, fun j => Value.int (iI ((fun _ => (0 : Int)) j)))) | 3 => some (.inl (0, 30, fun j => Value.int (iI ((fun _ => (0 : Int)) j)))) | 4 => some (.inl (0, 12, fun j => Value.int (iI ((fun _ => (0 : Int)) j)))) | 5 => some (.inl (3, 7436, fun j => Value.int (iI (bz ((fun _ => false) j))))) | 6 => some (.inl (3, 845, fun j => Value.int (iI (bz ((fun _ => false) j))))) | 7 => some (.inl (3, 845, fun j => Value.int (iI (bz ((fun _ => false) j))))) | 8 => some (.inl (1, 845, fun j => Value.long (iL ((fun _ => (0 : Int)) j)))) | 9 => some (.inl (3, 845, fun j => Value.int (iI (bz ((fun _ => false) j))))) | x => r x) fs_Mo_36 rfl (Nat.le_of_ble_eq_true rfl) (fun _ h => by cases h; exact Or.inl rfl) rfl rfl (by
    funext x
    match x with
    | 0 => rfl
    | 1 => rfl
    | 2 => rfl
    | 3 => rfl
    | 4 => rfl
    | 5 => rfl
    | 6 => rfl
    | 7 => rfl
    | 8 => rfl
    | 9 => rfl
    | 10 => exact (show _ = r 10 from rfl)
    | 11 => exact (show _ = r 11 from rfl)
    | x + 12 => rfl) d_Mo_init_78 ?_
  refine J_aload_n d_Mo_init_81 rfl 0 rfl ?_
  refine J_sipush d_Mo_init_82 (by decide) ?_
  refine J_newa (i := 10) (t := 0) (N := 900) (f := fun j => Value.int (iI ((fun _ => (0 : Int)) j))) d_Mo_init_85 (by decide) rfl ar_0 (hr 10 (by decide)) (by decide) (fun _ => rfl) ⟨Nat.le_of_ble_eq_true rfl, Nat.le_of_ble_eq_true rfl⟩ (fun a10 => ?_)
  refine J_put (i := 0) (c' := fun x => match x with | 0 => some (.inr (6, [Value.int (iI (bz false)), Value.int (iI 0), Value.int (iI 0), Value.ref a1, Value.ref a2, Value.ref a3, Value.int (iI 0), Value.ref a4, Value.ref a5, Value.int (iI (bz false)), Value.ref a6, Value.ref a7, Value.ref a8, Value.ref a9, Value.int (iI 0), Value.int (iI 0), Value.ref a10, Value.null, Value.int (iI 0)])) | 1 => some (.inl (0, 10, fun j => Value.int (iI ((fun _ => (0 : Int)) j)))) | 2 => some (.inl (0, 10, fun j => Value.int (iI ((fun _ => (0 : Int)) j)))) | 3 => some (.inl (0, 30, fun j => Value.int (iI ((fun _ => (0 : Int)) j)))) | 4 => some (.inl (0, 12, fun j => Value.int (iI ((fun _ => (0 : Int)) j)))) | 5 => some (.inl (3, 7436, fun j => Value.int (iI (bz ((fun _ => false) j))))) | 6 => some (.inl (3, 845, fun j => Value.int (iI (bz ((fun _ => false) j))))) | 7 => some (.inl (3, 845, fun j => Value.int (iI (bz ((fun _ => false) j))))) | 8 => some (.inl (1, 845, fun j => Value.long (iL ((fun _ => (0 : Int)) j)))) | 9 => some (.inl (3, 845, fun j => Value.int (iI (bz ((fun _ => false) j))))) | 10 => some (.inl (0, 900, fun j => Value.int (iI ((fun _ => (0 : Int)) j)))) | x => r x) fs_Mo_39 rfl (Nat.le_of_ble_eq_true rfl) (fun _ h => by cases h; exact Or.inl rfl) rfl rfl (by
    funext x
    match x with
    | 0 => rfl
    | 1 => rfl
    | 2 => rfl
    | 3 => rfl
    | 4 => rfl
    | 5 => rfl
    | 6 => rfl
    | 7 => rfl
    | 8 => rfl
    | 9 => rfl
    | 10 => rfl
    | 11 => exact (show _ = r 11 from rfl)
    | x + 12 => rfl) d_Mo_init_87 ?_
  refine J_aload_n d_Mo_init_90 rfl 0 rfl ?_
  refine J_sipush d_Mo_init_91 (by decide) ?_
  refine J_newa (i := 11) (t := 1) (N := 900) (f := fun j => Value.long (iL ((fun _ => (0 : Int)) j))) d_Mo_init_94 (by decide) rfl ar_1 (hr 11 (by decide)) (by decide) (fun _ => rfl) ⟨Nat.le_of_ble_eq_true rfl, Nat.le_of_ble_eq_true rfl⟩ (fun a11 => ?_)
  refine J_put (i := 0) (c' := fun x => match x with | 0 => some (.inr (6, [Value.int (iI (bz false)), Value.int (iI 0), Value.int (iI 0), Value.ref a1, Value.ref a2, Value.ref a3, Value.int (iI 0), Value.ref a4, Value.ref a5, Value.int (iI (bz false)), Value.ref a6, Value.ref a7, Value.ref a8, Value.ref a9, Value.int (iI 0), Value.int (iI 0), Value.ref a10, Value.ref a11, Value.int (iI 0)])) | 1 => some (.inl (0, 10, fun j => Value.int (iI ((fun _ => (0 : Int)) j)))) | 2 => some (.inl (0, 10, fun j => Value.int (iI ((fun _ => (0 : Int)) j)))) | 3 => some (.inl (0, 30, fun j => Value.int (iI ((fun _ => (0 : Int)) j)))) | 4 => some (.inl (0, 12, fun j => Value.int (iI ((fun _ => (0 : Int)) j)))) | 5 => some (.inl (3, 7436, fun j => Value.int (iI (bz ((fun _ => false) j))))) | 6 => some (.inl (3, 845, fun j => Value.int (iI (bz ((fun _ => false) j))))) | 7 => some (.inl (3, 845, fun j => Value.int (iI (bz ((fun _ => false) j))))) | 8 => some (.inl (1, 845, fun j => Value.long (iL ((fun _ => (0 : Int)) j)))) | 9 => some (.inl (3, 845, fun j => Value.int (iI (bz ((fun _ => false) j))))) | 10 => some (.inl (0, 900, fun j => Value.int (iI ((fun _ => (0 : Int)) j)))) | 11 => some (.inl (1, 900, fun j => Value.long (iL ((fun _ => (0 : Int)) j)))) | x => r x) fs_Mo_42 rfl (Nat.le_of_ble_eq_true rfl) (fun _ h => by cases h; exact Or.inl rfl) rfl rfl (by
    funext x
    match x with
    | 0 => rfl
    | 1 => rfl
    | 2 => rfl
    | 3 => rfl
    | 4 => rfl
    | 5 => rfl
    | 6 => rfl
    | 7 => rfl
    | 8 => rfl
    | 9 => rfl
    | 10 => rfl
    | 11 => rfl
    | x + 12 => rfl) d_Mo_init_96 ?_
  show J l D b Y_Mo_init _ _ (va_up (va_up (va_up (va_up (va_up (va_up (va_up (va_up (va_up (va_up (va_up (ad) 1 a1) 2 a2) 3 a3) 4 a4) 5 a5) 6 a6) 7 a7) 8 a8) 9 a9) 10 a10) 11 a11, fun x => match x with | 0 => some (.inr (6, [Value.int (iI (bz false)), Value.int (iI 0), Value.int (iI 0), Value.ref a1, Value.ref a2, Value.ref a3, Value.int (iI 0), Value.ref a4, Value.ref a5, Value.int (iI (bz false)), Value.ref a6, Value.ref a7, Value.ref a8, Value.ref a9, Value.int (iI 0), Value.int (iI 0), Value.ref a10, Value.ref a11, Value.int (iI 0)])) | 1 => some (.inl (0, 10, fun j => Value.int (iI ((fun _ => (0 : Int)) j)))) | 2 => some (.inl (0, 10, fun j => Value.int (iI ((fun _ => (0 : Int)) j)))) | 3 => some (.inl (0, 30, fun j => Value.int (iI ((fun _ => (0 : Int)) j)))) | 4 => some (.inl (0, 12, fun j => Value.int (iI ((fun _ => (0 : Int)) j)))) | 5 => some (.inl (3, 7436, fun j => Value.int (iI (bz ((fun _ => false) j))))) | 6 => some (.inl (3, 845, fun j => Value.int (iI (bz ((fun _ => false) j))))) | 7 => some (.inl (3, 845, fun j => Value.int (iI (bz ((fun _ => false) j))))) | 8 => some (.inl (1, 845, fun j => Value.long (iL ((fun _ => (0 : Int)) j)))) | 9 => some (.inl (3, 845, fun j => Value.int (iI (bz ((fun _ => false) j))))) | 10 => some (.inl (0, 900, fun j => Value.int (iI ((fun _ => (0 : Int)) j)))) | 11 => some (.inl (1, 900, fun j => Value.long (iL ((fun _ => (0 : Int)) j)))) | x => r x) (((((((((((0 + 1) + 1) + 1) + 1) + 1) + 1) + 1) + 1) + 1) + 1) + 1) (((((((((((0 + 10) + 10) + 30) + 12) + 7436) + 845) + 845) + 845) + 845) + 900) + 900) 99 [(0, Value.ref (ad 0)), (1, Value.int (iI z))] []
  refine J_aload_n d_Mo_init_99 rfl 0 rfl ?_
  refine J_iload_n d_Mo_init_100 rfl 1 rfl ?_
  refine J_if_eq (tgt := 108) d_Mo_init_101 rfl hz (fun h => ?_) (fun h => ?_)
  · refine J_iconst d_Mo_init_108 ?_
    refine J.top (show Value.int (iI 0) = Value.int (iI (bz false)) from rfl) ?_
    refine J_put (i := 0) (c' := cM (va_up (va_up (va_up (va_up (va_up (va_up (va_up (va_up (va_up (va_up (va_up (ad) 1 a1) 2 a2) 3 a3) 4 a4) 5 a5) 6 a6) 7 a7) 8 a8) 9 a9) 10 a10) 11 a11) r false 0 0 (fun _ => (0 : Int)) (fun _ => (0 : Int)) (fun _ => (0 : Int)) 0 (fun _ => (0 : Int)) (fun _ => false) false (fun _ => false) (fun _ => false) (fun _ => (0 : Int)) (fun _ => false) 0 0 (fun _ => (0 : Int)) (fun _ => (0 : Int)) 0) fs_Mo_45 rfl (Nat.le_of_ble_eq_true rfl) (fun _ h => by cases h; exact Or.inr ⟨rfl, rfl⟩) (nar_z _) (fit_z _) (by
      funext x
      match x with
      | 0 => rfl
      | 1 => rfl
      | 2 => rfl
      | 3 => rfl
      | 4 => rfl
      | 5 => rfl
      | 6 => rfl
      | 7 => rfl
      | 8 => rfl
      | 9 => rfl
      | 10 => rfl
      | 11 => rfl
      | x + 12 => rfl) d_Mo_init_109 ?_
    refine J_aload_n d_Mo_init_112 rfl 0 rfl ?_
    refine J_iconst d_Mo_init_113 ?_
    refine J_callV (i := 0) (st := []) [Value.int (iI 0)] ms_Mo_49 rfl (c_Mo_makeSet gOK_0 (by omega) (by intro h; omega)) rfl rfl ⟨Nat.le_of_ble_eq_true rfl, Nat.le_of_ble_eq_true rfl⟩ ⟨Nat.le_of_ble_eq_true rfl, Nat.le_of_ble_eq_true rfl⟩ (Nat.le_of_ble_eq_true rfl) d_Mo_init_114 (fun v w' hp => ?_)
    obtain ⟨rfl, it9, rfl, hM⟩ := hp
    refine J.stk (st' := []) rfl ?_
    refine J_vret rfl d_Mo_init_117 ⟨Nat.le_of_ble_eq_true rfl, Nat.le_of_ble_eq_true rfl⟩ ?_
    have hlp : decide (z ≠ 0) = false := decide_eq_false (fun q => q h)
    rw [hlp]
    exact ⟨rfl, va_up (va_up (va_up (va_up (va_up (va_up (va_up (va_up (va_up (va_up (va_up (ad) 1 a1) 2 a2) 3 a3) 4 a4) 5 a5) 6 a6) 7 a7) 8 a8) 9 a9) 10 a10) 11 a11, it9, (fun i hi => by
      match i, hi with
      | x + 12, _ => rfl), rfl, rfl, hM⟩
  · refine J_iconst d_Mo_init_104 ?_
    refine J_goto (tgt := 109) d_Mo_init_105 rfl ?_
    refine J.top (show Value.int (iI 1) = Value.int (iI (bz true)) from rfl) ?_
    refine J_put (i := 0) (c' := cM (va_up (va_up (va_up (va_up (va_up (va_up (va_up (va_up (va_up (va_up (va_up (ad) 1 a1) 2 a2) 3 a3) 4 a4) 5 a5) 6 a6) 7 a7) 8 a8) 9 a9) 10 a10) 11 a11) r true 0 0 (fun _ => (0 : Int)) (fun _ => (0 : Int)) (fun _ => (0 : Int)) 0 (fun _ => (0 : Int)) (fun _ => false) false (fun _ => false) (fun _ => false) (fun _ => (0 : Int)) (fun _ => false) 0 0 (fun _ => (0 : Int)) (fun _ => (0 : Int)) 0) fs_Mo_45 rfl (Nat.le_of_ble_eq_true rfl) (fun _ h => by cases h; exact Or.inr ⟨rfl, rfl⟩) (nar_z _) (fit_z _) (by
      funext x
      match x with
      | 0 => rfl
      | 1 => rfl
      | 2 => rfl
      | 3 => rfl
      | 4 => rfl
      | 5 => rfl
      | 6 => rfl
      | 7 => rfl
      | 8 => rfl
      | 9 => rfl
      | 10 => rfl
      | 11 => rfl
      | x + 12 => rfl) d_Mo_init_109 ?_
    refine J_aload_n d_Mo_init_112 rfl 0 rfl ?_
    refine J_iconst d_Mo_init_113 ?_
    refine J_callV (i := 0) (st := []) [Value.int (iI 0)] ms_Mo_49 rfl (c_Mo_makeSet gOK_0 (by omega) (by intro h; omega)) rfl rfl ⟨Nat.le_of_ble_eq_true rfl, Nat.le_of_ble_eq_true rfl⟩ ⟨Nat.le_of_ble_eq_true rfl, Nat.le_of_ble_eq_true rfl⟩ (Nat.le_of_ble_eq_true rfl) d_Mo_init_114 (fun v w' hp => ?_)
    obtain ⟨rfl, it9, rfl, hM⟩ := hp
    refine J.stk (st' := []) rfl ?_
    refine J_vret rfl d_Mo_init_117 ⟨Nat.le_of_ble_eq_true rfl, Nat.le_of_ble_eq_true rfl⟩ ?_
    have hlp : decide (z ≠ 0) = true := decide_eq_true h
    rw [hlp]
    exact ⟨rfl, va_up (va_up (va_up (va_up (va_up (va_up (va_up (va_up (va_up (va_up (va_up (ad) 1 a1) 2 a2) 3 a3) 4 a4) 5 a5) 6 a6) 7 a7) 8 a8) 9 a9) 10 a10) 11 a11, it9, (fun i hi => by
      match i, hi with
      | x + 12, _ => rfl), rfl, rfl, hM⟩
end M12
