/-! whole numbers of the machine as images of mathematical ones -/
def iI (z : Int) : Int32 := Int32.ofInt z
def iL (z : Int) : Int64 := Int64.ofInt z
theorem iI_add (a b : Int) : iI a + iI b = iI (a + b) := (Int32.ofInt_add a b).symm
theorem iI_sub (a b : Int) : iI a - iI b = iI (a - b) := (Int32.ofInt_sub a b).symm
theorem iI_mul (a b : Int) : iI a * iI b = iI (a * b) := (Int32.ofInt_mul a b).symm
theorem iL_add (a b : Int) : iL a + iL b = iL (a + b) := (Int64.ofInt_add a b).symm
theorem iL_sub (a b : Int) : iL a - iL b = iL (a - b) := (Int64.ofInt_sub a b).symm
theorem iL_mul (a b : Int) : iL a * iL b = iL (a * b) := (Int64.ofInt_mul a b).symm
theorem iI_toInt {z : Int} (h : -2147483648 ≤ z ∧ z ≤ 2147483647) : (iI z).toInt = z := by
  unfold iI
  rw [Int32.toInt_ofInt]
  show z.bmod 4294967296 = z
  exact Int.bmod_eq_of_le (by omega) (by omega)
theorem iL_toInt {z : Int} (h : -9223372036854775808 ≤ z ∧ z ≤ 9223372036854775807) : (iL z).toInt = z := by
  unfold iL
  rw [Int64.toInt_ofInt]
  show z.bmod 18446744073709551616 = z
  exact Int.bmod_eq_of_le (by omega) (by omega)
theorem iI_of (x : Int32) : x = iI x.toInt := by unfold iI; exact (Int32.ofInt_toInt x).symm
theorem iL_of (x : Int64) : x = iL x.toInt := by unfold iL; exact (Int64.ofInt_toInt x).symm
theorem iI_rng (x : Int32) : -2147483648 ≤ x.toInt ∧ x.toInt ≤ 2147483647 := ⟨by have := Int32.le_toInt x; omega, by have := Int32.toInt_lt x; omega⟩
theorem iL_rng (x : Int64) : -9223372036854775808 ≤ x.toInt ∧ x.toInt ≤ 9223372036854775807 := ⟨by have := Int64.le_toInt x; omega, by have := Int64.toInt_lt x; omega⟩
theorem iI_lt {a b : Int} (ha : -2147483648 ≤ a ∧ a ≤ 2147483647) (hb : -2147483648 ≤ b ∧ b ≤ 2147483647) : iI a < iI b ↔ a < b := by
  rw [Int32.lt_iff_toInt_lt, iI_toInt ha, iI_toInt hb]
theorem iI_le {a b : Int} (ha : -2147483648 ≤ a ∧ a ≤ 2147483647) (hb : -2147483648 ≤ b ∧ b ≤ 2147483647) : iI a ≤ iI b ↔ a ≤ b := by
  rw [Int32.le_iff_toInt_le, iI_toInt ha, iI_toInt hb]
theorem iI_eq {a b : Int} (ha : -2147483648 ≤ a ∧ a ≤ 2147483647) (hb : -2147483648 ≤ b ∧ b ≤ 2147483647) : iI a = iI b ↔ a = b := by
  rw [← Int32.toInt_inj, iI_toInt ha, iI_toInt hb]
theorem iL_lt {a b : Int} (ha : -9223372036854775808 ≤ a ∧ a ≤ 9223372036854775807) (hb : -9223372036854775808 ≤ b ∧ b ≤ 9223372036854775807) : iL a < iL b ↔ a < b := by
  rw [Int64.lt_iff_toInt_lt, iL_toInt ha, iL_toInt hb]
theorem iL_eq {a b : Int} (ha : -9223372036854775808 ≤ a ∧ a ≤ 9223372036854775807) (hb : -9223372036854775808 ≤ b ∧ b ≤ 9223372036854775807) : iL a = iL b ↔ a = b := by
  rw [← Int64.toInt_inj, iL_toInt ha, iL_toInt hb]
theorem iI_0 : (0 : Int32) = iI 0 := rfl
theorem iI_clamp {z : Int} (h : 0 ≤ z ∧ z ≤ 2147483647) : (iI z).toNatClampNeg = z.toNat := by
  show (iI z).toInt.toNat = z.toNat
  rw [iI_toInt (by omega)]
theorem iI_in {z : Int} {n : Nat} (h : 0 ≤ z ∧ z < n) (hn : n ≤ 2147483647) : ¬ (iI z < 0 ∨ n ≤ (iI z).toNatClampNeg) := by
  rw [iI_0, iI_lt (by omega) (by omega), iI_clamp (by omega)]
  omega
theorem iI_nat (n : Nat) : Int32.ofNat n = iI (n : Int) := by
  unfold iI
  exact (Int32.ofInt_eq_ofNat).symm
theorem iI_div {a b : Int} (ha : 0 ≤ a ∧ a ≤ 2147483647) (hb : 0 < b ∧ b ≤ 2147483647) : iI a / iI b = iI (a / b) := by
  obtain ⟨x, rfl⟩ := Int.eq_ofNat_of_zero_le ha.1
  obtain ⟨y, rfl⟩ := Int.eq_ofNat_of_zero_le (show 0 ≤ b by omega)
  rw [← iI_nat, ← iI_nat]
  have h := pk_div (a := x) (d := y) (by omega) (by omega) (by omega)
  unfold nI at h
  rw [h, iI_nat]
  rfl
theorem iI_rem {a b : Int} (ha : 0 ≤ a ∧ a ≤ 2147483647) (hb : 0 < b ∧ b ≤ 2147483647) : iI a - iI a / iI b * iI b = iI (a % b) := by
  rw [iI_div ha hb, iI_mul, iI_sub]
  congr 1
  have := Int.emod_add_mul_ediv a b
  rw [Int.mul_comm] at this
  omega
theorem iL_nat (n : Nat) : Int64.ofNat n = iL (n : Int) := by
  unfold iL
  exact (Int64.ofInt_eq_ofNat).symm
theorem iL_div {a b : Int} (ha : 0 ≤ a ∧ a ≤ 9223372036854775807) (hb : 0 < b ∧ b ≤ 9223372036854775807) : iL a / iL b = iL (a / b) := by
  obtain ⟨x, rfl⟩ := Int.eq_ofNat_of_zero_le ha.1
  obtain ⟨y, rfl⟩ := Int.eq_ofNat_of_zero_le (show 0 ≤ b by omega)
  rw [← iL_nat, ← iL_nat]
  have h := pk_lDiv (a := x) (b := y) (by omega) (by omega) (by omega)
  unfold lN at h
  rw [h, iL_nat]
  rfl
theorem iL_rem {a b : Int} (ha : 0 ≤ a ∧ a ≤ 9223372036854775807) (hb : 0 < b ∧ b ≤ 9223372036854775807) : iL a - iL a / iL b * iL b = iL (a % b) := by
  rw [iL_div ha hb, iL_mul, iL_sub]
  congr 1
  have := Int.emod_add_mul_ediv a b
  rw [Int.mul_comm] at this
  omega
/-- a function changed at one place -/
def upI {α : Type} (f : Int → α) (z : Int) (v : α) : Int → α := fun j => if j = z then v else f j
theorem upI_self {α : Type} (f : Int → α) (z : Int) (v : α) : upI f z v z = v := if_pos rfl
theorem upI_ne {α : Type} (f : Int → α) {z j : Int} (v : α) (h : j ≠ z) : upI f z v j = f j := if_neg h
theorem upI_ap {α : Type} (f : Int → α) (z : Int) (v : α) (j : Int) : upI f z v j = if j = z then v else f j := rfl
theorem upI_map {α β : Type} (g : α → β) (f : Int → α) (z : Int) (v : α) : upI (fun j => g (f j)) z (g v) = fun j => g (upI f z v j) := by
  funext j
  unfold upI
  split <;> rfl
/-- a boolean as the machine has it -/
def bz (p : Bool) : Int := if p then 1 else 0
theorem bz_t : bz true = 1 := rfl
theorem bz_f : bz false = 0 := rfl
theorem bz_le (p : Bool) : 0 ≤ bz p ∧ bz p ≤ 1 := by cases p <;> decide
theorem bz_eq0 {p : Bool} : bz p = 0 ↔ p = false := by cases p <;> decide
theorem bz_ne0 {p : Bool} : ¬ bz p = 0 ↔ p = true := by cases p <;> decide
theorem nar_z (p : Bool) : narrow .boolean (.int (iI (bz p))) = .int (iI (bz p)) := by cases p <;> rfl
theorem nar_s {z : Int} (h : -32768 ≤ z ∧ z ≤ 32767) : narrow .short (.int (iI z)) = .int (iI z) := by
  have e : (iI z).toInt16.toInt32 = iI z := by
    apply Int32.toInt_inj.mp
    rw [Int16.toInt_toInt32, Int32.toInt_toInt16, iI_toInt (by omega)]
    exact Int.bmod_eq_of_le (by omega) (by omega)
  rw [← e]
  exact pk_ns _
