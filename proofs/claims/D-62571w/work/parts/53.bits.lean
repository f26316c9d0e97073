/-! more bits -/
def anI (a b : Int) : Int := ((a.toNat &&& b.toNat : Nat) : Int)
theorem anI_rng {a b : Int} (ha : 0 ≤ a ∧ a ≤ 2147483647) : 0 ≤ anI a b ∧ anI a b ≤ 2147483647 := by
  unfold anI
  have := Nat.and_le_left (n := a.toNat) (m := b.toNat)
  omega
theorem anI_31 {a : Int} : 0 ≤ anI a 31 ∧ anI a 31 ≤ 31 := by
  unfold anI
  have := Nat.and_le_right (n := a.toNat) (m := (31 : Int).toNat)
  omega
theorem iI_and {a b : Int} (ha : 0 ≤ a ∧ a ≤ 2147483647) (hb : 0 ≤ b ∧ b ≤ 2147483647) : iI a &&& iI b = iI (anI a b) := by
  have hr := anI_rng (b := b) ha
  rw [iI_toNat ha, iI_toNat hb, iI_toNat hr]
  apply Int32.toBitVec_inj.mp
  apply BitVec.eq_of_toNat_eq
  rw [Int32.toBitVec_and, BitVec.toNat_and, pk_tn (by omega), pk_tn (by omega), pk_tn (by omega)]
  unfold anI
  omega
theorem bit_an (a b s : Int) : bit (anI a b) s = (bit a s && bit b s) := by
  unfold bit anI
  rw [show ((a.toNat &&& b.toNat : Nat) : Int).toNat = a.toNat &&& b.toNat by omega, Nat.testBit_and]
theorem anI_0 {a b : Int} : anI a b = 0 ↔ ∀ y, bS a y → ¬ bS b y := by
  constructor
  · intro h y h1 h2
    have := bit_an a b y
    rw [h, bit_0, h1.2, h2.2] at this
    cases this
  · intro h
    refine bit_ext (by unfold anI; omega) (by omega) (fun s hs => ?_)
    rw [bit_an, bit_0]
    cases h1 : bit a s with
    | false => rfl
    | true =>
      cases h2 : bit b s with
      | false => rfl
      | true => exact absurd ⟨hs, h2⟩ (h s ⟨hs, h1⟩)
def anC (a d : Int) : Int := ((a.toNat &&& (31 ^^^ d.toNat) : Nat) : Int)
theorem anC_key : ∀ a : Nat, a < 32 → ∀ d : Nat, d < 32 → iI (a : Int) &&& (iI (d : Int) ^^^ iI (-1)) = iI ((a &&& (31 ^^^ d) : Nat) : Int) ∧ (a &&& (31 ^^^ d)) < 32 ∧ ((a &&& (31 ^^^ d)) = 0 ↔ ∀ t : Nat, t < 5 → a.testBit t = true → d.testBit t = true) := by decide +kernel
theorem iI_anC {a d : Int} (ha : 0 ≤ a ∧ a ≤ 31) (hd : 0 ≤ d ∧ d ≤ 31) : iI a &&& (iI d ^^^ iI (-1)) = iI (anC a d) ∧ (0 ≤ anC a d ∧ anC a d ≤ 31) ∧ (anC a d = 0 ↔ ∀ t, 0 ≤ t → t ≤ 4 → bit a t = true → bit d t = true) := by
  obtain ⟨x, rfl⟩ := Int.eq_ofNat_of_zero_le ha.1
  obtain ⟨y, rfl⟩ := Int.eq_ofNat_of_zero_le hd.1
  obtain ⟨h1, h2, h3⟩ := anC_key x (by omega) y (by omega)
  have e1 : ((x : Int)).toNat = x := by omega
  have e2 : ((y : Int)).toNat = y := by omega
  unfold anC bit
  rw [e1, e2]
  refine ⟨h1, by omega, ?_⟩
  rw [show (((x &&& (31 ^^^ y) : Nat)) : Int) = 0 ↔ (x &&& (31 ^^^ y)) = 0 by omega, h3]
  exact ⟨fun h t a b => h t.toNat (by omega), fun h t a => by have := h (t : Int) (by omega) (by omega); simpa using this⟩
theorem top_30 {a : Int} (ha : 0 ≤ a ∧ a ≤ 2147483647) : a / 1073741824 = 0 ↔ ¬ bS a 30 := by
  have h := bit_div a 30 ha.1
  have e : a / p2 30 = a / 1073741824 := rfl
  rw [e] at h
  unfold bS
  constructor
  · rintro h0 ⟨-, h2⟩
    rw [h2, h0] at h
    exact absurd h (by decide)
  · intro h0
    have h1 : bit a 30 = false := by
      cases hb : bit a 30 with
      | false => rfl
      | true => exact absurd ⟨by omega, hb⟩ h0
    rw [h1] at h
    have h2 : bz false = 0 := rfl
    omega
theorem bit_31 {e t : Int} (h : 0 ≤ e ∧ e ≤ 31) (ht : bS e t) : t ≤ 4 := by
  by_cases h4 : t ≤ 4
  · exact h4
  · have := bit_hi (n := 5) (a := e) (s := t) (by have : ((2 ^ 5 : Nat) : Int) = 32 := rfl; omega) (by omega)
    rw [ht.2] at this
    cases this
