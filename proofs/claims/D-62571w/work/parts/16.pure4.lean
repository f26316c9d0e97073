/-! bits; close and makeSet in words -/
def orI (a b : Int) : Int := ((a.toNat ||| b.toNat : Nat) : Int)
def p2 (s : Int) : Int := ((2 ^ s.toNat : Nat) : Int)
def bit (a s : Int) : Bool := a.toNat.testBit s.toNat
theorem iI_toNat {a : Int} (ha : 0 ≤ a ∧ a ≤ 2147483647) : iI a = nI a.toNat := by
  unfold nI
  rw [iI_nat]
  congr 1
  omega
theorem orI_rng {a b : Int} (ha : 0 ≤ a ∧ a ≤ 2147483647) (hb : 0 ≤ b ∧ b ≤ 2147483647) : 0 ≤ orI a b ∧ orI a b ≤ 2147483647 := by
  unfold orI
  have : a.toNat ||| b.toNat < 2 ^ 31 := Nat.or_lt_two_pow (by omega) (by omega)
  omega
theorem iI_or {a b : Int} (ha : 0 ≤ a ∧ a ≤ 2147483647) (hb : 0 ≤ b ∧ b ≤ 2147483647) : iI a ||| iI b = iI (orI a b) := by
  have hr := orI_rng ha hb
  rw [iI_toNat ha, iI_toNat hb, iI_toNat hr]
  apply Int32.toBitVec_inj.mp
  apply BitVec.eq_of_toNat_eq
  rw [Int32.toBitVec_or, BitVec.toNat_or, pk_tn (by omega), pk_tn (by omega), pk_tn (by omega)]
  unfold orI
  omega
theorem iI_shl1 {s : Int} (hs : 0 ≤ s ∧ s ≤ 30) : iI 1 <<< (iI s &&& 31) = iI (p2 s) := by
  obtain ⟨n, rfl⟩ := Int.eq_ofNat_of_zero_le hs.1
  have key : ∀ m : Nat, m < 31 → iI 1 <<< (iI (m : Int) &&& 31) = iI ((2 ^ m : Nat) : Int) := by decide +kernel
  have := key n (by omega)
  unfold p2
  rw [show ((n : Int).toNat) = n by omega]
  exact this
theorem iI_shr {a s : Int} (ha : 0 ≤ a ∧ a ≤ 2147483647) (hs : 0 ≤ s ∧ s ≤ 31) : iI a >>> (iI s &&& 31) = iI (a / p2 s) := by
  obtain ⟨n, rfl⟩ := Int.eq_ofNat_of_zero_le hs.1
  obtain ⟨x, rfl⟩ := Int.eq_ofNat_of_zero_le ha.1
  have key : ∀ m : Nat, m < 32 → ((iI (m : Int) &&& 31).toBitVec.smod 32).toNat = m := by decide +kernel
  have h := pk_shrN (n := x) (by omega) (iI (n : Int) &&& 31) n (key n (by omega))
  unfold nI at h
  rw [iI_nat] at h
  rw [h, iI_nat]
  unfold p2
  rw [show ((n : Int).toNat) = n by omega]
  rfl
theorem bit_div (a s : Int) (ha : 0 ≤ a) : a / p2 s % 2 = bz (bit a s) := by
  obtain ⟨x, rfl⟩ := Int.eq_ofNat_of_zero_le ha
  unfold bit p2 bz
  rw [Nat.testBit_eq_decide_div_mod_eq, show ((x : Int).toNat) = x by omega]
  have h1 : ((x : Int) / ((2 ^ s.toNat : Nat) : Int) % 2) = (((x / 2 ^ s.toNat % 2 : Nat)) : Int) := by
    rw [Int.natCast_emod, Int.natCast_ediv]
    rfl
  rw [h1]
  have := Nat.mod_lt (x / 2 ^ s.toNat) (show 0 < 2 by omega)
  by_cases h : x / 2 ^ s.toNat % 2 = 1
  · simp [h]
  · have h0 : x / 2 ^ s.toNat % 2 = 0 := by omega
    simp [h0]
theorem iI_and1 {a : Int} (ha : 0 ≤ a ∧ a ≤ 2147483647) : iI a &&& iI 1 = iI (a % 2) := by
  have h := pk_andN (n := a.toNat) (by omega) (m := iI 1) 1 (by decide)
  rw [iI_toNat ha, h, iI_toNat (by omega)]
  congr 1
  omega
theorem iI_bit {a s : Int} (ha : 0 ≤ a ∧ a ≤ 2147483647) : iI (a / p2 s) &&& iI 1 = iI (bz (bit a s)) := by
  have hp : 0 < p2 s := by
    unfold p2
    have := Nat.two_pow_pos s.toNat
    omega
  have h1 : 0 ≤ a / p2 s := Int.ediv_nonneg ha.1 (by omega)
  have h2 : a / p2 s ≤ a := Int.ediv_le_self _ ha.1
  rw [iI_and1 (by omega), bit_div a s ha.1]
theorem bit_or (a b s : Int) : bit (orI a b) s = (bit a s || bit b s) := by
  unfold bit orI
  rw [show ((a.toNat ||| b.toNat : Nat) : Int).toNat = a.toNat ||| b.toNat by omega, Nat.testBit_or]
theorem bit_0 (s : Int) : bit 0 s = false := by
  unfold bit
  show Nat.testBit 0 s.toNat = false
  exact Nat.zero_testBit _
theorem bit_p2 {k s : Int} (hk : 0 ≤ k) (hs : 0 ≤ s) : bit (p2 k) s = decide (k = s) := by
  unfold bit p2
  rw [Int.toNat_natCast, Nat.testBit_two_pow]
  by_cases h : k = s
  · rw [decide_eq_true h, decide_eq_true (by omega)]
  · rw [decide_eq_false h, decide_eq_false (by omega)]
theorem p2_rng {s : Int} (hs : 0 ≤ s ∧ s ≤ 30) : 1 ≤ p2 s ∧ p2 s ≤ 1073741824 := by
  unfold p2
  have h1 := Nat.two_pow_pos s.toNat
  have h2 : 2 ^ s.toNat ≤ 2 ^ 30 := Nat.pow_le_pow_right (by omega) (by omega)
  omega
theorem bit_ext {a b : Int} (ha : 0 ≤ a) (hb : 0 ≤ b) (h : ∀ s, 0 ≤ s → bit a s = bit b s) : a = b := by
  have : a.toNat = b.toNat := Nat.eq_of_testBit_eq (fun i => by have := h (i : Int) (by omega); unfold bit at this; simpa using this)
  omega
theorem bit_hi {a s : Int} {n : Nat} (ha : 0 ≤ a ∧ a < ((2 ^ n : Nat) : Int)) (hs : (n : Int) ≤ s) : bit a s = false := by
  unfold bit
  exact Nat.testBit_lt_two_pow (Nat.lt_of_lt_of_le (show a.toNat < 2 ^ n by omega) (Nat.pow_le_pow_right (by omega) (by omega)))
section P4
variable {it it0 it1 it2 it3 : Int → Bool} {nr : Int} {lf ln bd tm : Int → Int} {lp : Bool} {s x k n i c : Int}
/-- the set i is closed now -/
def Clo (lp : Bool) (nr : Int) (lf ln bd : Int → Int) (i : Int) (it it' : Int → Bool) : Prop := (∀ p, it p = true → it' p = true) ∧ (∀ p, ¬ (572 * i ≤ p ∧ p < 572 * i + 572) → it' p = it p) ∧ Snd lp nr lf ln bd i it it' ∧ Cl lp nr lf ln bd i it'
/-- a pass of close up to k -/
def Pas (lp : Bool) (nr : Int) (lf ln bd : Int → Int) (i k : Int) (it it1 it2 : Int → Bool) (mo : Bool) : Prop :=
  (∀ p, it1 p = true → it2 p = true) ∧ (∀ p, ¬ (572 * i ≤ p ∧ p < 572 * i + 572) → it2 p = it p) ∧ Snd lp nr lf ln bd i it it2 ∧ (mo = false → it2 = it1 ∧ ∀ c, 0 ≤ c → c < k → it1 (572 * i + c) = true → ∀ d, stp lp nr lf ln bd it1 i c d → it1 (572 * i + d) = true) ∧ (mo = true → cntR i it1 < cntR i it2)
theorem pas_skip {mo : Bool} (h : Pas lp nr lf ln bd i k it it1 it2 mo) (hf : it2 (572 * i + k) = false) : Pas lp nr lf ln bd i (k + 1) it it1 it2 mo := by
  obtain ⟨h1, h2, h3, h4, h5⟩ := h
  refine ⟨h1, h2, h3, fun hm => ⟨(h4 hm).1, fun c a1 a2 a3 => ?_⟩, h5⟩
  by_cases hck : c = k
  · rw [hck, ← (h4 hm).1, hf] at a3
    exact absurd a3 (by decide)
  · exact (h4 hm).2 c a1 (by omega) a3
theorem pas_more {mo : Bool} (h : Pas lp nr lf ln bd i k it it1 it2 mo) (hf : Fol lp nr lf ln bd i k it2 it3 n) (hm : mo = true ∨ 0 < n) : Pas lp nr lf ln bd i (k + 1) it it1 it3 true := by
  obtain ⟨h1, h2, h3, h4, h5⟩ := h
  obtain ⟨g1, g2, -, -⟩ := hf
  refine ⟨fun p hp => g1.1 p (h1 p hp), fun p hp => (g1.2.1 p hp).trans (h2 p hp), h3.trans h2 g2, (fun h => by cases h), fun _ => ?_⟩
  have := cntR_le (i := i) g1.1
  rcases hm with hm | hm
  · have := h5 hm
    omega
  · have := g1.2.2.2.2 hm
    have := cntR_le (i := i) h1
    omega
theorem pas_same {mo : Bool} (h : Pas lp nr lf ln bd i k it it1 it2 mo) (hf : Fol lp nr lf ln bd i k it2 it3 n) (hm : mo = false) (hn : n ≤ 0) : Pas lp nr lf ln bd i (k + 1) it it1 it3 false := by
  obtain ⟨h1, h2, h3, h4, h5⟩ := h
  obtain ⟨g1, g2, -, g4⟩ := hf
  have hn0 : n = 0 := by have := g1.2.2.1; omega
  have e3 : it3 = it2 := g1.2.2.2.1 hn0
  obtain ⟨e2, h6⟩ := h4 hm
  rw [e3, e2]
  rw [e2] at h2 h3 g4
  refine ⟨fun _ h => h, h2, h3, fun _ => ⟨rfl, fun c a1 a2 a3 => ?_⟩, (fun h => by cases h)⟩
  by_cases hck : c = k
  · rw [hck]
    exact g4 hn0
  · exact h6 c a1 (by omega) a3
theorem pas_0 (h1 : ∀ p, ¬ (572 * i ≤ p ∧ p < 572 * i + 572) → it1 p = it p) (h2 : Snd lp nr lf ln bd i it it1) : Pas lp nr lf ln bd i 0 it it1 it1 false := ⟨fun _ h => h, h1, h2, fun _ => ⟨rfl, fun c a1 a2 => by omega⟩, (fun h => by cases h)⟩
theorem pas_cl {mo : Bool} (h : Pas lp nr lf ln bd i 572 it it1 it2 mo) (hm : mo = false) : Cl lp nr lf ln bd i it2 := by
  obtain ⟨-, -, -, h4, -⟩ := h
  obtain ⟨e, h6⟩ := h4 hm
  rw [e]
  exact fun c d a1 a2 a3 a4 => h6 c a1 a2 a3 d a4
theorem pas_mu {mo : Bool} (h : Pas lp nr lf ln bd i 572 it it1 it2 mo) : (572 - cntR i it2).toNat + (if mo = true then 1 else 0) < (572 - cntR i it1).toNat + (if true = true then 1 else 0) := by
  obtain ⟨-, -, -, h4, h5⟩ := h
  have h1 := cntR_rng (i := i) (it := it1)
  have h2 := cntR_rng (i := i) (it := it2)
  cases mo with
  | false =>
    rw [(h4 rfl).1]
    simp
  | true =>
    have := h5 rfl
    simp
    omega
/-- with what a set begins -/
def stt (tm ln bd : Int → Int) (it : Int → Bool) (i d : Int) : Prop := (i = 0 ∧ d = 0) ∨ (0 < i ∧ ∃ k, 0 ≤ k ∧ k < 572 ∧ it (572 * (i - 1) + k) = true ∧ bc ln bd k = tm (i - 1) ∧ d = k + 13)
/-- the set i has been made: the least closed one with what it begins with -/
def Mks (lp : Bool) (nr : Int) (lf ln bd tm : Int → Int) (i : Int) (it it' : Int → Bool) : Prop := (∀ p, ¬ (572 * i ≤ p ∧ p < 572 * i + 572) → it' p = it p) ∧ (∀ d, stt tm ln bd it i d → it' (572 * i + d) = true) ∧ Cl lp nr lf ln bd i it' ∧ ∀ T : Int → Bool, (∀ p, ¬ (572 * i ≤ p ∧ p < 572 * i + 572) → T p = it p) → (∀ d, stt tm ln bd it i d → T (572 * i + d) = true) → Cl lp nr lf ln bd i T → ∀ p, it' p = true → T p = true
def clr (it : Int → Bool) (i k : Int) : Int → Bool := fun p => if 572 * i ≤ p ∧ p < 572 * i + k then false else it p
theorem clr_0 : clr it i 0 = it := by
  funext p
  unfold clr
  rw [if_neg (by omega)]
theorem clr_s (hk : 0 ≤ k) : upI (clr it i k) (572 * i + k) false = clr it i (k + 1) := by
  funext p
  unfold upI clr
  by_cases h : p = 572 * i + k
  · rw [if_pos h, if_pos (by omega)]
  · rw [if_neg h]
    by_cases h2 : 572 * i ≤ p ∧ p < 572 * i + k
    · rw [if_pos h2, if_pos (by omega)]
    · rw [if_neg h2, if_neg (by omega)]
/-- while a set's first items are laid -/
def Beg (tm ln bd : Int → Int) (it it2 : Int → Bool) (i k : Int) : Prop := ∀ p, it2 p = true ↔ (¬ (572 * i ≤ p ∧ p < 572 * i + 572) ∧ it p = true) ∨ (i = 0 ∧ p = 0) ∨ (0 < i ∧ ∃ j, 0 ≤ j ∧ j < k ∧ it (572 * (i - 1) + j) = true ∧ bc ln bd j = tm (i - 1) ∧ p = 572 * i + (j + 13))
theorem beg_0 (h0 : 0 < i) : Beg tm ln bd it (clr it i 572) i 0 := by
  intro p
  unfold clr
  by_cases h : 572 * i ≤ p ∧ p < 572 * i + 572
  · rw [if_pos h]
    refine ⟨(fun h => by cases h), fun h2 => ?_⟩
    rcases h2 with ⟨h3, -⟩ | ⟨h3, -⟩ | ⟨-, j, h3, h4, -⟩
    · exact absurd h h3
    · omega
    · omega
  · rw [if_neg h]
    refine ⟨fun h2 => Or.inl ⟨h, h2⟩, fun h2 => ?_⟩
    rcases h2 with ⟨-, h3⟩ | ⟨h3, -⟩ | ⟨-, j, h3, h4, -⟩
    · exact h3
    · omega
    · omega
theorem beg_00 (h0 : i = 0) : Beg tm ln bd it (upI (clr it i 572) 0 true) i 0 := by
  intro p
  unfold upI clr
  by_cases hp : p = 0
  · rw [if_pos hp]
    exact ⟨fun _ => Or.inr (Or.inl ⟨h0, hp⟩), fun _ => rfl⟩
  · rw [if_neg hp]
    by_cases h : 572 * i ≤ p ∧ p < 572 * i + 572
    · rw [if_pos h]
      refine ⟨(fun h => by cases h), fun h2 => ?_⟩
      rcases h2 with ⟨h3, -⟩ | ⟨-, h3⟩ | ⟨-, j, h3, h4, -⟩
      · exact absurd h h3
      · exact absurd h3 hp
      · omega
    · rw [if_neg h]
      refine ⟨fun h2 => Or.inl ⟨h, h2⟩, fun h2 => ?_⟩
      rcases h2 with ⟨-, h3⟩ | ⟨-, h3⟩ | ⟨-, j, h3, h4, -⟩
      · exact h3
      · exact absurd h3 hp
      · omega
theorem beg_read (h : Beg tm ln bd it it2 i k) (hi : 0 < i) {j : Int} (hj : 0 ≤ j ∧ j < 572) : it2 (572 * (i - 1) + j) = it (572 * (i - 1) + j) := by
  have e := h (572 * (i - 1) + j)
  cases h1 : it (572 * (i - 1) + j) with
  | true => exact e.mpr (Or.inl ⟨by omega, h1⟩)
  | false =>
    cases h2 : it2 (572 * (i - 1) + j) with
    | false => rfl
    | true =>
      rcases e.mp h2 with ⟨-, h3⟩ | ⟨h3, -⟩ | ⟨-, j', h3, h4, -, -, h5⟩
      · rw [h1] at h3
        exact h3.symm
      · omega
      · omega
theorem beg_no (h : Beg tm ln bd it it2 i k) (hk : 0 ≤ k ∧ k < 572) (hi : 0 < i) (hn : it2 (572 * (i - 1) + k) = false ∨ bc ln bd k ≠ tm (i - 1)) : Beg tm ln bd it it2 i (k + 1) := by
  intro p
  rw [h p]
  refine or_congr_right (or_congr_right (and_congr_right fun _ => ⟨fun ⟨j, a1, a2, a3⟩ => ⟨j, a1, by omega, a3⟩, fun ⟨j, a1, a2, a3, a4, a5⟩ => ⟨j, a1, ?_, a3, a4, a5⟩⟩))
  by_cases hj : j = k
  · rw [hj] at a3 a4
    rcases hn with hn | hn
    · rw [beg_read h hi hk] at hn
      rw [hn] at a3
      cases a3
    · exact absurd a4 hn
  · omega
theorem beg_yes (h : Beg tm ln bd it it2 i k) (hk : 0 ≤ k ∧ k < 572) (hi : 0 < i) (h1 : it2 (572 * (i - 1) + k) = true) (h2 : bc ln bd k = tm (i - 1)) : Beg tm ln bd it (upI it2 (572 * i + (k + 13)) true) i (k + 1) := by
  intro p
  unfold upI
  by_cases hp : p = 572 * i + (k + 13)
  · rw [if_pos hp]
    refine ⟨fun _ => Or.inr (Or.inr ⟨hi, k, by omega, by omega, ?_, h2, hp⟩), fun _ => rfl⟩
    rw [← beg_read h hi hk]
    exact h1
  · rw [if_neg hp, h p]
    refine or_congr_right (or_congr_right (and_congr_right fun _ => ⟨fun ⟨j, a1, a2, a3⟩ => ⟨j, a1, by omega, a3⟩, fun ⟨j, a1, a2, a3, a4, a5⟩ => ⟨j, a1, ?_, a3, a4, a5⟩⟩))
    by_cases hj : j = k
    · rw [hj] at a5
      exact absurd a5 hp
    · omega
theorem mks_of (h : Beg tm ln bd it it2 i k) (hi : 0 ≤ i ∧ i ≤ 12) (hk : i = 0 ∨ k = 572) (hd : ∀ j, 0 ≤ j → j < 572 → bc ln bd j = tm (i - 1) → 0 < i → j + 13 < 572) (hc : Clo lp nr lf ln bd i it2 it3) : Mks lp nr lf ln bd tm i it it3 := by
  obtain ⟨c1, c2, c3, c4⟩ := hc
  have off : ∀ p, ¬ (572 * i ≤ p ∧ p < 572 * i + 572) → it2 p = it p := by
    intro p hp
    have e := h p
    cases h1 : it p with
    | true => exact e.mpr (Or.inl ⟨hp, h1⟩)
    | false =>
      cases h2 : it2 p with
      | false => rfl
      | true =>
        rcases e.mp h2 with ⟨-, h3⟩ | ⟨h3, h4⟩ | ⟨h3, j, h4, h5, h6, h7, h8⟩
        · rw [h1] at h3
          exact h3.symm
        · omega
        · have := hd j h4 (by omega) h7 h3
          omega
  refine ⟨fun p hp => (c2 p hp).trans (off p hp), fun d hst => ?_, c4, fun T t1 t2 t3 => ?_⟩
  · apply c1
    rcases hst with ⟨h1, h2⟩ | ⟨h1, j, h2, h3, h4, h5, h6⟩
    · exact (h _).mpr (Or.inr (Or.inl ⟨h1, by omega⟩))
    · exact (h _).mpr (Or.inr (Or.inr ⟨h1, j, h2, by omega, h4, h5, by omega⟩))
  · refine c3 T (fun p hp => ?_) (fun p hp => (t1 p hp).trans (off p hp).symm) t3
    rcases (h p).mp hp with ⟨h3, h4⟩ | ⟨h3, h4⟩ | ⟨h3, j, h4, h5, h6, h7, h8⟩
    · rw [t1 p h3]
      exact h4
    · rw [h4, show (0 : Int) = 572 * i + 0 by omega]
      exact t2 0 (Or.inl ⟨h3, rfl⟩)
    · rw [h8]
      exact t2 _ (Or.inr ⟨h3, j, h4, by omega, h6, h7, rfl⟩)
end P4
