/-! more rows; expectedIn, rule in words -/
section JX
variable {l : Launch} {D : jD} {b : Nat} {Y : jM} {R : Room} {post : Option Value → jW → Prop} {w : jW} {k n pc : Nat} {lv : List (Nat × Value)} {st : List Value}
theorem J_icmpB_ne {q : Bool} {off : Int} {tgt : Nat} (hd : decode Y.2.1 pc = .ok (.if_icmp .ne off, 3)) (ht : (pc : Int) + off = (tgt : Int)) (kt : q = false → J l D b Y R post w k n tgt lv st) (kf : q = true → J l D b Y R post w k n (pc + 3) lv st) : J l D b Y R post w k n pc lv (.int (iI 1) :: .int (iI (bz q)) :: st) :=
  J_icmp_ne hd ht (by have := bz_le q; omega) (by omega) (fun h => kt (by revert h; cases q <;> simp [bz])) (fun h => kf (by revert h; cases q <;> simp [bz]))
theorem J_icmpB_eq {q : Bool} {off : Int} {tgt : Nat} (hd : decode Y.2.1 pc = .ok (.if_icmp .eq off, 3)) (ht : (pc : Int) + off = (tgt : Int)) (kt : q = true → J l D b Y R post w k n tgt lv st) (kf : q = false → J l D b Y R post w k n (pc + 3) lv st) : J l D b Y R post w k n pc lv (.int (iI 1) :: .int (iI (bz q)) :: st) :=
  J_icmp_eq hd ht (by have := bz_le q; omega) (by omega) (fun h => kt (by revert h; cases q <;> simp [bz])) (fun h => kf (by revert h; cases q <;> simp [bz]))
end JX
def usr (y s : Int) : Int := ((iI y).toUInt32 >>> ((iI s).toUInt32 &&& Int32.toUInt32 31)).toInt32.toInt
theorem usr_eq (y s : Int) : ((iI y).toUInt32 >>> ((iI s).toUInt32 &&& Int32.toUInt32 31)).toInt32 = iI (usr y s) := iI_of _
theorem usr_rng (y s : Int) : -2147483648 ≤ usr y s ∧ usr y s ≤ 2147483647 := iI_rng _
def sym (y s : Int) : Int := ((iI y >>> (iI s &&& 31)) &&& iI 15).toInt
theorem sym_eq (y s : Int) : (iI y >>> (iI s &&& 31)) &&& iI 15 = iI (sym y s) := iI_of _
theorem sym_rng (y s : Int) : 0 ≤ sym y s ∧ sym y s ≤ 15 := by
  unfold sym
  obtain ⟨j, h1, h2⟩ := pk_andE (iI y >>> (iI s &&& 31)) (m := iI 15) 4 (by decide)
  rw [h2, nI_toInt (by omega)]
  omega
def ExpR (it : Int → Bool) (ln bd : Int → Int) (i e : Int) : Prop := (0 ≤ e ∧ e ≤ 15) ∧ ∀ s, 0 ≤ s → (bit e s = true ↔ ∃ k, 0 ≤ k ∧ k < 572 ∧ it (572 * i + k) = true ∧ bc ln bd k = 8 + s)
def ExpK (it : Int → Bool) (ln bd : Int → Int) (i k e : Int) : Prop := (0 ≤ e ∧ e ≤ 15) ∧ ∀ s, 0 ≤ s → (bit e s = true ↔ ∃ j, 0 ≤ j ∧ j < k ∧ it (572 * i + j) = true ∧ bc ln bd j = 8 + s)
section P5
variable {it : Int → Bool} {ln bd : Int → Int} {i k e : Int}
theorem orI_16 {a b : Int} (ha : 0 ≤ a ∧ a ≤ 15) (hb : 0 ≤ b ∧ b ≤ 15) : 0 ≤ orI a b ∧ orI a b ≤ 15 := by
  unfold orI
  have : a.toNat ||| b.toNat < 2 ^ 4 := Nat.or_lt_two_pow (by omega) (by omega)
  omega
theorem exp_0 : ExpK it ln bd i 0 0 := ⟨by omega, fun s _ => ⟨(fun h => by rw [bit_0] at h; cases h), fun ⟨j, h1, h2, _⟩ => by omega⟩⟩
theorem exp_no (h : ExpK it ln bd i k e) (hn : it (572 * i + k) = false ∨ bc ln bd k < 8) : ExpK it ln bd i (k + 1) (orI e 0) := by
  refine ⟨orI_16 h.1 (by omega), fun s hs => ?_⟩
  rw [bit_or, bit_0, Bool.or_false, h.2 s hs]
  refine ⟨fun ⟨j, h1, h2, h3⟩ => ⟨j, h1, by omega, h3⟩, fun ⟨j, h1, h2, h3, h4⟩ => ⟨j, h1, ?_, h3, h4⟩⟩
  by_cases hj : j = k
  · rw [hj] at h3 h4
    rcases hn with hn | hn
    · rw [hn] at h3
      cases h3
    · omega
  · omega
theorem exp_yes {x : Int} (h : ExpK it ln bd i k e) (hk : 0 ≤ k) (h1 : it (572 * i + k) = true) (hx : bc ln bd k = x) (h2 : 8 ≤ x ∧ x ≤ 11) : ExpK it ln bd i (k + 1) (orI e (p2 (x - 8))) := by
  have hp : 1 ≤ p2 (x - 8) ∧ p2 (x - 8) ≤ 15 := by
    have : x = 8 ∨ x = 9 ∨ x = 10 ∨ x = 11 := by omega
    rcases this with rfl | rfl | rfl | rfl <;> decide
  refine ⟨orI_16 h.1 (by omega), fun s hs => ?_⟩
  rw [bit_or, bit_p2 (by omega) hs, Bool.or_eq_true, h.2 s hs, decide_eq_true_iff]
  refine ⟨fun g => ?_, fun ⟨j, g1, g2, g3, g4⟩ => ?_⟩
  · rcases g with ⟨j, g1, g2, g3⟩ | g
    · exact ⟨j, g1, by omega, g3⟩
    · exact ⟨k, hk, by omega, h1, by omega⟩
  · by_cases hj : j = k
    · rw [hj] at g4
      exact Or.inr (by omega)
    · exact Or.inl ⟨j, g1, by omega, g3, g4⟩
end P5
/-- what a rule must be -/
def rOK (p n y : Int) : Prop := ntB p = true ∧ (0 ≤ n ∧ n ≤ 3) ∧ usr y (4 * n) = 0 ∧ ∀ k, 0 ≤ k → k < n → ntB (sym y (4 * k)) = true ∨ tmB (sym y (4 * k)) = true
def bdW (bd : Int → Int) (m y k : Int) : Int → Int := fun j => if 3 * m ≤ j ∧ j < 3 * m + k then sym y (4 * (j - 3 * m)) else bd j
theorem bdW_0 (bd : Int → Int) (m y : Int) : bdW bd m y 0 = bd := by
  funext j
  unfold bdW
  rw [if_neg (by omega)]
theorem bdW_s {bd : Int → Int} {m y k : Int} (hk : 0 ≤ k) : upI (bdW bd m y k) (3 * m + k) (sym y (4 * k)) = bdW bd m y (k + 1) := by
  funext j
  unfold upI bdW
  by_cases h : j = 3 * m + k
  · rw [if_pos h, if_pos (by omega), show j - 3 * m = k by omega]
  · rw [if_neg h]
    by_cases h2 : 3 * m ≤ j ∧ j < 3 * m + k
    · rw [if_pos h2, if_pos (by omega)]
    · rw [if_neg h2, if_neg (by omega)]
theorem gOK.push {nr : Int} {lf ln bd : Int → Int} (h : gOK nr lf ln bd) (hn : nr < 10) {p n y : Int} (hr : rOK p n y) : gOK (nr + 1) (upI lf nr p) (upI ln nr n) (bdW bd nr y n) := by
  obtain ⟨h1, h2, h3, h4, h5⟩ := h
  obtain ⟨r1, r2, r3, r4⟩ := hr
  have r1 := ntB_of r1
  refine ⟨by omega, fun q a1 a2 => ?_, fun q a1 a2 => ?_, fun j a1 a2 => ?_, fun q k a1 a2 a3 a4 => ?_⟩
  · unfold upI
    split
    · exact r1
    · exact h2 q a1 a2
  · unfold upI
    split
    · exact r2
    · exact h3 q a1 a2
  · unfold bdW
    split
    · rename_i hh
      have := sym_rng y (4 * (j - 3 * nr))
      have := r4 (j - 3 * nr) (by omega) (by omega)
      rcases this with h | h
      · have := ntB_of h
        omega
      · have := tmB_of h
        omega
    · exact h4 j a1 a2
  · unfold upI at a4
    unfold bdW
    by_cases hq : q = nr
    · rw [if_pos hq] at a4
      rw [if_pos (by omega), show 3 * q + k - 3 * nr = k by omega]
      rcases r4 k a3 a4 with h | h
      · have := ntB_of h
        omega
      · have := tmB_of h
        omega
    · rw [if_neg hq] at a4
      rw [if_neg (by have := h3 q (by omega) (by omega); omega)]
      exact h5 q k a1 (by omega) a3 a4
