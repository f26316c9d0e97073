/-! words of 64 bits; raw rows for them -/
theorem wd_bit (f : Int → Bool) (j : Int) {n : Nat} (h : n < 64) : (wd f j).toBitVec.getLsbD n = f (64 * j + n) :=
  BitVec.iunfoldr_getLsbD (f := fun (i : Fin 64) (_ : Unit) => ((), f (64 * j + (i.val : Int)))) (fun _ => ()) (⟨n, h⟩ : Fin 64) (fun _ => rfl)
theorem wd_ext {x : Int64} {f : Int → Bool} {j : Int} (h : ∀ n : Nat, n < 64 → x.toBitVec.getLsbD n = f (64 * j + n)) : x = wd f j :=
  Int64.toBitVec_inj.mp (BitVec.eq_of_getLsbD_eq fun n hn => (h n hn).trans (wd_bit f j hn).symm)
theorem wd_congr {f g : Int → Bool} {j : Int} (h : ∀ n : Nat, n < 64 → f (64 * j + n) = g (64 * j + n)) : wd f j = wd g j := wd_ext fun n hn => (wd_bit f j hn).trans (h n hn)
theorem sh_c : ∀ m : Nat, m < 576 → iI ((m : Nat) : Int) >>> (iI 6 &&& 31) = iI (((m / 64 : Nat)) : Int) ∧ (((iI ((m : Nat) : Int) &&& iI 63).toInt64 &&& 63).toBitVec.smod 64).toNat = m % 64 := by decide +kernel
theorem sh_6 {c : Int} (h : 0 ≤ c ∧ c < 576) : iI c >>> (iI 6 &&& 31) = iI (c / 64) := by
  obtain ⟨m, rfl⟩ := Int.eq_ofNat_of_zero_le h.1
  exact (sh_c m (by omega)).1
theorem sh_63 {c : Int} (h : 0 ≤ c ∧ c < 576) : (((iI c &&& iI 63).toInt64 &&& 63).toBitVec.smod 64).toNat = (c % 64).toNat := by
  obtain ⟨m, rfl⟩ := Int.eq_ofNat_of_zero_le h.1
  rw [(sh_c m (by omega)).2]
  omega
theorem bz1_bit (b : Bool) (n : Nat) : (iL (bz b)).toBitVec.getLsbD n = (decide (n = 0) && b) := by
  cases b
  · show (0#64).getLsbD n = _
    simp
  · show (1#64).getLsbD n = _
    simp [BitVec.getLsbD_one]
theorem wd_has {f : Int → Bool} {c : Int} (h : 0 ≤ c ∧ c < 576) : (wd f (c / 64) >>> ((iI c &&& iI 63).toInt64 &&& 63)) &&& iL 1 = iL (bz (f c)) := by
  apply Int64.toBitVec_inj.mp
  apply BitVec.eq_of_getLsbD_eq
  intro n hn
  rw [Int64.toBitVec_and, BitVec.getLsbD_and, Int64.toBitVec_shiftRight, BitVec.sshiftRight_eq', sh_63 h, BitVec.getLsbD_sshiftRight, bz1_bit (f c) n, show (iL 1).toBitVec.getLsbD n = (iL (bz true)).toBitVec.getLsbD n from rfl, bz1_bit true n]
  by_cases h0 : n = 0
  · subst h0
    simp
    rw [if_pos (by omega), wd_bit f _ (by omega)]
    congr 1
    omega
  · simp [h0]
theorem wd_add {f : Int → Bool} {c : Int} (h : 0 ≤ c ∧ c < 576) : wd f (c / 64) ||| (iL 1 <<< ((iI c &&& iI 63).toInt64 &&& 63)) = wd (upI f c true) (c / 64) := by
  apply wd_ext
  intro n hn
  rw [Int64.toBitVec_or, BitVec.getLsbD_or, wd_bit f _ hn, Int64.toBitVec_shiftLeft, BitVec.shiftLeft_eq', sh_63 h, BitVec.getLsbD_shiftLeft, show (iL 1).toBitVec.getLsbD (n - (c % 64).toNat) = (iL (bz true)).toBitVec.getLsbD (n - (c % 64).toNat) from rfl, bz1_bit true]
  unfold upI
  by_cases h1 : 64 * (c / 64) + (n : Int) = c
  · rw [if_pos h1]
    have e1 : ¬ n < (c % 64).toNat := by omega
    have e2 : n - (c % 64).toNat = 0 := by omega
    simp [hn, e1, e2]
  · rw [if_neg h1]
    by_cases h2 : n < (c % 64).toNat
    · simp [h2]
    · have e : ¬ n - (c % 64).toNat = 0 := by omega
      simp [e]
theorem wd_set {f : Int → Bool} {c : Int} : upI (wd f) (c / 64) (wd (upI f c true) (c / 64)) = wd (upI f c true) := by
  funext j
  by_cases hj : j = c / 64
  · rw [hj, upI_self]
  · rw [upI_ne _ _ hj]
    exact wd_congr fun n hn => (upI_ne _ _ (by omega)).symm
/-- the words below k are emptied -/
def clw (f : Int → Bool) (k : Int) : Int → Bool := fun c => if 0 ≤ c ∧ c < 64 * k then false else f c
theorem clw_0 (f : Int → Bool) : clw f 0 = f := by
  funext c
  exact if_neg (by omega)
theorem clw_s {f : Int → Bool} {k : Int} (hk : 0 ≤ k) : upI (wd (clw f k)) k (iL 0) = wd (clw f (k + 1)) := by
  funext j
  by_cases hj : j = k
  · subst hj
    rw [upI_self]
    apply wd_ext
    intro n hn
    unfold clw
    rw [if_pos (by omega), show (iL 0).toBitVec.getLsbD n = (iL (bz false)).toBitVec.getLsbD n from rfl, bz1_bit]
    simp
  · rw [upI_ne _ _ hj]
    refine wd_congr fun n hn => ?_
    unfold clw
    by_cases h : 0 ≤ 64 * j + (n : Int) ∧ 64 * j + (n : Int) < 64 * k
    · rw [if_pos h, if_pos (by omega)]
    · rw [if_neg h, if_neg (by omega)]
section JR
variable {l : Launch} {D : jD} {b : Nat} {Y : jM} {R : Room} {post : Option Value → jW → Prop} {w : jW} {k n pc : Nat} {lv : List (Nat × Value)} {st : List Value}
theorem J_alenE {i t nn : Nat} {f : Int → Value} {z : Int} (hc : w.2 i = some (.inl (t, nn, f))) (hz : (nn : Int) = z) (hd : decode Y.2.1 pc = .ok (.arraylength, 1)) (kk : J l D b Y R post w k n (pc + 1) lv (.int (iI z) :: st)) : J l D b Y R post w k n pc lv (.ref (w.1 i) :: st) := J_alen hc hd (hz ▸ kk)
theorem J_laldR {i nn : Nat} {G : Int → Int64} {z : Int} (hc : w.2 i = some (.inl (1, nn, fun j => .long (G j)))) (hz : 0 ≤ z ∧ z < nn) (hn : nn ≤ 2147483647) (hd : decode Y.2.1 pc = .ok (.laload, 1)) (kk : J l D b Y R post w k n (pc + 1) lv (.long (G z) :: st)) : J l D b Y R post w k n pc lv (.int (iI z) :: .ref (w.1 i) :: st) := by
  intro p e s m args below meth c B K H locs ls hH hS hl
  obtain ⟨h1, h2⟩ := jArr K hH hc
  exact W.lald B.1 B.2.1 h1 h2 (fun q => by cases q) (by rw [arrV_size]; exact iI_in hz hn) (rd_at (f := fun j => .long (G j)) hz hn) rfl rfl hd (kk p e s m args below meth c B K H locs ls hH hS hl)
theorem J_lastR {i nn : Nat} {G G' : Int → Int64} {z : Int} {v : Int64} {c' : Nat → Option jE} (hc : w.2 i = some (.inl (1, nn, fun j => .long (G j)))) (hz : 0 ≤ z ∧ z < nn) (hn : nn ≤ 2147483647) (hG : upI G z v = G') (hw : va_up w.2 i (some (.inl (1, nn, fun j => .long (G' j)))) = c') (hd : decode Y.2.1 pc = .ok (.lastore, 1)) (kk : J l D b Y R post (w.1, c') k n (pc + 1) lv st) : J l D b Y R post w k n pc lv (.long v :: .int (iI z) :: .ref (w.1 i) :: st) := by
  intro p e s m args below meth c B K H locs ls hH hS hl
  obtain ⟨h1, h2⟩ := jArr K hH hc
  refine W.last B.1 B.2.1 h1 h2 (fun q => by cases q) (by rw [arrV_size]; exact iI_in hz hn) rfl rfl hd fun H1 e1 z1 oq => ?_
  have hnew := st_at (i := i) (f := fun j => .long (G j)) (by decide) hz hn e1
  rw [show upI (fun j => Value.long (G j)) z (.long v) = fun j => .long (upI G z v j) from upI_map (fun x => Value.long x) G z v, hG] at hnew
  have hH2 := hH.set hc hnew oq
  rw [hw] at hH2
  exact kk p e s m args below meth c B K _ _ ls hH2 (hS.put z1 oq (hH.1 i _ hc).1) hl
/-- an element that is read under another name -/
theorem J.topI {x y : Int} (h : x = y) (kk : J l D b Y R post w k n pc lv (.int (iI y) :: st)) : J l D b Y R post w k n pc lv (.int (iI x) :: st) := h ▸ kk
end JR
theorem bq_in {ln bd : Int → Int} {k j : Int} (h : 0 ≤ j ∧ j < ln k) : bq ln bd k j = bd (3 * k + j) := if_pos h
theorem wf_t (ad : Nat → Nat) : wf ad true = Value.ref (ad 100) := rfl
theorem elD_in {ad : Nat → Nat} {nd j : Int} (h : 0 ≤ j ∧ j < nd) : elD ad nd j = Value.ref (ad (idR j)) := if_pos h
