/-! what is derived; how many trees; shared by both sides but for the tables' forms -/
section JL
variable {l : Launch} {D : jD} {b : Nat} {Y : jM} {R : Room} {post : Option Value → jW → Prop} {w : jW} {k n pc : Nat} {lv : List (Nat × Value)} {st : List Value}
theorem J_ldc2 {idx : Nat} {x : Int64} {z : Int} (hd : decode Y.2.1 pc = .ok (.ldc2_w idx, 3)) (hc : Cond.constantLong Y.1.cls idx x ∈ tb) (hv : x = iL z) (kk : J l D b Y R post w k n (pc + 3) lv (.long (iL z) :: st)) : J l D b Y R post w k n pc lv st :=
  fun p e s m args below meth c B K H locs ls hH hS hl => lv_ldc2 B.1 B.2.1 B.2.2.2.2.1 (B.2.2.2.2.2.1 _ hc) hd (by rw [hv]; exact kk p e s m args below meth c B K H locs ls hH hS hl)
theorem J_ldc {idx : Nat} {x : Int32} {z : Int} (hd : decode Y.2.1 pc = .ok (.ldc idx, 2)) (hc : Cond.constant Y.1.cls idx x ∈ tb) (hv : x = iI z) (kk : J l D b Y R post w k n (pc + 2) lv (.int (iI z) :: st)) : J l D b Y R post w k n pc lv st :=
  fun p e s m args below meth c B K H locs ls hH hS hl => lv_ldc B.1 B.2.1 B.2.2.2.2.1 (B.2.2.2.2.2.1 _ hc) hd (by rw [hv]; exact kk p e s m args below meth c B K H locs ls hH hS hl)
theorem J_ldc_w {idx : Nat} {x : Int32} {z : Int} (hd : decode Y.2.1 pc = .ok (.ldc_w idx, 3)) (hc : Cond.constant Y.1.cls idx x ∈ tb) (hv : x = iI z) (kk : J l D b Y R post w k n (pc + 3) lv (.int (iI z) :: st)) : J l D b Y R post w k n pc lv st :=
  fun p e s m args below meth c B K H locs ls hH hS hl => lv_ldcw B.1 B.2.1 B.2.2.2.2.1 (B.2.2.2.2.2.1 _ hc) hd (by rw [hv]; exact kk p e s m args below meth c B K H locs ls hH hS hl)
end JL
theorem wayB_mono {tm : Int → Int} {dv dv' : Int → Int → Int → Bool} {n : Int} {bs : Int → Int} {c1 c2 i j : Int} (hn : 0 ≤ n) (h : ∀ s a b, dv s a b = true → dv' s a b = true) (hw : wayB tm dv n bs c1 c2 i j = true) : wayB tm dv' n bs c1 c2 i j = true := by
  unfold wayB at hw ⊢
  split at hw
  · rename_i e
    rw [if_pos e]
    exact hw
  · rename_i e
    rw [if_neg e, allB_iff hn]
    rw [allB_iff hn] at hw
    intro k h1 h2
    have := hw k h1 h2
    unfold wayK dsy at this ⊢
    rw [Bool.and_eq_true] at this ⊢
    refine ⟨this.1, ?_⟩
    split
    · rename_i e2
      rw [if_pos e2] at this
      exact this.2
    · rename_i e2
      rw [if_neg e2] at this
      exact h _ _ _ this.2
def hasW (ln bd tm : Int → Int) (T : Int → Bool) (r i j : Int) : Prop := ∃ p ∈ sfx (ln r) j i i, wayB tm (dvT T) (ln r) (bsM bd r) p.1 p.2 i j = true
/-- closed: what has a way is there -/
def DCl (nr : Int) (lf ln bd tm : Int → Int) (fd : Int) (T : Int → Bool) : Prop := ∀ r i j, 0 ≤ r → r < nr → 0 ≤ i → i ≤ j → j ≤ fd → hasW ln bd tm T r i j → T (169 * lf r + 13 * i + j) = true
def DerL (nr : Int) (lf ln bd tm : Int → Int) (fd : Int) (dv : Int → Bool) : Prop := DCl nr lf ln bd tm fd dv ∧ ∀ T, DCl nr lf ln bd tm fd T → ∀ k, dv k = true → T k = true
def DSn (nr : Int) (lf ln bd tm : Int → Int) (fd : Int) (dv : Int → Bool) : Prop := ∀ T, DCl nr lf ln bd tm fd T → ∀ k, dv k = true → T k = true
/-- a pass of findDerived up to (r, i, j) -/
def PD (nr : Int) (lf ln bd tm : Int → Int) (fd : Int) (dv0 dv1 : Int → Bool) (mo : Bool) (r i j : Int) : Prop :=
  (∀ k, dv0 k = true → dv1 k = true) ∧ DSn nr lf ln bd tm fd dv1 ∧ (mo = false → dv1 = dv0 ∧ ∀ r' i' j', 0 ≤ r' → r' < nr → 0 ≤ i' → i' ≤ j' → j' ≤ fd → (r' < r ∨ (r' = r ∧ i' < i) ∨ (r' = r ∧ i' = i ∧ j' < j)) → hasW ln bd tm dv0 r' i' j' → dv0 (169 * lf r' + 13 * i' + j') = true) ∧ (mo = true → cnt dv0 845 < cnt dv1 845)
section P6
variable {nr fd r i j : Int} {lf ln bd tm : Int → Int} {dv dv0 dv1 : Int → Bool} {mo : Bool}
theorem hasW_mono (hn : 0 ≤ ln r) (h : ∀ k, dv k = true → dv1 k = true) (hw : hasW ln bd tm dv r i j) : hasW ln bd tm dv1 r i j := by
  obtain ⟨p, h1, h2⟩ := hw
  exact ⟨p, h1, wayB_mono hn (fun s a b h3 => h _ h3) h2⟩
theorem pd_0 (h : DSn nr lf ln bd tm fd dv0) : PD nr lf ln bd tm fd dv0 dv0 false 0 0 0 := ⟨fun _ h => h, h, fun _ => ⟨rfl, fun r' i' j' a1 a2 a3 a4 a5 a6 => by omega⟩, (fun h => by cases h)⟩
theorem pd_move {r2 i2 j2 : Int} (h : PD nr lf ln bd tm fd dv0 dv1 mo r i j) (hm : ∀ r' i' j', 0 ≤ r' → 0 ≤ i' → i' ≤ j' → j' ≤ fd → (r' < r2 ∨ (r' = r2 ∧ i' < i2) ∨ (r' = r2 ∧ i' = i2 ∧ j' < j2)) → (r' < r ∨ (r' = r ∧ i' < i) ∨ (r' = r ∧ i' = i ∧ j' < j))) : PD nr lf ln bd tm fd dv0 dv1 mo r2 i2 j2 :=
  ⟨h.1, h.2.1, fun e => ⟨(h.2.2.1 e).1, fun r' i' j' a1 a2 a3 a4 a5 a6 => (h.2.2.1 e).2 r' i' j' a1 a2 a3 a4 a5 (hm r' i' j' a1 a3 a4 a5 a6)⟩, h.2.2.2⟩
theorem pd_skip (h : PD nr lf ln bd tm fd dv0 dv1 mo r i j) (hk : dv1 (169 * lf r + 13 * i + j) = true ∨ ¬ hasW ln bd tm dv1 r i j) : PD nr lf ln bd tm fd dv0 dv1 mo r i (j + 1) := by
  refine ⟨h.1, h.2.1, fun e => ⟨(h.2.2.1 e).1, fun r' i' j' a1 a2 a3 a4 a5 a6 a7 => ?_⟩, h.2.2.2⟩
  by_cases hh : r' = r ∧ i' = i ∧ j' = j
  · obtain ⟨rfl, rfl, rfl⟩ := hh
    have e1 := (h.2.2.1 e).1
    rw [e1] at hk
    rcases hk with hk | hk
    · exact hk
    · exact absurd a7 hk
  · exact (h.2.2.1 e).2 r' i' j' a1 a2 a3 a4 a5 (by omega) a7
theorem pd_set (h : PD nr lf ln bd tm fd dv0 dv1 mo r i j) (hg : gOK nr lf ln bd) (hr : 0 ≤ r ∧ r < nr) (hij : 0 ≤ i ∧ i ≤ j ∧ j ≤ fd ∧ fd ≤ 12) (hk : dv1 (169 * lf r + 13 * i + j) = false) (hw : hasW ln bd tm dv1 r i j) : PD nr lf ln bd tm fd dv0 (upI dv1 (169 * lf r + 13 * i + j) true) true r i (j + 1) := by
  have hg1 := hg.1
  have hl := hg.2.1 r (by omega) (by omega)
  have hn := hg.2.2.1 r (by omega) (by omega)
  have hup : ∀ k, dv1 k = true → upI dv1 (169 * lf r + 13 * i + j) true k = true := fun k hk => by
    unfold upI
    split
    · rfl
    · exact hk
  refine ⟨fun k hk => hup k (h.1 k hk), fun T hT k hk => ?_, (fun h => by cases h), fun _ => ?_⟩
  · unfold upI at hk
    split at hk
    · rename_i e
      rw [e]
      exact hT r i j (by omega) (by omega) (by omega) (by omega) (by omega) (hasW_mono hn.1 (h.2.1 T hT) hw)
    · exact h.2.1 T hT k hk
  · have h1 : cnt dv0 845 ≤ cnt dv1 845 := cnt_le (by omega) (fun k _ _ => h.1 k)
    have h2 : cnt dv1 845 < cnt (upI dv1 (169 * lf r + 13 * i + j) true) 845 := cnt_lt (by omega) (fun k _ _ => hup k) (c := 169 * lf r + 13 * i + j) (by omega) (by rw [hk]; decide) (upI_self _ _ _)
    omega
theorem pd_cl (h : PD nr lf ln bd tm fd dv0 dv1 mo r i j) (hr : nr ≤ r) (hm : mo = false) : DCl nr lf ln bd tm fd dv1 := by
  obtain ⟨e, h2⟩ := h.2.2.1 hm
  rw [e]
  exact fun r' i' j' a1 a2 a3 a4 a5 a6 => h2 r' i' j' a1 a2 a3 a4 a5 (by omega) a6
theorem pd_mu (h : PD nr lf ln bd tm fd dv0 dv1 mo r i j) : (845 - cnt dv1 845).toNat + (if mo = true then 1 else 0) < (845 - cnt dv0 845).toNat + (if true = true then 1 else 0) := by
  have h1 := cnt_rng dv0 (show (0 : Int) ≤ 845 by omega)
  have h2 := cnt_rng dv1 (show (0 : Int) ≤ 845 by omega)
  cases mo with
  | false =>
    rw [(h.2.2.1 rfl).1]
    simp
  | true =>
    have := h.2.2.2 rfl
    simp
    omega
end P6
def clr0 (f : Int → Bool) (k : Int) : Int → Bool := fun p => if 0 ≤ p ∧ p < k then false else f p
theorem clr0_0 (f : Int → Bool) : clr0 f 0 = f := by
  funext p
  unfold clr0
  rw [if_neg (by omega)]
theorem clr0_s {f : Int → Bool} {k : Int} (hk : 0 ≤ k) : upI (clr0 f k) k false = clr0 f (k + 1) := by
  funext p
  unfold upI clr0
  by_cases h : p = k
  · rw [if_pos h, if_pos (by omega)]
  · rw [if_neg h]
    by_cases h2 : 0 ≤ p ∧ p < k
    · rw [if_pos h2, if_pos (by omega)]
    · rw [if_neg h2, if_neg (by omega)]
/-- the capped product and sum -/
def cp (a b : Int) : Int := if 1000000000000 < a * b then 1000000000000 else a * b
def cs (a b : Int) : Int := if 1000000000000 < a + b then 1000000000000 else a + b
theorem cp_rng {a b : Int} (ha : 0 ≤ a) (hb : 0 ≤ b) : 0 ≤ cp a b ∧ cp a b ≤ 1000000000000 := by
  have := Int.mul_nonneg ha hb
  unfold cp
  split <;> omega
theorem cs_rng {a b : Int} (ha : 0 ≤ a) (hb : 0 ≤ b) : 0 ≤ cs a b ∧ cs a b ≤ 1000000000000 := by
  unfold cs
  split <;> omega
theorem cp_times {a b : Int} (ha : 0 < a) (hb : 0 ≤ b) : cp a b = if (1000000000000 + a - 1) / a ≤ b then 1000000000000 else a * b := by
  have key : (1000000000000 + a - 1) / a ≤ b ↔ 1000000000000 ≤ a * b := by
    have h1 : (1000000000000 + a - 1) / a < b + 1 ↔ 1000000000000 + a - 1 < (b + 1) * a := Int.ediv_lt_iff_lt_mul ha
    have h2 : (b + 1) * a = a * b + a := by rw [Int.add_mul, Int.one_mul, Int.mul_comm]
    omega
  unfold cp
  by_cases h : (1000000000000 + a - 1) / a ≤ b
  · rw [if_pos h]
    have := key.mp h
    split <;> omega
  · rw [if_neg h]
    have : ¬ 1000000000000 ≤ a * b := fun h2 => h (key.mpr h2)
    rw [if_neg (by omega)]
theorem cp_zero {a b : Int} (h : a = 0 ∨ b = 0) : cp a b = 0 := by
  unfold cp
  rcases h with rfl | rfl
  · rw [Int.zero_mul]
    rfl
  · rw [Int.mul_zero]
    rfl
/-- a way q = (rule, cuts): whether all in it is counted; its trees -/
def wayT (tm : Int → Int) (dv : Int → Int → Int → Bool) (ln : Int → Int) (bs : Int → Int → Int) (i j : Int) (q : Int × Int × Int) : Bool := wayB tm dv (ln q.1) (bs q.1) q.2.1 q.2.2 i j
def wOk (ct : Int → Int → Int → Bool) (ln : Int → Int) (bs : Int → Int → Int) (i j : Int) (q : Int × Int × Int) : Prop := ∀ k, 0 ≤ k → k < ln q.1 → bs q.1 k < 8 → ct (bs q.1 k) (cutV (ln q.1) q.2.1 q.2.2 k i j) (cutV (ln q.1) q.2.1 q.2.2 (k + 1) i j) = true
def pVk (nu : Int → Int → Int → Int) (ln : Int → Int) (bs : Int → Int → Int) (i j : Int) (q : Int × Int × Int) (k : Int) : Int := foldI (fun a x => if bs q.1 x < 8 then cp a (nu (bs q.1 x) (cutV (ln q.1) q.2.1 q.2.2 x i j) (cutV (ln q.1) q.2.1 q.2.2 (x + 1) i j)) else a) 1 k
def pV (nu : Int → Int → Int → Int) (ln : Int → Int) (bs : Int → Int → Int) (i j : Int) (q : Int × Int × Int) : Int := pVk nu ln bs i j q (ln q.1)
theorem pVk_s (nu : Int → Int → Int → Int) (ln : Int → Int) (bs : Int → Int → Int) (i j : Int) (q : Int × Int × Int) {k : Int} (h : 0 ≤ k) : pVk nu ln bs i j q (k + 1) = if bs q.1 k < 8 then cp (pVk nu ln bs i j q k) (nu (bs q.1 k) (cutV (ln q.1) q.2.1 q.2.2 k i j) (cutV (ln q.1) q.2.1 q.2.2 (k + 1) i j)) else pVk nu ln bs i j q k := foldI_s _ _ h
/-- the sum over ways, capped -/
def sumL (f : Int × Int × Int → Bool) (g : Int × Int × Int → Int) : Int → List (Int × Int × Int) → Int
  | a, [] => a
  | a, q :: l => sumL f g (if f q = true then cs a (g q) else a) l
theorem sumL_cons (f : Int × Int × Int → Bool) (g : Int × Int × Int → Int) (a : Int) (q : Int × Int × Int) (l : List (Int × Int × Int)) : sumL f g a (q :: l) = sumL f g (if f q = true then cs a (g q) else a) l := rfl
def nuT (nu : Int → Int) : Int → Int → Int → Int := fun s a b => nu (169 * s + 13 * a + b)
