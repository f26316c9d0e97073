/-! nodes in words -/
/-- the number of the node that stands at place k of the way q -/
def kidx (ln : Int → Int) (bs : Int → Int → Int) (i j : Int) (q : Int × Int × Int) (k : Int) : Int := 169 * bs q.1 k + 13 * cutV (ln q.1) q.2.1 q.2.2 k i j + cutV (ln q.1) q.2.1 q.2.2 (k + 1) i j
def Kd (nr : Int) (lf ln bd tm : Int → Int) (dv : Int → Bool) (s i j y : Int) : Prop := ∃ q ∈ wl nr lf ln s i j 0, wayT tm (dvT dv) ln (bsM bd) i j q = true ∧ ∃ k, 0 ≤ k ∧ k < ln q.1 ∧ bsM bd q.1 k < 8 ∧ y = kidx ln (bsM bd) i j q k
def vN (fd x : Int) : Prop := 0 ≤ x ∧ x < 845 ∧ x % 169 / 13 ≤ x % 13 ∧ x % 13 ≤ fd
def MCl (nr : Int) (lf ln bd tm : Int → Int) (fd : Int) (dv U : Int → Bool) : Prop := ∀ x, vN fd x → U x = true → ∀ y, Kd nr lf ln bd tm dv (x / 169) (x % 169 / 13) (x % 13) y → U y = true
def MSn (nr : Int) (lf ln bd tm : Int → Int) (fd : Int) (dv mt mt' : Int → Bool) : Prop := ∀ U, (∀ k, mt k = true → U k = true) → MCl nr lf ln bd tm fd dv U → ∀ k, mt' k = true → U k = true
/-- met has grown by n steps -/
def ME (nr : Int) (lf ln bd tm : Int → Int) (fd : Int) (dv mt mt' : Int → Bool) (n : Int) : Prop := (∀ k, mt k = true → mt' k = true) ∧ MSn nr lf ln bd tm fd dv mt mt' ∧ 0 ≤ n ∧ (n = 0 → mt' = mt) ∧ (0 < n → cnt mt 845 < cnt mt' 845)
section P8
variable {nr fd i j s q c1 c2 k n : Int} {lf ln bd tm : Int → Int} {dv mt mt1 mt2 : Int → Bool}
theorem ME.rf : ME nr lf ln bd tm fd dv mt mt 0 := ⟨fun _ h => h, fun _ h _ => h, by omega, fun _ => rfl, fun h => by omega⟩
theorem ME.trans {m : Int} (h : ME nr lf ln bd tm fd dv mt mt1 n) (g : ME nr lf ln bd tm fd dv mt1 mt2 m) : ME nr lf ln bd tm fd dv mt mt2 (n + m) := by
  obtain ⟨h1, h2, h3, h4, h5⟩ := h
  obtain ⟨g1, g2, g3, g4, g5⟩ := g
  refine ⟨fun k hk => g1 k (h1 k hk), fun U a b => g2 U (h2 U a b) b, by omega, fun e => ?_, fun e => ?_⟩
  · rw [g4 (by omega), h4 (by omega)]
  · have a1 : cnt mt 845 ≤ cnt mt1 845 := cnt_le (by omega) (fun k _ _ => h1 k)
    have a2 : cnt mt1 845 ≤ cnt mt2 845 := cnt_le (by omega) (fun k _ _ => g1 k)
    by_cases hn : 0 < n
    · have := h5 hn
      omega
    · have := g5 (by omega)
      omega
/-- one node of a way is marked -/
theorem ME.put {y : Int} (h : ME nr lf ln bd tm fd dv mt mt1 n) (hy : 0 ≤ y ∧ y < 845) (hn : mt1 y = false) (hs : ∀ U, (∀ k, mt k = true → U k = true) → MCl nr lf ln bd tm fd dv U → U y = true) : ME nr lf ln bd tm fd dv mt (upI mt1 y true) 1 := by
  obtain ⟨h1, h2, h3, h4, h5⟩ := h
  have hup : ∀ k, mt1 k = true → upI mt1 y true k = true := fun k hk => by
    unfold upI
    split
    · rfl
    · exact hk
  refine ⟨fun k hk => hup k (h1 k hk), fun U a b k hk => ?_, by omega, fun h => by omega, fun _ => ?_⟩
  · unfold upI at hk
    split at hk
    · rename_i e
      rw [e]
      exact hs U a b
    · exact h2 U a b k hk
  · have a1 : cnt mt 845 ≤ cnt mt1 845 := cnt_le (by omega) (fun k _ _ => h1 k)
    have a2 : cnt mt1 845 < cnt (upI mt1 y true) 845 := cnt_lt (by omega) (fun k _ _ => hup k) (c := y) hy (by rw [hn]; decide) (upI_self _ _ _)
    omega
theorem wayB_cut {dw : Int → Int → Int → Bool} {m : Int} {bs : Int → Int} (h : wayB tm dw m bs c1 c2 i j = true) (hk : 0 ≤ k ∧ k < m) : cutV m c1 c2 k i j ≤ cutV m c1 c2 (k + 1) i j ∧ dsy tm dw (bs k) (cutV m c1 c2 k i j) (cutV m c1 c2 (k + 1) i j) = true := by
  unfold wayB at h
  rw [if_neg (by omega), allB_iff (by omega)] at h
  have := h k hk.1 hk.2
  unfold wayK at this
  rw [Bool.and_eq_true] at this
  exact ⟨of_decide_eq_true this.1, this.2⟩
theorem kd_in (hq : 0 ≤ q ∧ q < nr) (hp : (c1, c2) ∈ sfx (ln q) j i i) (hw : wayB tm (dvT dv) (ln q) (bsM bd q) c1 c2 i j = true) (hk : 0 ≤ k ∧ k < ln q) (hb : bsM bd q k < 8) : Kd nr lf ln bd tm dv (lf q) i j (kidx ln (bsM bd) i j (q, c1, c2) k) :=
  ⟨(q, c1, c2), wl_of (nr - 0).toNat 0 rfl q (c1, c2) hq.1 hq.2 rfl hp, hw, k, hk.1, hk.2, hb, rfl⟩
theorem vN_nd (hs : 0 ≤ s ∧ s ≤ 4) (hij : 0 ≤ i ∧ i ≤ j ∧ j ≤ fd ∧ fd ≤ 12) : vN fd (169 * s + 13 * i + j) ∧ (169 * s + 13 * i + j) / 169 = s ∧ (169 * s + 13 * i + j) % 169 / 13 = i ∧ (169 * s + 13 * i + j) % 13 = j := by
  unfold vN
  omega
theorem vN_cl (hg : gOK nr lf ln bd) (hf : fd ≤ 12) {U : Int → Bool} (hU : ∀ x, U x = true ↔ vN fd x) : MCl nr lf ln bd tm fd dv U := by
  intro x hx _ y hy
  obtain ⟨q, h1, h2, k, h3, h4, h5, rfl⟩ := hy
  have hg1 := hg.1
  unfold vN at hx
  have hl := wl_in (fun r a b => hg.2.2.1 r a (by omega)) (by omega) h1
  have hc := wayB_cut (k := k) h2 ⟨h3, h4⟩
  have r1 := cutV_rng (n := ln q.1) (k := k) (i := x % 169 / 13) (j := x % 13) (c1 := q.2.1) (c2 := q.2.2) (by omega)
  have r2 := cutV_rng (n := ln q.1) (k := k + 1) (i := x % 169 / 13) (j := x % 13) (c1 := q.2.1) (c2 := q.2.2) (by omega)
  have hn := hg.2.2.1 q.1 (by omega) (by omega)
  have hb := hg.2.2.2.1 (3 * q.1 + k) (by omega) (by omega)
  have hb2 := hg.2.2.2.2 q.1 k (by omega) (by omega) (by omega) (by omega)
  have hb3 : bd (3 * q.1 + k) < 8 := h5
  rw [hU]
  unfold kidx vN
  show 0 ≤ 169 * bd (3 * q.1 + k) + _ + _ ∧ 169 * bd (3 * q.1 + k) + _ + _ < 845 ∧ (169 * bd (3 * q.1 + k) + _ + _) % 169 / 13 ≤ (169 * bd (3 * q.1 + k) + _ + _) % 13 ∧ (169 * bd (3 * q.1 + k) + _ + _) % 13 ≤ fd
  omega
/-- all of a way is met -/
def kMet (ln bd : Int → Int) (mt : Int → Bool) (i j : Int) (q : Int × Int × Int) : Prop := ∀ k, 0 ≤ k → k < ln q.1 → bsM bd q.1 k < 8 → mt (kidx ln (bsM bd) i j q k) = true
theorem wl_len {nr : Int} {lf ln : Int → Int} {s i j : Int} (hg : ∀ r, 0 ≤ r → r < nr → 0 ≤ ln r ∧ ln r ≤ 3) (hij : 0 ≤ i ∧ i ≤ j ∧ j ≤ 12) : ∀ (c : Nat) (r : Int), (nr - r).toNat = c → 0 ≤ r → (wl nr lf ln s i j r).length ≤ 253 * c := by
  intro c
  induction c with
  | zero =>
    intro r hr _
    rw [wl_end (by omega)]
    exact Nat.le_refl _
  | succ c ih =>
    intro r hr h0
    rw [wl_eq (by omega), List.length_append]
    have h1 := ih (r + 1) (by omega) (by omega)
    have hl := hg r (by omega) (by omega)
    have h2 := sfx_len (n := ln r) (i := i) (j := j) (by omega) 252 i i (by omega) (by omega) (by omega)
    split
    · rw [List.length_map]
      omega
    · show 0 + _ ≤ _
      omega
/-- while meetAll goes over the ways -/
def MI (nr : Int) (lf ln bd tm : Int → Int) (fd : Int) (dv mt mt1 : Int → Bool) (s i j n : Int) (rest : List (Int × Int × Int)) : Prop :=
  ME nr lf ln bd tm fd dv mt mt1 n ∧ (n = 0 → (∀ q ∈ rest, wayT tm (dvT dv) ln (bsM bd) i j q = true → kMet ln bd mt i j q) → ∀ q ∈ wl nr lf ln s i j 0, wayT tm (dvT dv) ln (bsM bd) i j q = true → kMet ln bd mt i j q) ∧ (∀ q ∈ rest, q ∈ wl nr lf ln s i j 0) ∧ n + rest.length ≤ (wl nr lf ln s i j 0).length
theorem mi_0 : MI nr lf ln bd tm fd dv mt mt s i j 0 (wl nr lf ln s i j 0) := ⟨ME.rf, fun _ h => h, fun _ h => h, by omega⟩
theorem mi_no {p : Int × Int × Int} {rest : List (Int × Int × Int)} (h : MI nr lf ln bd tm fd dv mt mt1 s i j n (p :: rest)) (hf : wayT tm (dvT dv) ln (bsM bd) i j p = false) : MI nr lf ln bd tm fd dv mt mt1 s i j n rest := by
  obtain ⟨h1, h2, h3, h4⟩ := h
  rw [List.length_cons] at h4
  refine ⟨h1, fun e h => h2 e (fun q hq hw => ?_), fun q hq => h3 q (List.mem_cons_of_mem _ hq), by omega⟩
  rcases List.mem_cons.mp hq with rfl | hq
  · rw [hf] at hw
    cases hw
  · exact h q hq hw
theorem mi_yes {p : Int × Int × Int} {rest : List (Int × Int × Int)} {m : Int} (h : MI nr lf ln bd tm fd dv mt mt1 s i j n (p :: rest)) (hm : ME nr lf ln bd tm fd dv mt1 mt2 m) (hm1 : m ≤ 1) (hz : m = 0 → kMet ln bd mt1 i j p) : MI nr lf ln bd tm fd dv mt mt2 s i j (n + m) rest := by
  obtain ⟨h1, h2, h3, h4⟩ := h
  rw [List.length_cons] at h4
  have hm0 := hm.2.2.1
  have hn0 := h1.2.2.1
  refine ⟨h1.trans hm, fun e h => h2 (by omega) (fun q hq hw => ?_), fun q hq => h3 q (List.mem_cons_of_mem _ hq), by omega⟩
  rcases List.mem_cons.mp hq with rfl | hq
  · have := hz (by omega)
    rw [h1.2.2.2.1 (by omega)] at this
    exact this
  · exact h q hq hw
theorem mi_end (h : MI nr lf ln bd tm fd dv mt mt1 s i j n []) : ME nr lf ln bd tm fd dv mt mt1 n ∧ (n = 0 → ∀ y, Kd nr lf ln bd tm dv s i j y → mt y = true) := by
  refine ⟨h.1, fun e y hy => ?_⟩
  obtain ⟨q, h1, h2, k, h3, h4, h5, rfl⟩ := hy
  exact h.2.1 e (fun q hq => by cases hq) q h1 h2 k h3 h4 h5
/-- a pass of nodes up to k -/
def PN (nr : Int) (lf ln bd tm : Int → Int) (fd : Int) (dv mt0 mt1 mt2 : Int → Bool) (mo : Bool) (k : Int) : Prop :=
  (∀ x, mt1 x = true → mt2 x = true) ∧ MSn nr lf ln bd tm fd dv mt0 mt2 ∧ (mo = false → mt2 = mt1 ∧ ∀ x, 0 ≤ x → x < k → vN fd x → mt1 x = true → ∀ y, Kd nr lf ln bd tm dv (x / 169) (x % 169 / 13) (x % 13) y → mt1 y = true) ∧ (mo = true → cnt mt1 845 < cnt mt2 845)
theorem pn_0 {mt0 : Int → Bool} (h : MSn nr lf ln bd tm fd dv mt0 mt1) : PN nr lf ln bd tm fd dv mt0 mt1 mt1 false 0 := ⟨fun _ h => h, h, fun _ => ⟨rfl, fun x a1 a2 => by omega⟩, (fun h => by cases h)⟩
theorem pn_skip {mt0 : Int → Bool} {mo : Bool} (h : PN nr lf ln bd tm fd dv mt0 mt1 mt2 mo k) (hf : mt2 k = false) : PN nr lf ln bd tm fd dv mt0 mt1 mt2 mo (k + 1) := by
  obtain ⟨h1, h2, h3, h4⟩ := h
  refine ⟨h1, h2, fun e => ⟨(h3 e).1, fun x a1 a2 a3 a4 => ?_⟩, h4⟩
  by_cases hx : x = k
  · rw [hx, ← (h3 e).1, hf] at a4
    cases a4
  · exact (h3 e).2 x a1 (by omega) a3 a4
theorem pn_step {mt0 mt3 : Int → Bool} {mo e : Bool} (h : PN nr lf ln bd tm fd dv mt0 mt1 mt2 mo k) (hm : ME nr lf ln bd tm fd dv mt2 mt3 n) (he : e = true ↔ 0 < n) (hz : n = 0 → ∀ y, Kd nr lf ln bd tm dv (k / 169) (k % 169 / 13) (k % 13) y → mt2 y = true) : PN nr lf ln bd tm fd dv mt0 mt1 mt3 (mo || e) (k + 1) := by
  obtain ⟨h1, h2, h3, h4⟩ := h
  obtain ⟨g1, g2, g3, g4, g5⟩ := hm
  refine ⟨fun x hx => g1 x (h1 x hx), fun U a b => g2 U (h2 U a b) b, fun hoe => ?_, fun hoe => ?_⟩
  · rw [Bool.or_eq_false_iff] at hoe
    have hn : n = 0 := by
      by_cases h9 : 0 < n
      · have := he.mpr h9
        rw [hoe.2] at this
        cases this
      · omega
    obtain ⟨e1, e2⟩ := h3 hoe.1
    rw [g4 hn, e1]
    refine ⟨rfl, fun x a1 a2 a3 a4 => ?_⟩
    by_cases hx : x = k
    · have := hz hn
      rw [e1] at this
      rw [hx]
      exact this
    · exact e2 x a1 (by omega) a3 a4
  · have a1 : cnt mt1 845 ≤ cnt mt2 845 := cnt_le (by omega) (fun x _ _ => h1 x)
    have a2 : cnt mt2 845 ≤ cnt mt3 845 := cnt_le (by omega) (fun x _ _ => g1 x)
    rw [Bool.or_eq_true] at hoe
    rcases hoe with h9 | h9
    · have := h4 h9
      omega
    · have := g5 (he.mp h9)
      omega
/-- all that is met below mt0 -/
def MetL (nr : Int) (lf ln bd tm : Int → Int) (fd : Int) (dv mt0 mt : Int → Bool) : Prop := (∀ x, mt0 x = true → mt x = true) ∧ MCl nr lf ln bd tm fd dv mt ∧ MSn nr lf ln bd tm fd dv mt0 mt
theorem pn_cl {mt0 : Int → Bool} {mo : Bool} (h : PN nr lf ln bd tm fd dv mt0 mt1 mt2 mo k) (hk : 845 ≤ k) (hm : mo = false) : MCl nr lf ln bd tm fd dv mt2 := by
  obtain ⟨e1, e2⟩ := h.2.2.1 hm
  rw [e1]
  exact fun x hx hm y hy => e2 x hx.1 (by unfold vN at hx; omega) hx hm y hy
theorem pn_mu {mt0 : Int → Bool} {mo : Bool} (h : PN nr lf ln bd tm fd dv mt0 mt1 mt2 mo k) : (845 - cnt mt2 845).toNat + (if mo = true then 1 else 0) < (845 - cnt mt1 845).toNat + (if true = true then 1 else 0) := by
  have h1 := cnt_rng mt1 (show (0 : Int) ≤ 845 by omega)
  have h2 := cnt_rng mt2 (show (0 : Int) ≤ 845 by omega)
  cases mo with
  | false =>
    rw [(h.2.2.1 rfl).1]
    simp
  | true =>
    have := h.2.2.2 rfl
    simp
    omega
end P8
