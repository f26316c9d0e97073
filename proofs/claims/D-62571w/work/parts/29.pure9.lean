/-! one tree in words: a stack of (symbol, from, to, number of the tree) -/
abbrev En : Type := Int × Int × Int × Int
def findL (f : Int × Int × Int → Bool) (g : Int × Int × Int → Int) : List (Int × Int × Int) → Int → Option ((Int × Int × Int) × Int)
  | [], _ => none
  | q :: l, t => if f q = true then (if t < g q then some (q, t) else findL f g l (t - g q)) else findL f g l t
theorem findL_cons (f : Int × Int × Int → Bool) (g : Int × Int × Int → Int) (q : Int × Int × Int) (l : List (Int × Int × Int)) (t : Int) : findL f g (q :: l) t = if f q = true then (if t < g q then some (q, t) else findL f g l (t - g q)) else findL f g l t := rfl
theorem findL_none {f : Int × Int × Int → Bool} {g : Int × Int × Int → Int} : ∀ (l : List (Int × Int × Int)) (a t : Int), 0 ≤ t → (∀ q ∈ l, f q = true → 0 ≤ g q) → findL f g l t = none → sumL f g a l ≤ a + t
  | [], a, t, ht, _, _ => by show a ≤ a + t; omega
  | q :: l, a, t, ht, hg, h => by
    rw [findL_cons] at h
    rw [sumL_cons]
    by_cases hf : f q = true
    · rw [if_pos hf] at h
      rw [if_pos hf]
      have h0 := hg q List.mem_cons_self hf
      split at h
      · cases h
      · have := findL_none l (cs a (g q)) (t - g q) (by omega) (fun p hp => hg p (List.mem_cons_of_mem _ hp)) h
        unfold cs at this ⊢
        split at this <;> split <;> omega
    · rw [if_neg hf] at h
      rw [if_neg hf]
      exact findL_none l a t ht (fun p hp => hg p (List.mem_cons_of_mem _ hp)) h
theorem findL_some {f : Int × Int × Int → Bool} {g : Int × Int × Int → Int} : ∀ (l : List (Int × Int × Int)) (t : Int) (q : Int × Int × Int) (t' : Int), 0 ≤ t → (∀ q ∈ l, f q = true → 0 ≤ g q) → findL f g l t = some (q, t') → q ∈ l ∧ f q = true ∧ 0 ≤ t' ∧ t' < g q
  | [], t, q, t', _, _, h => by cases h
  | p :: l, t, q, t', ht, hg, h => by
    rw [findL_cons] at h
    by_cases hf : f p = true
    · rw [if_pos hf] at h
      split at h
      · cases h
        exact ⟨List.mem_cons_self, hf, ht, by assumption⟩
      · obtain ⟨h1, h2⟩ := findL_some l (t - g p) q t' (by omega) (fun p hp => hg p (List.mem_cons_of_mem _ hp)) h
        exact ⟨List.mem_cons_of_mem _ h1, h2⟩
    · rw [if_neg hf] at h
      obtain ⟨h1, h2⟩ := findL_some l t q t' ht (fun p hp => hg p (List.mem_cons_of_mem _ hp)) h
      exact ⟨List.mem_cons_of_mem _ h1, h2⟩
/-- the kids of a way, from the last one: those behind place k, and what is left of the number -/
def kfN (nu : Int → Int → Int → Int) (ln : Int → Int) (bs : Int → Int → Int) (i j : Int) (q : Int × Int × Int) (t : Int) : Nat → List En × Int
  | 0 => ([], t)
  | m + 1 => if bs q.1 (ln q.1 - 1 - m) < 8 then ((bs q.1 (ln q.1 - 1 - m), cutV (ln q.1) q.2.1 q.2.2 (ln q.1 - 1 - m) i j, cutV (ln q.1) q.2.1 q.2.2 (ln q.1 - 1 - m + 1) i j, (kfN nu ln bs i j q t m).2 % nu (bs q.1 (ln q.1 - 1 - m)) (cutV (ln q.1) q.2.1 q.2.2 (ln q.1 - 1 - m) i j) (cutV (ln q.1) q.2.1 q.2.2 (ln q.1 - 1 - m + 1) i j)) :: (kfN nu ln bs i j q t m).1, (kfN nu ln bs i j q t m).2 / nu (bs q.1 (ln q.1 - 1 - m)) (cutV (ln q.1) q.2.1 q.2.2 (ln q.1 - 1 - m) i j) (cutV (ln q.1) q.2.1 q.2.2 (ln q.1 - 1 - m + 1) i j)) else kfN nu ln bs i j q t m
theorem kfN_yes {nu : Int → Int → Int → Int} {ln : Int → Int} {bs : Int → Int → Int} {i j : Int} {q : Int × Int × Int} {t : Int} {m : Nat} (hb : bs q.1 (ln q.1 - 1 - m) < 8) : kfN nu ln bs i j q t (m + 1) = ((bs q.1 (ln q.1 - 1 - m), cutV (ln q.1) q.2.1 q.2.2 (ln q.1 - 1 - m) i j, cutV (ln q.1) q.2.1 q.2.2 (ln q.1 - 1 - m + 1) i j, (kfN nu ln bs i j q t m).2 % nu (bs q.1 (ln q.1 - 1 - m)) (cutV (ln q.1) q.2.1 q.2.2 (ln q.1 - 1 - m) i j) (cutV (ln q.1) q.2.1 q.2.2 (ln q.1 - 1 - m + 1) i j)) :: (kfN nu ln bs i j q t m).1, (kfN nu ln bs i j q t m).2 / nu (bs q.1 (ln q.1 - 1 - m)) (cutV (ln q.1) q.2.1 q.2.2 (ln q.1 - 1 - m) i j) (cutV (ln q.1) q.2.1 q.2.2 (ln q.1 - 1 - m + 1) i j)) := if_pos hb
theorem kfN_no {nu : Int → Int → Int → Int} {ln : Int → Int} {bs : Int → Int → Int} {i j : Int} {q : Int × Int × Int} {t : Int} {m : Nat} (hb : ¬ bs q.1 (ln q.1 - 1 - m) < 8) : kfN nu ln bs i j q t (m + 1) = kfN nu ln bs i j q t m := if_neg hb
def kfI (nu : Int → Int → Int → Int) (ln : Int → Int) (bs : Int → Int → Int) (i j : Int) (q : Int × Int × Int) (t k : Int) : List En × Int := kfN nu ln bs i j q t (ln q.1 - 1 - k).toNat
section P9
variable {nu : Int → Int → Int → Int} {ln : Int → Int} {bs : Int → Int → Int} {i j t k : Int} {q : Int × Int × Int}
theorem kf_0 (h : k = ln q.1 - 1) : kfI nu ln bs i j q t k = ([], t) := by
  unfold kfI
  rw [show (ln q.1 - 1 - k).toNat = 0 by omega]
  rfl
theorem kf_yes (hk : 0 ≤ k ∧ k ≤ ln q.1 - 1) (hb : bs q.1 k < 8) : kfI nu ln bs i j q t (k + (-1)) = ((bs q.1 k, cutV (ln q.1) q.2.1 q.2.2 k i j, cutV (ln q.1) q.2.1 q.2.2 (k + 1) i j, (kfI nu ln bs i j q t k).2 % nu (bs q.1 k) (cutV (ln q.1) q.2.1 q.2.2 k i j) (cutV (ln q.1) q.2.1 q.2.2 (k + 1) i j)) :: (kfI nu ln bs i j q t k).1, (kfI nu ln bs i j q t k).2 / nu (bs q.1 k) (cutV (ln q.1) q.2.1 q.2.2 k i j) (cutV (ln q.1) q.2.1 q.2.2 (k + 1) i j)) := by
  unfold kfI
  rw [show (ln q.1 - 1 - (k + (-1))).toNat = (ln q.1 - 1 - k).toNat + 1 by omega]
  show (if bs q.1 (ln q.1 - 1 - ((ln q.1 - 1 - k).toNat : Int)) < 8 then _ else _) = _
  rw [show ln q.1 - 1 - ((ln q.1 - 1 - k).toNat : Int) = k by omega, if_pos hb]
theorem kf_no (hk : 0 ≤ k ∧ k ≤ ln q.1 - 1) (hb : ¬ bs q.1 k < 8) : kfI nu ln bs i j q t (k + (-1)) = kfI nu ln bs i j q t k := by
  unfold kfI
  rw [show (ln q.1 - 1 - (k + (-1))).toNat = (ln q.1 - 1 - k).toNat + 1 by omega]
  show (if bs q.1 (ln q.1 - 1 - ((ln q.1 - 1 - k).toNat : Int)) < 8 then _ else _) = _
  rw [show ln q.1 - 1 - ((ln q.1 - 1 - k).toNat : Int) = k by omega, if_neg hb]
end P9
def kidsL (nu : Int → Int → Int → Int) (ln : Int → Int) (bs : Int → Int → Int) (i j : Int) (q : Int × Int × Int) (t : Int) : List En := (kfI nu ln bs i j q t (-1)).1
/-- the top is taken off, its kids come -/
def stepS (nr : Int) (lf ln : Int → Int) (bs : Int → Int → Int) (tm : Int → Int) (dv : Int → Int → Int → Bool) (nu : Int → Int → Int → Int) : List En → List En
  | [] => []
  | e :: L => match findL (wayT tm dv ln bs e.2.1 e.2.2.1) (pV nu ln bs e.2.1 e.2.2.1) (wl nr lf ln e.1 e.2.1 e.2.2.1 0) e.2.2.2 with
    | none => L
    | some (q, t) => kidsL nu ln bs e.2.1 e.2.2.1 q t ++ L
def ruleS (nr : Int) (lf ln : Int → Int) (bs : Int → Int → Int) (tm : Int → Int) (dv : Int → Int → Int → Bool) (nu : Int → Int → Int → Int) : List En → Int
  | [] => -1
  | e :: _ => match findL (wayT tm dv ln bs e.2.1 e.2.2.1) (pV nu ln bs e.2.1 e.2.2.1) (wl nr lf ln e.1 e.2.1 e.2.2.1 0) e.2.2.2 with
    | none => -1
    | some (q, _) => q.1
def itS (nr : Int) (lf ln : Int → Int) (bs : Int → Int → Int) (tm : Int → Int) (dv : Int → Int → Int → Bool) (nu : Int → Int → Int → Int) (L : List En) : Nat → List En
  | 0 => L
  | n + 1 => stepS nr lf ln bs tm dv nu (itS nr lf ln bs tm dv nu L n)
theorem itS_nil {nr : Int} {lf ln : Int → Int} {bs : Int → Int → Int} {tm : Int → Int} {dv : Int → Int → Int → Bool} {nu : Int → Int → Int → Int} {L : List En} {n : Nat} (h : itS nr lf ln bs tm dv nu L n = []) : ∀ m : Nat, itS nr lf ln bs tm dv nu L (n + m) = []
  | 0 => h
  | m + 1 => by
    show stepS nr lf ln bs tm dv nu (itS nr lf ln bs tm dv nu L (n + m)) = []
    rw [itS_nil h m]
    rfl
/-- the reference's stack -/
def stkN (td tt : Int → Int) : Nat → List (Int × Int)
  | 0 => []
  | n + 1 => (td n, tt n) :: stkN td tt n
def stkI (td tt : Int → Int) (tc : Int) : List (Int × Int) := stkN td tt tc.toNat
theorem stkN_up {td tt : Int → Int} {c x t : Int} : ∀ n : Nat, (n : Int) ≤ c → stkN (upI td c x) (upI tt c t) n = stkN td tt n
  | 0, _ => rfl
  | n + 1, h => by
    show (upI td c x n, upI tt c t n) :: stkN (upI td c x) (upI tt c t) n = (td n, tt n) :: stkN td tt n
    rw [upI_ne _ _ (show (n : Int) ≠ c by omega), upI_ne _ _ (show (n : Int) ≠ c by omega), stkN_up n (by omega)]
theorem stk_push {td tt : Int → Int} {c x t : Int} (h : 0 ≤ c) : stkI (upI td c x) (upI tt c t) (c + 1) = (x, t) :: stkI td tt c := by
  unfold stkI
  rw [show (c + 1).toNat = c.toNat + 1 by omega]
  show (upI td c x c.toNat, upI tt c t c.toNat) :: stkN (upI td c x) (upI tt c t) c.toNat = _
  rw [show ((c.toNat : Nat) : Int) = c by omega, upI_self, upI_self, stkN_up _ (by omega)]
theorem stk_top {td tt : Int → Int} {c : Int} (h : 0 < c) : stkI td tt c = (td (c - 1), tt (c - 1)) :: stkI td tt (c - 1) := by
  unfold stkI
  rw [show c.toNat = (c - 1).toNat + 1 by omega]
  show (td (c - 1).toNat, tt (c - 1).toNat) :: _ = _
  rw [show (((c - 1).toNat : Nat) : Int) = c - 1 by omega]
theorem stk_len {td tt : Int → Int} : ∀ n : Nat, (stkN td tt n).length = n
  | 0 => rfl
  | n + 1 => by
    show (stkN td tt n).length + 1 = n + 1
    rw [stk_len n]
def mE (e : En) : Int × Int := (169 * e.1 + 13 * e.2.1 + e.2.2.1, e.2.2.2)
/-- what a tree rests on: a rank that falls, numbers that are not 0 -/
def TRk (nr : Int) (lf ln : Int → Int) (bs : Int → Int → Int) (tm : Int → Int) (fd : Int) (dv ct : Int → Int → Int → Bool) (nu R : Int → Int → Int → Int) : Prop :=
  (∀ s i j, 0 ≤ s → s ≤ 4 → 0 ≤ i → i ≤ j → j ≤ fd → ct s i j = true → (0 ≤ R s i j ∧ R s i j ≤ 77) ∧ 0 ≤ nu s i j ∧ nu s i j ≤ 1000000000000 ∧ (dv s i j = true → 0 < nu s i j) ∧ nu s i j = sumL (wayT tm dv ln bs i j) (pV nu ln bs i j) 0 (wl nr lf ln s i j 0) ∧ ∀ q ∈ wl nr lf ln s i j 0, wayT tm dv ln bs i j q = true → wOk ct ln bs i j q ∧ ∀ k, 0 ≤ k → k < ln q.1 → bs q.1 k < 8 → R (bs q.1 k) (cutV (ln q.1) q.2.1 q.2.2 k i j) (cutV (ln q.1) q.2.1 q.2.2 (k + 1) i j) < R s i j)
/-- a good entry -/
def gE (fd : Int) (dv ct : Int → Int → Int → Bool) (nu : Int → Int → Int → Int) (e : En) : Prop := (0 ≤ e.1 ∧ e.1 ≤ 4) ∧ (0 ≤ e.2.1 ∧ e.2.1 ≤ e.2.2.1 ∧ e.2.2.1 ≤ fd) ∧ ct e.1 e.2.1 e.2.2.1 = true ∧ dv e.1 e.2.1 e.2.2.1 = true ∧ 0 ≤ e.2.2.2 ∧ e.2.2.2 < nu e.1 e.2.1 e.2.2.1
def SOK (fd : Int) (dv ct : Int → Int → Int → Bool) (nu R : Int → Int → Int → Int) : List En → Prop
  | [] => True
  | e :: L => gE fd dv ct nu e ∧ (L.length : Int) + 2 * R e.1 e.2.1 e.2.2.1 ≤ 154 ∧ SOK fd dv ct nu R L
/-- the grammar with its bodies by rule -/
def gB (nr : Int) (lf ln : Int → Int) (bs : Int → Int → Int) : Prop := (0 ≤ nr ∧ nr ≤ 10) ∧ (∀ q, 0 ≤ q → q < nr → 0 ≤ lf q ∧ lf q ≤ 4) ∧ (∀ q, 0 ≤ q → q < nr → 0 ≤ ln q ∧ ln q ≤ 3) ∧ ∀ q k, 0 ≤ q → q < nr → 0 ≤ k → k < ln q → (0 ≤ bs q k ∧ bs q k ≤ 4) ∨ (8 ≤ bs q k ∧ bs q k ≤ 11)
theorem gOK.gB {nr : Int} {lf ln bd : Int → Int} (h : gOK nr lf ln bd) : gB nr lf ln (bsM bd) := by
  have h1 := h.1
  refine ⟨h.1, fun q a b => h.2.1 q a (by omega), fun q a b => h.2.2.1 q a (by omega), fun q k a b c d => ?_⟩
  have hl := h.2.2.1 q a (by omega)
  have h2 := h.2.2.2.1 (3 * q + k) (by omega) (by omega)
  have h3 := h.2.2.2.2 q k a b c d
  show (0 ≤ bd (3 * q + k) ∧ bd (3 * q + k) ≤ 4) ∨ (8 ≤ bd (3 * q + k) ∧ bd (3 * q + k) ≤ 11)
  omega
section P9b
variable {nr fd : Int} {lf ln : Int → Int} {bs : Int → Int → Int} {tm : Int → Int} {dv ct : Int → Int → Int → Bool} {nu R : Int → Int → Int → Int}
theorem pVk_nn {i j : Int} {q : Int × Int × Int} (h : ∀ k, 0 ≤ k → k < ln q.1 → bs q.1 k < 8 → 0 ≤ nu (bs q.1 k) (cutV (ln q.1) q.2.1 q.2.2 k i j) (cutV (ln q.1) q.2.1 q.2.2 (k + 1) i j)) : ∀ m, 0 ≤ m → m ≤ ln q.1 → 0 ≤ pVk nu ln bs i j q m ∧ pVk nu ln bs i j q m ≤ 1000000000000 := by
  intro m hm
  refine int_ind (Q := fun m => m ≤ ln q.1 → 0 ≤ pVk nu ln bs i j q m ∧ pVk nu ln bs i j q m ≤ 1000000000000) (fun _ => ⟨show (0 : Int) ≤ 1 by decide, show (1 : Int) ≤ 1000000000000 by decide⟩) ?_ m hm
  intro k hk ih hle
  rw [pVk_s _ _ _ _ _ _ hk]
  split
  · rename_i hb
    exact cp_rng (ih (by omega)).1 (h k hk (by omega) hb)
  · exact ih (by omega)
/-- a kid of a way of a good node is good -/
theorem kid_ok {s i j k : Int} {q : Int × Int × Int} (hg : gB nr lf ln bs) (hf : fd ≤ 12) (hij : 0 ≤ i ∧ i ≤ j ∧ j ≤ fd) (hq : q ∈ wl nr lf ln s i j 0) (hw : wayT tm dv ln bs i j q = true) (ho : wOk ct ln bs i j q) (hk : 0 ≤ k ∧ k < ln q.1) (hb : bs q.1 k < 8) :
    (0 ≤ bs q.1 k ∧ bs q.1 k ≤ 4) ∧ (0 ≤ cutV (ln q.1) q.2.1 q.2.2 k i j ∧ cutV (ln q.1) q.2.1 q.2.2 k i j ≤ cutV (ln q.1) q.2.1 q.2.2 (k + 1) i j ∧ cutV (ln q.1) q.2.1 q.2.2 (k + 1) i j ≤ fd) ∧ ct (bs q.1 k) (cutV (ln q.1) q.2.1 q.2.2 k i j) (cutV (ln q.1) q.2.1 q.2.2 (k + 1) i j) = true ∧ dv (bs q.1 k) (cutV (ln q.1) q.2.1 q.2.2 k i j) (cutV (ln q.1) q.2.1 q.2.2 (k + 1) i j) = true := by
  have hl := wl_in (fun r a b => hg.2.2.1 r a b) (by omega) hq
  have hc := wayB_cut (k := k) hw hk
  have r1 := cutV_rng (n := ln q.1) (k := k) (i := i) (j := j) (c1 := q.2.1) (c2 := q.2.2) (by omega)
  have r2 := cutV_rng (n := ln q.1) (k := k + 1) (i := i) (j := j) (c1 := q.2.1) (c2 := q.2.2) (by omega)
  have hs := hg.2.2.2 q.1 k hl.1 hl.2.1 hk.1 hk.2
  refine ⟨by omega, by omega, ho k hk.1 hk.2 hb, ?_⟩
  have := hc.2
  unfold dsy at this
  rw [if_neg (by omega)] at this
  exact this
theorem kids_ok {s i j t : Int} {q : Int × Int × Int} (hg : gB nr lf ln bs) (hf : fd ≤ 12) (hT : TRk nr lf ln bs tm fd dv ct nu R) (hs : 0 ≤ s ∧ s ≤ 4) (hij : 0 ≤ i ∧ i ≤ j ∧ j ≤ fd) (hct : ct s i j = true) (hq : q ∈ wl nr lf ln s i j 0) (hw : wayT tm dv ln bs i j q = true) (ht : 0 ≤ t) {L : List En} (hL : SOK fd dv ct nu R L) (hr : (L.length : Int) + 2 * R s i j ≤ 154) :
    ∀ m : Nat, (m : Int) ≤ ln q.1 → SOK fd dv ct nu R ((kfN nu ln bs i j q t m).1 ++ L) ∧ 0 ≤ (kfN nu ln bs i j q t m).2 ∧ (kfN nu ln bs i j q t m).2 ≤ t ∧ (kfN nu ln bs i j q t m).1.length ≤ m
  | 0, _ => ⟨hL, ht, Int.le_refl _, Nat.le_refl _⟩
  | m + 1, hm => by
    obtain ⟨h1, h2, h3, h4⟩ := kids_ok hg hf hT hs hij hct hq hw ht hL hr m (by omega)
    have hl := wl_in (fun r a b => hg.2.2.1 r a b) (by omega) hq
    have hn := hg.2.2.1 q.1 hl.1 hl.2.1
    have hTs := (hT s i j hs.1 hs.2 hij.1 hij.2.1 hij.2.2 hct)
    have hTq := hTs.2.2.2.2.2 q hq hw
    by_cases hb : bs q.1 (ln q.1 - 1 - m) < 8
    · rw [kfN_yes hb]
      have hko := kid_ok (k := ln q.1 - 1 - m) hg hf hij hq hw hTq.1 (by omega) hb
      have hR := hTq.2 (ln q.1 - 1 - m) (by omega) (by omega) hb
      have hTk := hT _ _ _ hko.1.1 hko.1.2 hko.2.1.1 hko.2.1.2.1 hko.2.1.2.2 hko.2.2.1
      have hpos := hTk.2.2.2.1 hko.2.2.2
      refine ⟨⟨⟨hko.1, hko.2.1, hko.2.2.1, hko.2.2.2, Int.emod_nonneg _ (by omega), Int.emod_lt_of_pos _ hpos⟩, ?_, h1⟩, Int.ediv_nonneg h2 (by omega), Int.le_trans (Int.ediv_le_self _ h2) h3, ?_⟩
      · show (((kfN nu ln bs i j q t m).1 ++ L).length : Int) + 2 * R (bs q.1 (ln q.1 - 1 - m)) (cutV (ln q.1) q.2.1 q.2.2 (ln q.1 - 1 - m) i j) (cutV (ln q.1) q.2.1 q.2.2 (ln q.1 - 1 - m + 1) i j) ≤ 154
        rw [List.length_append]
        show (((kfN nu ln bs i j q t m).1.length + L.length : Nat) : Int) + 2 * R (bs q.1 (ln q.1 - 1 - m)) (cutV (ln q.1) q.2.1 q.2.2 (ln q.1 - 1 - m) i j) (cutV (ln q.1) q.2.1 q.2.2 (ln q.1 - 1 - m + 1) i j) ≤ 154
        omega
      · show (kfN nu ln bs i j q t m).1.length + 1 ≤ m + 1
        omega
    · rw [kfN_no hb]
      exact ⟨h1, h2, h3, by omega⟩
/-- a good top has a way; what comes is good -/
theorem step_ok {e : En} {L : List En} (hg : gB nr lf ln bs) (hf : fd ≤ 12) (hT : TRk nr lf ln bs tm fd dv ct nu R) (h : SOK fd dv ct nu R (e :: L)) : ∃ q t, findL (wayT tm dv ln bs e.2.1 e.2.2.1) (pV nu ln bs e.2.1 e.2.2.1) (wl nr lf ln e.1 e.2.1 e.2.2.1 0) e.2.2.2 = some (q, t) ∧ q ∈ wl nr lf ln e.1 e.2.1 e.2.2.1 0 ∧ wayT tm dv ln bs e.2.1 e.2.2.1 q = true ∧ 0 ≤ t ∧ t < pV nu ln bs e.2.1 e.2.2.1 q ∧ pV nu ln bs e.2.1 e.2.2.1 q ≤ 1000000000000 ∧
    SOK fd dv ct nu R (kidsL nu ln bs e.2.1 e.2.2.1 q t ++ L) ∧ (kidsL nu ln bs e.2.1 e.2.2.1 q t).length ≤ 3 ∧ stepS nr lf ln bs tm dv nu (e :: L) = kidsL nu ln bs e.2.1 e.2.2.1 q t ++ L ∧ ruleS nr lf ln bs tm dv nu (e :: L) = q.1 := by
  obtain ⟨⟨g1, g2, g3, g4, g5, g6⟩, h2, h3⟩ := h
  have hTs := hT e.1 e.2.1 e.2.2.1 g1.1 g1.2 g2.1 g2.2.1 g2.2.2 g3
  have hnn : ∀ q ∈ wl nr lf ln e.1 e.2.1 e.2.2.1 0, wayT tm dv ln bs e.2.1 e.2.2.1 q = true → 0 ≤ pV nu ln bs e.2.1 e.2.2.1 q ∧ pV nu ln bs e.2.1 e.2.2.1 q ≤ 1000000000000 := by
    intro q hq hw
    have hl := wl_in (fun r a b => hg.2.2.1 r a b) (by omega) hq
    refine pVk_nn (fun k a1 a2 a3 => ?_) _ (hg.2.2.1 q.1 hl.1 hl.2.1).1 (Int.le_refl _)
    have hko := kid_ok (k := k) hg hf g2 hq hw (hTs.2.2.2.2.2 q hq hw).1 ⟨a1, a2⟩ a3
    exact (hT _ _ _ hko.1.1 hko.1.2 hko.2.1.1 hko.2.1.2.1 hko.2.1.2.2 hko.2.2.1).2.1
  cases hfd : findL (wayT tm dv ln bs e.2.1 e.2.2.1) (pV nu ln bs e.2.1 e.2.2.1) (wl nr lf ln e.1 e.2.1 e.2.2.1 0) e.2.2.2 with
  | none =>
    have := findL_none _ 0 _ g5 (fun q a b => (hnn q a b).1) hfd
    have h9 := hTs.2.2.2.2.1
    omega
  | some p =>
    obtain ⟨q, t⟩ := p
    obtain ⟨a1, a2, a3, a4⟩ := findL_some _ _ q t g5 (fun q a b => (hnn q a b).1) hfd
    have hl := wl_in (fun r a b => hg.2.2.1 r a b) (by omega) a1
    have hn := hg.2.2.1 q.1 hl.1 hl.2.1
    have hk := kids_ok hg hf hT g1 g2 g3 a1 a2 a3 h3 h2 (ln q.1 - 1 - (-1)).toNat (by omega)
    refine ⟨q, t, rfl, a1, a2, a3, a4, (hnn q a1 a2).2, hk.1, ?_, ?_, ?_⟩
    · have := hk.2.2.2
      show (kfN nu ln bs e.2.1 e.2.2.1 q t (ln q.1 - 1 - (-1)).toNat).1.length ≤ 3
      omega
    · show (match findL (wayT tm dv ln bs e.2.1 e.2.2.1) (pV nu ln bs e.2.1 e.2.2.1) (wl nr lf ln e.1 e.2.1 e.2.2.1 0) e.2.2.2 with | none => L | some (q, t) => kidsL nu ln bs e.2.1 e.2.2.1 q t ++ L) = _
      rw [hfd]
    · show (match findL (wayT tm dv ln bs e.2.1 e.2.2.1) (pV nu ln bs e.2.1 e.2.2.1) (wl nr lf ln e.1 e.2.1 e.2.2.1 0) e.2.2.2 with | none => -1 | some (q, _) => q.1) = _
      rw [hfd]
theorem SOK_len {L : List En} (hT : TRk nr lf ln bs tm fd dv ct nu R) (h : SOK fd dv ct nu R L) : L.length ≤ 155 := by
  cases L with
  | nil => exact Nat.zero_le _
  | cons e L =>
    obtain ⟨⟨g1, g2, g3, -⟩, h2, -⟩ := h
    have := (hT e.1 e.2.1 e.2.2.1 g1.1 g1.2 g2.1 g2.2.1 g2.2.2 g3).1
    rw [List.length_cons]
    omega
end P9b
