/-! the component's world while its constructor goes -/
abbrev zI : Int → Int := fun _ => (0 : Int)
abbrev zI2 : Int → Int → Int := fun _ _ => (0 : Int)
abbrev zI3 : Int → Int → Int → Int := fun _ _ _ => (0 : Int)
abbrev fB1 : Int → Bool := fun _ => false
abbrev fB2 : Int → Int → Bool := fun _ _ => false
def cF0 (ad : Nat → Nat) (lp : Bool) : Nat → Option jE := cF ad lp 0 0 0 0 zI false .null 0 false zI false .null 0 false zI 0 zI zI zI zI zI
/-- the empty component -/
abbrev cC0 (ad : Nat → Nat) (r : Nat → Option jE) (lp : Bool) : Nat → Option jE := cC ad r lp 0 0 0 0 0 zI zI zI zI zI2 fB2 zI zI2 zI zI2 zI3 false .null 0 zI false false .null 0 zI false zI zI zI zI 0 zI fB2
def oS (ad : Nat → Nat) (j : Int) : Option jE := some (.inr (2, [Value.ref (ad (320 + j.toNat)), Value.ref (ad (340 + j.toNat)), Value.int (iI 0), Value.ref (ad (360 + j.toNat)), Value.int (iI 0)]))
def oC (ad : Nat → Nat) (j : Int) : Option jE := some (.inr (1, [Value.ref (ad (420 + j.toNat)), Value.ref (ad (440 + j.toNat))]))
def aZ (N : Nat) : Option jE := some (.inl (0, N, fun j => Value.int (iI ((fun _ => (0 : Int)) j))))
def aW (ad : Nat → Nat) (j : Int) : Option jE := some (.inl (6, (j + 1).toNat, fun i => if 0 ≤ i ∧ i < (((j + 1).toNat : Nat) : Int) then Value.ref (ad (500 + (13 * j).toNat + i.toNat)) else Value.null))
/-- the places of sets and columns -/
def plc (x : Nat) : Prop := (300 ≤ x ∧ x < 313) ∨ (320 ≤ x ∧ x < 333) ∨ (340 ≤ x ∧ x < 353) ∨ (360 ≤ x ∧ x < 373) ∨ (400 ≤ x ∧ x < 413) ∨ (420 ≤ x ∧ x < 433) ∨ (440 ≤ x ∧ x < 453) ∨ (500 ≤ x ∧ x < 669 ∧ (x - 500) % 13 ≤ (x - 500) / 13)
/-- k sets and columns have been made -/
def BW (r : Nat → Option jE) (lp : Bool) (k : Int) (ad : Nat → Nat) (c : Nat → Option jE) : Prop :=
  ((∀ x, x < 100 → c x = r x) ∧ (∀ q, q < 18 → q ≠ 5 → q ≠ 7 → c (100 + q) = cF0 ad lp q) ∧ (∀ x, 119 ≤ x → ¬ plc x → ¬ (700 ≤ x ∧ x < 765) → c x = none) ∧ ∀ j : Int, 0 ≤ j → j < 65 → c (700 + j.toNat) = some (.inl (3, 13, fun j => Value.int (iI (bz (fB1 j)))))) ∧
  (c 118 = some (.inl (7, 65, fun j => if 0 ≤ j ∧ j < 65 then Value.ref (ad (700 + j.toNat)) else Value.null)) ∧ c 105 = some (.inl (4, 13, fun j => if 0 ≤ j ∧ j < k then Value.ref (ad (300 + j.toNat)) else Value.null)) ∧ c 107 = some (.inl (5, 13, fun j => if 0 ≤ j ∧ j < k then Value.ref (ad (400 + j.toNat)) else Value.null))) ∧
  (∀ j : Int, 0 ≤ j → j < 13 → c (300 + j.toNat) = (if j < k then oS ad j else none) ∧ c (320 + j.toNat) = (if j < k then some (.inl (2, 572, fun j => Value.int (iI ((fun _ => (0 : Int)) j)))) else none) ∧ c (340 + j.toNat) = (if j < k then some (.inl (1, 9, fun j => Value.long (wd (fun _ => false) j))) else none) ∧ c (360 + j.toNat) = (if j < k then aZ 5 else none) ∧
    c (400 + j.toNat) = (if j < k then oC ad j else none) ∧ c (420 + j.toNat) = (if j < k then aZ (j + 1).toNat else none) ∧ c (440 + j.toNat) = (if j < k then aW ad j else none)) ∧
  ∀ i j : Int, 0 ≤ j → j ≤ i → i < 13 → c (500 + (13 * i + j).toNat) = if i < k then some (.inl (1, 5, fun j => Value.long (iL ((fun _ => (0 : Int)) j)))) else none
section BWS
variable {r : Nat → Option jE} {lp : Bool} {k : Int} {ad ad' : Nat → Nat} {c c' : Nat → Option jE}
/-- the places that round k lays -/
def rnd (k : Int) (x : Nat) : Prop := x = 300 + k.toNat ∨ x = 320 + k.toNat ∨ x = 340 + k.toNat ∨ x = 360 + k.toNat ∨ x = 400 + k.toNat ∨ x = 420 + k.toNat ∨ x = 440 + k.toNat ∨ (500 + (13 * k).toNat ≤ x ∧ x < 500 + (13 * k).toNat + (k + 1).toNat)
theorem cF0_ad (h : ∀ x, ¬ rnd k x → ad' x = ad x) (hk : 0 ≤ k ∧ k < 13) (q : Nat) (hq : q < 18) (h5 : q ≠ 5) (h7 : q ≠ 7) : cF0 ad' lp q = cF0 ad lp q := by
  have e : ∀ x, x < 300 → ad' x = ad x := fun x hx => h x (by unfold rnd; omega)
  unfold cF0 cF
  match q, hq with
  | 0, _ => simp only [e 101 (by decide), e 103 (by decide), e 105 (by decide), e 106 (by decide), e 107 (by decide), e 108 (by decide), e 110 (by decide), e 112 (by decide), e 117 (by decide), e 118 (by decide)]
  | 1, _ => simp only [e 102 (by decide)]
  | 2, _ => rfl
  | 3, _ => simp only [e 104 (by decide)]
  | 4, _ =>
    show some _ = some _
    congr 4
    funext j
    unfold elD
    rw [if_neg (by omega), if_neg (by omega)]
  | 5, _ => exact absurd rfl h5
  | 6, _ => rfl
  | 7, _ => exact absurd rfl h7
  | 8, _ => simp only [wf, e 109 (by decide)]; rfl
  | 9, _ => rfl
  | 10, _ => simp only [wf, e 111 (by decide)]; rfl
  | 11, _ => rfl
  | 12, _ => simp only [e 113 (by decide), e 114 (by decide), e 115 (by decide), e 116 (by decide)]
  | 13, _ => rfl
  | 14, _ => rfl
  | 15, _ => rfl
  | 16, _ => rfl
  | 17, _ => rfl
  | q + 18, h => exact absurd h (by omega)
theorem bw_step (hk : 0 ≤ k ∧ k < 13) (h : BW r lp k ad c) (ha : ∀ x, ¬ rnd k x → ad' x = ad x) (hc : ∀ x, ¬ rnd k x → x ≠ 105 → x ≠ 107 → c' x = c x)
    (h5 : c' 105 = some (.inl (4, 13, upI (fun j => if 0 ≤ j ∧ j < k then Value.ref (ad (300 + j.toNat)) else Value.null) k (Value.ref (ad' (300 + k.toNat)))))) (h7 : c' 107 = some (.inl (5, 13, upI (fun j => if 0 ≤ j ∧ j < k then Value.ref (ad (400 + j.toNat)) else Value.null) k (Value.ref (ad' (400 + k.toNat))))))
    (s1 : c' (300 + k.toNat) = oS ad' k) (s2 : c' (320 + k.toNat) = some (.inl (2, 572, fun j => Value.int (iI ((fun _ => (0 : Int)) j))))) (s3 : c' (340 + k.toNat) = some (.inl (1, 9, fun j => Value.long (wd (fun _ => false) j)))) (s4 : c' (360 + k.toNat) = aZ 5) (s5 : c' (400 + k.toNat) = oC ad' k) (s6 : c' (420 + k.toNat) = aZ (k + 1).toNat) (s7 : c' (440 + k.toNat) = aW ad' k) (s8 : ∀ q, q < (k + 1).toNat → c' (500 + (13 * k).toNat + q) = some (.inl (1, 5, fun j => Value.long (iL ((fun _ => (0 : Int)) j))))) : BW r lp (k + 1) ad' c' := by
  obtain ⟨⟨b1, b2, b3, b4⟩, ⟨b9, b5, b6⟩, b7, b8⟩ := h
  refine ⟨⟨fun x hx => ?_, fun q q1 q5 q7 => ?_, fun x x1 x2 x3 => ?_, fun j j1 j2 => ?_⟩, ⟨?_, ?_, ?_⟩, fun j j1 j2 => ?_, fun i j j1 j2 j3 => ?_⟩
  · rw [hc x (by unfold rnd; omega) (by omega) (by omega)]
    exact b1 x hx
  · rw [hc (100 + q) (by unfold rnd; omega) (by omega) (by omega), b2 q q1 q5 q7]
    exact (cF0_ad ha hk q q1 q5 q7).symm
  · rw [hc x (by unfold rnd; unfold plc at x2; omega) (by omega) (by omega)]
    exact b3 x x1 x2 x3
  · rw [hc _ (by unfold rnd; omega) (by omega) (by omega)]
    exact b4 j j1 j2
  · rw [hc 118 (by unfold rnd; omega) (by omega) (by omega), b9]
    congr 4
    funext j
    by_cases e : 0 ≤ j ∧ j < 65
    · rw [if_pos e, if_pos e, ha _ (by unfold rnd; omega)]
    · rw [if_neg e, if_neg e]
  · rw [h5]
    congr 4
    funext j
    rw [upI_ap]
    by_cases e : j = k
    · rw [if_pos e, if_pos (by omega), e]
    · rw [if_neg e]
      by_cases e2 : 0 ≤ j ∧ j < k
      · rw [if_pos e2, if_pos (by omega), ha _ (by unfold rnd; omega)]
      · rw [if_neg e2, if_neg (by omega)]
  · rw [h7]
    congr 4
    funext j
    rw [upI_ap]
    by_cases e : j = k
    · rw [if_pos e, if_pos (by omega), e]
    · rw [if_neg e]
      by_cases e2 : 0 ≤ j ∧ j < k
      · rw [if_pos e2, if_pos (by omega), ha _ (by unfold rnd; omega)]
      · rw [if_neg e2, if_neg (by omega)]
  · by_cases e : j = k
    · subst e
      rw [if_pos (by omega), if_pos (by omega), if_pos (by omega), if_pos (by omega), if_pos (by omega), if_pos (by omega), if_pos (by omega)]
      exact ⟨s1, s2, s3, s4, s5, s6, s7⟩
    · obtain ⟨q1, q2, q3, q4, q5, q6, q7⟩ := b7 j j1 j2
      rw [hc (300 + j.toNat) (by unfold rnd; omega) (by omega) (by omega), hc (320 + j.toNat) (by unfold rnd; omega) (by omega) (by omega), hc (340 + j.toNat) (by unfold rnd; omega) (by omega) (by omega), hc (360 + j.toNat) (by unfold rnd; omega) (by omega) (by omega), hc (400 + j.toNat) (by unfold rnd; omega) (by omega) (by omega), hc (420 + j.toNat) (by unfold rnd; omega) (by omega) (by omega), hc (440 + j.toNat) (by unfold rnd; omega) (by omega) (by omega), q1, q2, q3, q4, q5, q6, q7]
      by_cases hj : j < k
      · simp only [if_pos hj, if_pos (show j < k + 1 by omega)]
        refine ⟨?_, trivial, trivial, trivial, ?_, trivial, ?_⟩
        · unfold oS
          rw [ha (320 + j.toNat) (by unfold rnd; omega), ha (340 + j.toNat) (by unfold rnd; omega), ha (360 + j.toNat) (by unfold rnd; omega)]
        · unfold oC
          rw [ha (420 + j.toNat) (by unfold rnd; omega), ha (440 + j.toNat) (by unfold rnd; omega)]
        · unfold aW
          congr 4
          funext i
          by_cases e2 : 0 ≤ i ∧ i < (((j + 1).toNat : Nat) : Int)
          · rw [if_pos e2, if_pos e2, ha _ (by unfold rnd; omega)]
          · rw [if_neg e2, if_neg e2]
      · simp only [if_neg hj, if_neg (show ¬ j < k + 1 by omega)]
        exact ⟨trivial, trivial, trivial, trivial, trivial, trivial, trivial⟩
  · by_cases e : i = k
    · subst e
      rw [if_pos (by omega), show 500 + (13 * i + j).toNat = 500 + (13 * i).toNat + j.toNat by omega]
      exact s8 _ (by omega)
    · rw [hc _ (by unfold rnd; omega) (by omega) (by omega), b8 i j j1 j2 j3]
      by_cases hi : i < k
      · rw [if_pos hi, if_pos (by omega)]
      · rw [if_neg hi, if_neg (by omega)]
theorem cC0_none {x : Nat} (hx : 119 ≤ x) (h : ¬ plc x) (hM : ¬ (700 ≤ x ∧ x < 765)) : cC0 ad r lp x = none := by
  unfold plc at h
  unfold cC0 cC cG cK
  rw [if_neg (by omega), if_neg (by omega)]
  by_cases h1 : 200 ≤ x ∧ x < 200 + 10
  · unfold gg
    rw [if_pos h1]
    exact if_neg (by omega)
  · rw [gg_out h1]
    by_cases h2 : 220 ≤ x ∧ x < 220 + 10
    · unfold gg
      rw [if_pos h2]
      exact if_neg (by omega)
    · rw [gg_out h2, gg_out (by omega), gg_out (by omega), gg_out (by omega), gg_out (by omega), gg_out (by omega), gg_out (by omega), gg_out (by omega)]
      by_cases h3 : 500 ≤ x ∧ x < 500 + 169
      · unfold gg
        rw [if_pos h3]
        exact if_neg (by omega)
      · rw [gg_out h3, gg_out (by omega)]
theorem cC0_F {q : Nat} (hq : q < 19) : cC0 ad r lp (100 + q) = cF0 ad lp q := by
  unfold cC0 cC cK
  rw [if_neg (by omega), if_pos (by omega), show 100 + q - 100 = q by omega]
  rfl
/-- all is made -/
theorem bw_end (h : BW r lp 13 ad c) (x : Nat) : eqE (c x) (cC0 ad r lp x) := by
  obtain ⟨⟨b1, b2, b3, b4⟩, ⟨b9, b5, b6⟩, b7, b8⟩ := h
  by_cases h1 : x < 100
  · left
    rw [b1 x h1]
    unfold cC0 cC cK
    rw [if_pos h1]
  · by_cases h2 : x < 119
    · obtain ⟨q, rfl⟩ : ∃ q, x = 100 + q := ⟨x - 100, by omega⟩
      by_cases e5 : q = 5
      · subst e5
        exact Or.inr ⟨4, 13, _, _, b5, cC0_F (by decide), fun j j1 j2 => if_pos ⟨j1, by omega⟩⟩
      · by_cases e7 : q = 7
        · subst e7
          exact Or.inr ⟨5, 13, _, _, b6, cC0_F (by decide), fun j j1 j2 => if_pos ⟨j1, by omega⟩⟩
        · by_cases e8 : q = 18
          · subst e8
            exact Or.inr ⟨7, 65, _, _, b9, cC0_F (by decide), fun j j1 j2 => if_pos ⟨j1, by omega⟩⟩
          · left
            rw [b2 q (by omega) e5 e7, cC0_F (by omega)]
    · by_cases hp : plc x
      · unfold plc at hp
        have key : ∀ lo : Nat, lo ≤ x → x < lo + 13 → ∃ j : Int, (0 ≤ j ∧ j < 13) ∧ x = lo + j.toNat := fun lo a b => ⟨(x : Int) - lo, by omega, by omega⟩
        rcases hp with hp | hp | hp | hp | hp | hp | hp | hp
        · obtain ⟨j, hj, rfl⟩ := key 300 hp.1 hp.2
          left
          rw [(b7 j hj.1 hj.2).1, if_pos hj.2, show cC0 ad r lp (300 + j.toNat) = _ from hidS hj]
          rfl
        · obtain ⟨j, hj, rfl⟩ := key 320 hp.1 hp.2
          left
          rw [(b7 j hj.1 hj.2).2.1, if_pos hj.2, show cC0 ad r lp (320 + j.toNat) = _ from hidI hj]
        · obtain ⟨j, hj, rfl⟩ := key 340 hp.1 hp.2
          left
          rw [(b7 j hj.1 hj.2).2.2.1, if_pos hj.2, show cC0 ad r lp (340 + j.toNat) = _ from hidT hj]
        · obtain ⟨j, hj, rfl⟩ := key 360 hp.1 hp.2
          left
          rw [(b7 j hj.1 hj.2).2.2.2.1, if_pos hj.2, show cC0 ad r lp (360 + j.toNat) = _ from hidL hj]
          rfl
        · obtain ⟨j, hj, rfl⟩ := key 400 hp.1 hp.2
          left
          rw [(b7 j hj.1 hj.2).2.2.2.2.1, if_pos hj.2, show cC0 ad r lp (400 + j.toNat) = _ from hidC hj]
          rfl
        · obtain ⟨j, hj, rfl⟩ := key 420 hp.1 hp.2
          left
          rw [(b7 j hj.1 hj.2).2.2.2.2.2.1, if_pos hj.2, show cC0 ad r lp (420 + j.toNat) = _ from hidK hj]
          rfl
        · obtain ⟨j, hj, rfl⟩ := key 440 hp.1 hp.2
          refine Or.inr ⟨6, (j + 1).toNat, _, _, by rw [(b7 j hj.1 hj.2).2.2.2.2.2.2, if_pos hj.2]; rfl, hidW hj, fun i i1 i2 => ?_⟩
          rw [if_pos ⟨i1, i2⟩]
          show Value.ref (ad (500 + (13 * j).toNat + i.toNat)) = Value.ref (ad (500 + (13 * j + i).toNat))
          rw [show 500 + (13 * j).toNat + i.toNat = 500 + (13 * j + i).toNat by omega]
        · obtain ⟨i, j, hij, e⟩ : ∃ i j : Int, (0 ≤ j ∧ j ≤ i ∧ i < 13) ∧ x = 500 + (13 * i + j).toNat := ⟨(((x - 500) / 13 : Nat) : Int), (((x - 500) % 13 : Nat) : Int), by omega, by omega⟩
          left
          rw [e, b8 i j hij.1 hij.2.1 hij.2.2, if_pos hij.2.2, show cC0 ad r lp (500 + (13 * i + j).toNat) = _ from hidX ⟨by omega, hij.2.2⟩ ⟨hij.1, hij.2.1⟩]
      · by_cases hm : 700 ≤ x ∧ x < 765
        · obtain ⟨j, hj, rfl⟩ : ∃ j : Int, (0 ≤ j ∧ j < 65) ∧ x = 700 + j.toNat := ⟨(x : Int) - 700, by omega, by omega⟩
          left
          rw [b4 j hj.1 hj.2, show cC0 ad r lp (700 + j.toNat) = _ from hidM hj]
        · left
          rw [b3 x (by omega) hp hm, cC0_none (by omega) hp hm]
end BWS
