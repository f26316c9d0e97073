/-! the component's world: its cells from 100 on; those below are r's -/
theorem va_s {α : Type} (f : Nat → α) (i : Nat) (v : α) : va_up f i v i = v := if_pos rfl
theorem va_n {α : Type} (f : Nat → α) {i j : Nat} (v : α) (h : j ≠ i) : va_up f i v j = f j := if_neg h
/-- a family of cells -/
def gg (lo n : Nat) (f : Int → Option jE) (rest : Nat → Option jE) (i : Nat) : Option jE := if lo ≤ i ∧ i < lo + n then f ((i : Int) - (lo : Int)) else rest i
section GG
variable {lo n : Nat} {f : Int → Option jE} {rest : Nat → Option jE} {i : Nat} {e : Option jE} {k : Int}
theorem gg_in (h : 0 ≤ k ∧ k < n) : gg lo n f rest (lo + k.toNat) = f k := by
  unfold gg
  rw [if_pos (by omega), show ((lo + k.toNat : Nat) : Int) - (lo : Int) = k by omega]
theorem gg_out (h : ¬ (lo ≤ i ∧ i < lo + n)) : gg lo n f rest i = rest i := if_neg h
theorem gg_up (h : 0 ≤ k ∧ k < n) : va_up (gg lo n f rest) (lo + k.toNat) e = gg lo n (upI f k e) rest := by
  funext i
  by_cases hi : i = lo + k.toNat
  · subst hi
    rw [va_s, gg_in h, upI_self]
  · rw [va_n _ _ hi]
    unfold gg
    by_cases hc : lo ≤ i ∧ i < lo + n
    · rw [if_pos hc, if_pos hc, upI_ne _ _ (by omega)]
    · rw [if_neg hc, if_neg hc]
theorem gg_skip (h : ¬ (lo ≤ i ∧ i < lo + n)) : va_up (gg lo n f rest) i e = gg lo n f (va_up rest i e) := by
  funext x
  by_cases hx : x = i
  · subst hx
    rw [va_s, gg_out h, va_s]
  · rw [va_n _ _ hx]
    unfold gg
    split
    · rfl
    · rw [va_n _ _ hx]
end GG
/-- the low cells, the 19 fixed ones, the families -/
def cK (r F G : Nat → Option jE) (i : Nat) : Option jE := if i < 100 then r i else if i < 119 then F (i - 100) else G i
theorem cK_F {r F G : Nat → Option jE} {e : Option jE} {n : Nat} (h : n < 19) : va_up (cK r F G) (100 + n) e = cK r (va_up F n e) G := by
  funext x
  by_cases hx : x = 100 + n
  · subst hx
    rw [va_s]
    unfold cK
    rw [if_neg (by omega), if_pos (by omega), show 100 + n - 100 = n by omega, va_s]
  · rw [va_n _ _ hx]
    unfold cK
    by_cases h1 : x < 100
    · rw [if_pos h1, if_pos h1]
    · rw [if_neg h1, if_neg h1]
      by_cases h2 : x < 119
      · rw [if_pos h2, if_pos h2, va_n _ _ (by omega)]
      · rw [if_neg h2, if_neg h2]
theorem cK_G {r F G : Nat → Option jE} {e : Option jE} {n : Nat} (h : 119 ≤ n) : va_up (cK r F G) n e = cK r F (va_up G n e) := by
  funext x
  by_cases hx : x = n
  · subst hx
    rw [va_s]
    unfold cK
    rw [if_neg (by omega), if_neg (by omega), va_s]
  · rw [va_n _ _ hx]
    unfold cK
    rw [va_n _ _ hx]
theorem cK_r {r F G : Nat → Option jE} {e : Option jE} {n : Nat} (h : n < 100) : va_up (cK r F G) n e = cK (va_up r n e) F G := by
  funext x
  by_cases hx : x = n
  · subst hx
    rw [va_s]
    unfold cK
    rw [if_pos h, va_s]
  · rw [va_n _ _ hx]
    unfold cK
    rw [va_n _ _ hx]
/-- the word of a set of numbers, 64 to a word -/
def wd (f : Int → Bool) (j : Int) : Int64 := Int64.ofBitVec (BitVec.iunfoldr (fun (i : Fin 64) (_ : Unit) => ((), f (64 * j + (i.val : Int)))) ()).2
/-- a rule's body -/
def bq (ln bd : Int → Int) (k j : Int) : Int := if 0 ≤ j ∧ j < ln k then bd (3 * k + j) else 0
abbrev idR (k : Int) : Nat := 200 + k.toNat
abbrev idB (k : Int) : Nat := 220 + k.toNat
abbrev idS (k : Int) : Nat := 300 + k.toNat
abbrev idI (k : Int) : Nat := 320 + k.toNat
abbrev idT (k : Int) : Nat := 340 + k.toNat
abbrev idL (k : Int) : Nat := 360 + k.toNat
abbrev idC (k : Int) : Nat := 400 + k.toNat
abbrev idK (k : Int) : Nat := 420 + k.toNat
abbrev idW (k : Int) : Nat := 440 + k.toNat
abbrev idM (k : Int) : Nat := 700 + k.toNat
abbrev idX (k j : Int) : Nat := 500 + (13 * k + j).toNat
/-- a walker's forest and rule: null until it has begun -/
def wf (ad : Nat → Nat) (g : Bool) : Value := if g = true then .ref (ad 100) else .null
/-- the list's array -/
def elD (ad : Nat → Nat) (nd j : Int) : Value := if 0 ≤ j ∧ j < nd then .ref (ad (idR j)) else .null
def fR (ad : Nat → Nat) (nc : Int) (lf : Int → Int) (k : Int) : Option jE := if k < nc then some (.inr (3, [Value.int (iI k), Value.int (iI (lf k)), Value.ref (ad (idB k))])) else none
def fB (ad : Nat → Nat) (nc : Int) (ln : Int → Int) (bd : Int → Int) (k : Int) : Option jE := if k < nc then some (.inl (0, (ln k).toNat, fun j => Value.int (iI (bq ln bd k j)))) else none
def fS (ad : Nat → Nat) (my : Int → Int) (em : Int → Int) (k : Int) : Option jE := some (.inr (2, [Value.ref (ad (idI k)), Value.ref (ad (idT k)), Value.int (iI (my k)), Value.ref (ad (idL k)), Value.int (iI (em k))]))
def fI (ad : Nat → Nat) (it : Int → Int → Int) (k : Int) : Option jE := some (.inl (2, 572, fun j => Value.int (iI (it k j))))
def fT (ad : Nat → Nat) (th : Int → Int → Bool) (k : Int) : Option jE := some (.inl (1, 9, fun j => Value.long (wd (th k) j)))
def fL (ad : Nat → Nat) (lps : Int → Int → Int) (k : Int) : Option jE := some (.inl (0, 5, fun j => Value.int (iI (lps k j))))
def fC (ad : Nat → Nat)  (k : Int) : Option jE := some (.inr (1, [Value.ref (ad (idK k)), Value.ref (ad (idW k))]))
def fK (ad : Nat → Nat) (mk : Int → Int → Int) (k : Int) : Option jE := some (.inl (0, (k + 1).toNat, fun j => Value.int (iI (mk k j))))
def fW (ad : Nat → Nat)  (k : Int) : Option jE := some (.inl (6, (k + 1).toNat, fun j => Value.ref (ad (idX k j))))
def fX (ad : Nat → Nat) (tr : Int → Int → Int → Int) (k : Int) : Option jE := if k % 13 ≤ k / 13 then some (.inl (1, 5, fun j => Value.long (iL (tr (k / 13) (k % 13) j)))) else none
def fM (ad : Nat → Nat) (mt : Int → Int → Bool) (k : Int) : Option jE := some (.inl (3, 13, fun j => Value.int (iI (bz (mt k j)))))
def cF (ad : Nat → Nat) (lp : Bool) (fd : Int) (nr : Int) (mc : Int) (nd : Int) (tm : Int → Int) (wg : Bool) (wr : Value) (we : Int) (wb : Bool) (wc : Int → Int) (vg : Bool) (vr : Value) (ve : Int) (vb : Bool) (vc : Int → Int) (sn : Int) (sy : Int → Int) (sf : Int → Int) (so : Int → Int) (st : Int → Int) (ne : Int → Int) : Nat → Option jE
  | 0 => some (.inr (0, [Value.int (iI (bz lp)), Value.ref (ad 101), Value.ref (ad 103), Value.ref (ad 105), Value.ref (ad 106), Value.int (iI fd), Value.ref (ad 107), Value.ref (ad 108), Value.ref (ad 110), Value.ref (ad 112), Value.ref (ad 117), Value.ref (ad 118)]))
  | 1 => some (.inr (3, [Value.int (iI (-1)), Value.int (iI (-1)), Value.ref (ad 102)]))
  | 2 => some (.inl (0, 1, fun j => Value.int (iI ((fun _ => (0 : Int)) j))))
  | 3 => some (.inr (7, [Value.ref (ad 104), Value.int (iI nr), Value.int (iI mc)]))
  | 4 => some (.inl (8, 10, fun j => elD ad nd j))
  | 5 => some (.inl (4, 13, fun j => Value.ref (ad (idS j))))
  | 6 => some (.inl (0, 12, fun j => Value.int (iI (tm j))))
  | 7 => some (.inl (5, 13, fun j => Value.ref (ad (idC j))))
  | 8 => some (.inr (5, [wf ad wg, wr, Value.int (iI we), Value.ref (ad 109), Value.int (iI (bz wb))]))
  | 9 => some (.inl (0, 4, fun j => Value.int (iI (wc j))))
  | 10 => some (.inr (5, [wf ad vg, vr, Value.int (iI ve), Value.ref (ad 111), Value.int (iI (bz vb))]))
  | 11 => some (.inl (0, 4, fun j => Value.int (iI (vc j))))
  | 12 => some (.inr (4, [Value.ref (ad 113), Value.ref (ad 114), Value.ref (ad 115), Value.ref (ad 116), Value.int (iI sn)]))
  | 13 => some (.inl (0, 256, fun j => Value.int (iI (sy j))))
  | 14 => some (.inl (0, 256, fun j => Value.int (iI (sf j))))
  | 15 => some (.inl (0, 256, fun j => Value.int (iI (so j))))
  | 16 => some (.inl (1, 256, fun j => Value.long (iL (st j))))
  | 17 => some (.inl (0, 5, fun j => Value.int (iI (ne j))))
  | 18 => some (.inl (7, 65, fun j => Value.ref (ad (idM j))))
  | _ => none
def cG (ad : Nat → Nat) (nc : Int) (lf : Int → Int) (ln : Int → Int) (bd : Int → Int) (my : Int → Int) (em : Int → Int) (it : Int → Int → Int) (th : Int → Int → Bool) (lps : Int → Int → Int) (mk : Int → Int → Int) (tr : Int → Int → Int → Int) (mt : Int → Int → Bool) : Nat → Option jE := gg 200 10 (fR ad nc lf) (gg 220 10 (fB ad nc ln bd) (gg 300 13 (fS ad my em) (gg 320 13 (fI ad it) (gg 340 13 (fT ad th) (gg 360 13 (fL ad lps) (gg 400 13 (fC ad) (gg 420 13 (fK ad mk) (gg 440 13 (fW ad) (gg 500 169 (fX ad tr) (gg 700 65 (fM ad mt) (fun _ => none)))))))))))
def cC (ad : Nat → Nat) (r : Nat → Option jE) (lp : Bool) (fd : Int) (nr : Int) (nc : Int) (nd : Int) (mc : Int) (lf : Int → Int) (ln : Int → Int) (bd : Int → Int) (tm : Int → Int) (it : Int → Int → Int) (th : Int → Int → Bool) (my : Int → Int) (lps : Int → Int → Int) (em : Int → Int) (mk : Int → Int → Int) (tr : Int → Int → Int → Int) (wg : Bool) (wr : Value) (we : Int) (wc : Int → Int) (wb : Bool) (vg : Bool) (vr : Value) (ve : Int) (vc : Int → Int) (vb : Bool) (sy : Int → Int) (sf : Int → Int) (so : Int → Int) (st : Int → Int) (sn : Int) (ne : Int → Int) (mt : Int → Int → Bool) : Nat → Option jE := cK r (cF ad lp fd nr mc nd tm wg wr we wb wc vg vr ve vb vc sn sy sf so st ne) (cG ad nc lf ln bd my em it th lps mk tr mt)
section HC
variable {ad : Nat → Nat} {r : Nat → Option jE} {lp : Bool} {fd : Int} {nr : Int} {nc : Int} {nd : Int} {mc : Int} {lf : Int → Int} {ln : Int → Int} {bd : Int → Int} {tm : Int → Int} {it : Int → Int → Int} {th : Int → Int → Bool} {my : Int → Int} {lps : Int → Int → Int} {em : Int → Int} {mk : Int → Int → Int} {tr : Int → Int → Int → Int} {wg : Bool} {wr : Value} {we : Int} {wc : Int → Int} {wb : Bool} {vg : Bool} {vr : Value} {ve : Int} {vc : Int → Int} {vb : Bool} {sy : Int → Int} {sf : Int → Int} {so : Int → Int} {st : Int → Int} {sn : Int} {ne : Int → Int} {mt : Int → Int → Bool} {k j : Int}
theorem hidR (h : 0 ≤ k ∧ k < 10) (h2 : k < nc) : cC ad r lp fd nr nc nd mc lf ln bd tm it th my lps em mk tr wg wr we wc wb vg vr ve vc vb sy sf so st sn ne mt (200 + k.toNat) = some (.inr (3, [Value.int (iI k), Value.int (iI (lf k)), Value.ref (ad (idB k))])) := by
  unfold cC cG cK
  rw [if_neg (by omega), if_neg (by omega), gg_in (by omega)]
  exact if_pos h2
theorem hidB (h : 0 ≤ k ∧ k < 10) (h2 : k < nc) : cC ad r lp fd nr nc nd mc lf ln bd tm it th my lps em mk tr wg wr we wc wb vg vr ve vc vb sy sf so st sn ne mt (220 + k.toNat) = some (.inl (0, (ln k).toNat, fun j => Value.int (iI (bq ln bd k j)))) := by
  unfold cC cG cK
  rw [if_neg (by omega), if_neg (by omega), gg_out (by omega), gg_in (by omega)]
  exact if_pos h2
theorem hidS (h : 0 ≤ k ∧ k < 13) : cC ad r lp fd nr nc nd mc lf ln bd tm it th my lps em mk tr wg wr we wc wb vg vr ve vc vb sy sf so st sn ne mt (300 + k.toNat) = some (.inr (2, [Value.ref (ad (idI k)), Value.ref (ad (idT k)), Value.int (iI (my k)), Value.ref (ad (idL k)), Value.int (iI (em k))])) := by
  unfold cC cG cK
  rw [if_neg (by omega), if_neg (by omega), gg_out (by omega), gg_out (by omega), gg_in (by omega)]
  rfl
theorem uidS_my {x : Int} (h : 0 ≤ k ∧ k < 13) : va_up (cC ad r lp fd nr nc nd mc lf ln bd tm it th my lps em mk tr wg wr we wc wb vg vr ve vc vb sy sf so st sn ne mt) (300 + k.toNat) (some (.inr (2, [Value.ref (ad (idI k)), Value.ref (ad (idT k)), Value.int (iI (x)), Value.ref (ad (idL k)), Value.int (iI (em k))]))) = cC ad r lp fd nr nc nd mc lf ln bd tm it th (upI my k x) lps em mk tr wg wr we wc wb vg vr ve vc vb sy sf so st sn ne mt := by
  unfold cC cG
  rw [cK_G (by omega), gg_skip (by omega), gg_skip (by omega), gg_up (by omega)]
  congr 1
  congr
  funext y
  unfold upI fS
  by_cases hy : y = k
  · subst hy
    simp
  · simp [hy]
theorem uidS_em {x : Int} (h : 0 ≤ k ∧ k < 13) : va_up (cC ad r lp fd nr nc nd mc lf ln bd tm it th my lps em mk tr wg wr we wc wb vg vr ve vc vb sy sf so st sn ne mt) (300 + k.toNat) (some (.inr (2, [Value.ref (ad (idI k)), Value.ref (ad (idT k)), Value.int (iI (my k)), Value.ref (ad (idL k)), Value.int (iI (x))]))) = cC ad r lp fd nr nc nd mc lf ln bd tm it th my lps (upI em k x) mk tr wg wr we wc wb vg vr ve vc vb sy sf so st sn ne mt := by
  unfold cC cG
  rw [cK_G (by omega), gg_skip (by omega), gg_skip (by omega), gg_up (by omega)]
  congr 1
  congr
  funext y
  unfold upI fS
  by_cases hy : y = k
  · subst hy
    simp
  · simp [hy]
theorem hidI (h : 0 ≤ k ∧ k < 13) : cC ad r lp fd nr nc nd mc lf ln bd tm it th my lps em mk tr wg wr we wc wb vg vr ve vc vb sy sf so st sn ne mt (320 + k.toNat) = some (.inl (2, 572, fun j => Value.int (iI (it k j)))) := by
  unfold cC cG cK
  rw [if_neg (by omega), if_neg (by omega), gg_out (by omega), gg_out (by omega), gg_out (by omega), gg_in (by omega)]
  rfl
theorem uidI_it {x : Int → Int} (h : 0 ≤ k ∧ k < 13) : va_up (cC ad r lp fd nr nc nd mc lf ln bd tm it th my lps em mk tr wg wr we wc wb vg vr ve vc vb sy sf so st sn ne mt) (320 + k.toNat) (some (.inl (2, 572, fun j => Value.int (iI (x j))))) = cC ad r lp fd nr nc nd mc lf ln bd tm (upI it k x) th my lps em mk tr wg wr we wc wb vg vr ve vc vb sy sf so st sn ne mt := by
  unfold cC cG
  rw [cK_G (by omega), gg_skip (by omega), gg_skip (by omega), gg_skip (by omega), gg_up (by omega)]
  congr 1
  congr
  funext y
  unfold upI fI
  by_cases hy : y = k
  · subst hy
    simp
  · simp [hy]
theorem hidT (h : 0 ≤ k ∧ k < 13) : cC ad r lp fd nr nc nd mc lf ln bd tm it th my lps em mk tr wg wr we wc wb vg vr ve vc vb sy sf so st sn ne mt (340 + k.toNat) = some (.inl (1, 9, fun j => Value.long (wd (th k) j))) := by
  unfold cC cG cK
  rw [if_neg (by omega), if_neg (by omega), gg_out (by omega), gg_out (by omega), gg_out (by omega), gg_out (by omega), gg_in (by omega)]
  rfl
theorem uidT_th {x : Int → Bool} (h : 0 ≤ k ∧ k < 13) : va_up (cC ad r lp fd nr nc nd mc lf ln bd tm it th my lps em mk tr wg wr we wc wb vg vr ve vc vb sy sf so st sn ne mt) (340 + k.toNat) (some (.inl (1, 9, fun j => Value.long (wd (x) j)))) = cC ad r lp fd nr nc nd mc lf ln bd tm it (upI th k x) my lps em mk tr wg wr we wc wb vg vr ve vc vb sy sf so st sn ne mt := by
  unfold cC cG
  rw [cK_G (by omega), gg_skip (by omega), gg_skip (by omega), gg_skip (by omega), gg_skip (by omega), gg_up (by omega)]
  congr 1
  congr
  funext y
  unfold upI fT
  by_cases hy : y = k
  · subst hy
    simp
  · simp [hy]
theorem hidL (h : 0 ≤ k ∧ k < 13) : cC ad r lp fd nr nc nd mc lf ln bd tm it th my lps em mk tr wg wr we wc wb vg vr ve vc vb sy sf so st sn ne mt (360 + k.toNat) = some (.inl (0, 5, fun j => Value.int (iI (lps k j)))) := by
  unfold cC cG cK
  rw [if_neg (by omega), if_neg (by omega), gg_out (by omega), gg_out (by omega), gg_out (by omega), gg_out (by omega), gg_out (by omega), gg_in (by omega)]
  rfl
theorem uidL_lps {x : Int → Int} (h : 0 ≤ k ∧ k < 13) : va_up (cC ad r lp fd nr nc nd mc lf ln bd tm it th my lps em mk tr wg wr we wc wb vg vr ve vc vb sy sf so st sn ne mt) (360 + k.toNat) (some (.inl (0, 5, fun j => Value.int (iI (x j))))) = cC ad r lp fd nr nc nd mc lf ln bd tm it th my (upI lps k x) em mk tr wg wr we wc wb vg vr ve vc vb sy sf so st sn ne mt := by
  unfold cC cG
  rw [cK_G (by omega), gg_skip (by omega), gg_skip (by omega), gg_skip (by omega), gg_skip (by omega), gg_skip (by omega), gg_up (by omega)]
  congr 1
  congr
  funext y
  unfold upI fL
  by_cases hy : y = k
  · subst hy
    simp
  · simp [hy]
theorem hidC (h : 0 ≤ k ∧ k < 13) : cC ad r lp fd nr nc nd mc lf ln bd tm it th my lps em mk tr wg wr we wc wb vg vr ve vc vb sy sf so st sn ne mt (400 + k.toNat) = some (.inr (1, [Value.ref (ad (idK k)), Value.ref (ad (idW k))])) := by
  unfold cC cG cK
  rw [if_neg (by omega), if_neg (by omega), gg_out (by omega), gg_out (by omega), gg_out (by omega), gg_out (by omega), gg_out (by omega), gg_out (by omega), gg_in (by omega)]
  rfl
theorem hidK (h : 0 ≤ k ∧ k < 13) : cC ad r lp fd nr nc nd mc lf ln bd tm it th my lps em mk tr wg wr we wc wb vg vr ve vc vb sy sf so st sn ne mt (420 + k.toNat) = some (.inl (0, (k + 1).toNat, fun j => Value.int (iI (mk k j)))) := by
  unfold cC cG cK
  rw [if_neg (by omega), if_neg (by omega), gg_out (by omega), gg_out (by omega), gg_out (by omega), gg_out (by omega), gg_out (by omega), gg_out (by omega), gg_out (by omega), gg_in (by omega)]
  rfl
theorem uidK_mk {x : Int → Int} (h : 0 ≤ k ∧ k < 13) : va_up (cC ad r lp fd nr nc nd mc lf ln bd tm it th my lps em mk tr wg wr we wc wb vg vr ve vc vb sy sf so st sn ne mt) (420 + k.toNat) (some (.inl (0, (k + 1).toNat, fun j => Value.int (iI (x j))))) = cC ad r lp fd nr nc nd mc lf ln bd tm it th my lps em (upI mk k x) tr wg wr we wc wb vg vr ve vc vb sy sf so st sn ne mt := by
  unfold cC cG
  rw [cK_G (by omega), gg_skip (by omega), gg_skip (by omega), gg_skip (by omega), gg_skip (by omega), gg_skip (by omega), gg_skip (by omega), gg_skip (by omega), gg_up (by omega)]
  congr 1
  congr
  funext y
  unfold upI fK
  by_cases hy : y = k
  · subst hy
    simp
  · simp [hy]
theorem hidW (h : 0 ≤ k ∧ k < 13) : cC ad r lp fd nr nc nd mc lf ln bd tm it th my lps em mk tr wg wr we wc wb vg vr ve vc vb sy sf so st sn ne mt (440 + k.toNat) = some (.inl (6, (k + 1).toNat, fun j => Value.ref (ad (idX k j)))) := by
  unfold cC cG cK
  rw [if_neg (by omega), if_neg (by omega), gg_out (by omega), gg_out (by omega), gg_out (by omega), gg_out (by omega), gg_out (by omega), gg_out (by omega), gg_out (by omega), gg_out (by omega), gg_in (by omega)]
  rfl
theorem hidM (h : 0 ≤ k ∧ k < 65) : cC ad r lp fd nr nc nd mc lf ln bd tm it th my lps em mk tr wg wr we wc wb vg vr ve vc vb sy sf so st sn ne mt (700 + k.toNat) = some (.inl (3, 13, fun j => Value.int (iI (bz (mt k j))))) := by
  unfold cC cG cK
  rw [if_neg (by omega), if_neg (by omega), gg_out (by omega), gg_out (by omega), gg_out (by omega), gg_out (by omega), gg_out (by omega), gg_out (by omega), gg_out (by omega), gg_out (by omega), gg_out (by omega), gg_out (by omega), gg_in (by omega)]
  rfl
theorem uidM_mt {x : Int → Bool} (h : 0 ≤ k ∧ k < 65) : va_up (cC ad r lp fd nr nc nd mc lf ln bd tm it th my lps em mk tr wg wr we wc wb vg vr ve vc vb sy sf so st sn ne mt) (700 + k.toNat) (some (.inl (3, 13, fun j => Value.int (iI (bz (x j)))))) = cC ad r lp fd nr nc nd mc lf ln bd tm it th my lps em mk tr wg wr we wc wb vg vr ve vc vb sy sf so st sn ne (upI mt k x) := by
  unfold cC cG
  rw [cK_G (by omega), gg_skip (by omega), gg_skip (by omega), gg_skip (by omega), gg_skip (by omega), gg_skip (by omega), gg_skip (by omega), gg_skip (by omega), gg_skip (by omega), gg_skip (by omega), gg_skip (by omega), gg_up (by omega)]
  congr 1
  congr
  funext y
  unfold upI fM
  by_cases hy : y = k
  · subst hy
    simp
  · simp [hy]
theorem hidX (h : 0 ≤ k ∧ k < 13) (h2 : 0 ≤ j ∧ j ≤ k) : cC ad r lp fd nr nc nd mc lf ln bd tm it th my lps em mk tr wg wr we wc wb vg vr ve vc vb sy sf so st sn ne mt (500 + (13 * k + j).toNat) = some (.inl (1, 5, fun x => Value.long (iL (tr k j x)))) := by
  unfold cC cG cK
  rw [if_neg (by omega), if_neg (by omega), gg_out (by omega), gg_out (by omega), gg_out (by omega), gg_out (by omega), gg_out (by omega), gg_out (by omega), gg_out (by omega), gg_out (by omega), gg_out (by omega), gg_in (by omega)]
  unfold fX
  rw [show (13 * k + j) / 13 = k by omega, show (13 * k + j) % 13 = j by omega]
  exact if_pos (by omega)
theorem uidX_tr {x : Int → Int} (h : 0 ≤ k ∧ k < 13) (h2 : 0 ≤ j ∧ j ≤ k) : va_up (cC ad r lp fd nr nc nd mc lf ln bd tm it th my lps em mk tr wg wr we wc wb vg vr ve vc vb sy sf so st sn ne mt) (500 + (13 * k + j).toNat) (some (.inl (1, 5, fun y => Value.long (iL (x y))))) = cC ad r lp fd nr nc nd mc lf ln bd tm it th my lps em mk (upI tr k (upI (tr k) j x)) wg wr we wc wb vg vr ve vc vb sy sf so st sn ne mt := by
  unfold cC cG
  rw [cK_G (by omega), gg_skip (by omega), gg_skip (by omega), gg_skip (by omega), gg_skip (by omega), gg_skip (by omega), gg_skip (by omega), gg_skip (by omega), gg_skip (by omega), gg_skip (by omega), gg_up (by omega)]
  congr
  funext y
  unfold upI fX
  by_cases hy : y = 13 * k + j
  · subst hy
    rw [if_pos rfl, show (13 * k + j) / 13 = k by omega, show (13 * k + j) % 13 = j by omega, if_pos (by omega)]
    simp
  · rw [if_neg hy]
    by_cases h3 : y % 13 ≤ y / 13
    · rw [if_pos h3, if_pos h3]
      by_cases h4 : y / 13 = k
      · simp [h4, show ¬ y % 13 = j by omega]
      · simp [h4]
    · rw [if_neg h3, if_neg h3]
theorem h_100 : cC ad r lp fd nr nc nd mc lf ln bd tm it th my lps em mk tr wg wr we wc wb vg vr ve vc vb sy sf so st sn ne mt 100 = some (.inr (0, [Value.int (iI (bz lp)), Value.ref (ad 101), Value.ref (ad 103), Value.ref (ad 105), Value.ref (ad 106), Value.int (iI fd), Value.ref (ad 107), Value.ref (ad 108), Value.ref (ad 110), Value.ref (ad 112), Value.ref (ad 117), Value.ref (ad 118)])) := rfl
theorem u_100 {lp' : Bool} {fd' : Int} : va_up (cC ad r lp fd nr nc nd mc lf ln bd tm it th my lps em mk tr wg wr we wc wb vg vr ve vc vb sy sf so st sn ne mt) 100 (some (.inr (0, [Value.int (iI (bz lp')), Value.ref (ad 101), Value.ref (ad 103), Value.ref (ad 105), Value.ref (ad 106), Value.int (iI fd'), Value.ref (ad 107), Value.ref (ad 108), Value.ref (ad 110), Value.ref (ad 112), Value.ref (ad 117), Value.ref (ad 118)]))) = cC ad r lp' fd' nr nc nd mc lf ln bd tm it th my lps em mk tr wg wr we wc wb vg vr ve vc vb sy sf so st sn ne mt := by
  unfold cC
  rw [show (100 : Nat) = 100 + 0 from rfl, cK_F (by decide)]
  congr
  funext m
  match m with
  | 0 => rfl
  | 1 => rfl
  | 2 => rfl
  | 3 => rfl
  | 4 => rfl
  | 5 => rfl
  | 6 => rfl
  | 7 => rfl
  | 8 => rfl
  | 9 => rfl
  | 10 => rfl
  | 11 => rfl
  | 12 => rfl
  | 13 => rfl
  | 14 => rfl
  | 15 => rfl
  | 16 => rfl
  | 17 => rfl
  | 18 => rfl
  | m + 19 => rfl
theorem h_101 : cC ad r lp fd nr nc nd mc lf ln bd tm it th my lps em mk tr wg wr we wc wb vg vr ve vc vb sy sf so st sn ne mt 101 = some (.inr (3, [Value.int (iI (-1)), Value.int (iI (-1)), Value.ref (ad 102)])) := rfl
theorem h_102 : cC ad r lp fd nr nc nd mc lf ln bd tm it th my lps em mk tr wg wr we wc wb vg vr ve vc vb sy sf so st sn ne mt 102 = some (.inl (0, 1, fun j => Value.int (iI ((fun _ => (0 : Int)) j)))) := rfl
theorem h_103 : cC ad r lp fd nr nc nd mc lf ln bd tm it th my lps em mk tr wg wr we wc wb vg vr ve vc vb sy sf so st sn ne mt 103 = some (.inr (7, [Value.ref (ad 104), Value.int (iI nr), Value.int (iI mc)])) := rfl
theorem u_103 {nr' : Int} {mc' : Int} : va_up (cC ad r lp fd nr nc nd mc lf ln bd tm it th my lps em mk tr wg wr we wc wb vg vr ve vc vb sy sf so st sn ne mt) 103 (some (.inr (7, [Value.ref (ad 104), Value.int (iI nr'), Value.int (iI mc')]))) = cC ad r lp fd nr' nc nd mc' lf ln bd tm it th my lps em mk tr wg wr we wc wb vg vr ve vc vb sy sf so st sn ne mt := by
  unfold cC
  rw [show (103 : Nat) = 100 + 3 from rfl, cK_F (by decide)]
  congr
  funext m
  match m with
  | 0 => rfl
  | 1 => rfl
  | 2 => rfl
  | 3 => rfl
  | 4 => rfl
  | 5 => rfl
  | 6 => rfl
  | 7 => rfl
  | 8 => rfl
  | 9 => rfl
  | 10 => rfl
  | 11 => rfl
  | 12 => rfl
  | 13 => rfl
  | 14 => rfl
  | 15 => rfl
  | 16 => rfl
  | 17 => rfl
  | 18 => rfl
  | m + 19 => rfl
theorem h_104 : cC ad r lp fd nr nc nd mc lf ln bd tm it th my lps em mk tr wg wr we wc wb vg vr ve vc vb sy sf so st sn ne mt 104 = some (.inl (8, 10, fun j => elD ad nd j)) := rfl
theorem h_105 : cC ad r lp fd nr nc nd mc lf ln bd tm it th my lps em mk tr wg wr we wc wb vg vr ve vc vb sy sf so st sn ne mt 105 = some (.inl (4, 13, fun j => Value.ref (ad (idS j)))) := rfl
theorem h_106 : cC ad r lp fd nr nc nd mc lf ln bd tm it th my lps em mk tr wg wr we wc wb vg vr ve vc vb sy sf so st sn ne mt 106 = some (.inl (0, 12, fun j => Value.int (iI (tm j)))) := rfl
theorem u_106 {tm' : Int → Int} : va_up (cC ad r lp fd nr nc nd mc lf ln bd tm it th my lps em mk tr wg wr we wc wb vg vr ve vc vb sy sf so st sn ne mt) 106 (some (.inl (0, 12, fun j => Value.int (iI (tm' j))))) = cC ad r lp fd nr nc nd mc lf ln bd tm' it th my lps em mk tr wg wr we wc wb vg vr ve vc vb sy sf so st sn ne mt := by
  unfold cC
  rw [show (106 : Nat) = 100 + 6 from rfl, cK_F (by decide)]
  congr
  funext m
  match m with
  | 0 => rfl
  | 1 => rfl
  | 2 => rfl
  | 3 => rfl
  | 4 => rfl
  | 5 => rfl
  | 6 => rfl
  | 7 => rfl
  | 8 => rfl
  | 9 => rfl
  | 10 => rfl
  | 11 => rfl
  | 12 => rfl
  | 13 => rfl
  | 14 => rfl
  | 15 => rfl
  | 16 => rfl
  | 17 => rfl
  | 18 => rfl
  | m + 19 => rfl
theorem h_107 : cC ad r lp fd nr nc nd mc lf ln bd tm it th my lps em mk tr wg wr we wc wb vg vr ve vc vb sy sf so st sn ne mt 107 = some (.inl (5, 13, fun j => Value.ref (ad (idC j)))) := rfl
theorem h_108 : cC ad r lp fd nr nc nd mc lf ln bd tm it th my lps em mk tr wg wr we wc wb vg vr ve vc vb sy sf so st sn ne mt 108 = some (.inr (5, [wf ad wg, wr, Value.int (iI we), Value.ref (ad 109), Value.int (iI (bz wb))])) := rfl
theorem u_108 {wg' : Bool} {wr' : Value} {we' : Int} {wb' : Bool} : va_up (cC ad r lp fd nr nc nd mc lf ln bd tm it th my lps em mk tr wg wr we wc wb vg vr ve vc vb sy sf so st sn ne mt) 108 (some (.inr (5, [wf ad wg', wr', Value.int (iI we'), Value.ref (ad 109), Value.int (iI (bz wb'))]))) = cC ad r lp fd nr nc nd mc lf ln bd tm it th my lps em mk tr wg' wr' we' wc wb' vg vr ve vc vb sy sf so st sn ne mt := by
  unfold cC
  rw [show (108 : Nat) = 100 + 8 from rfl, cK_F (by decide)]
  congr
  funext m
  match m with
  | 0 => rfl
  | 1 => rfl
  | 2 => rfl
  | 3 => rfl
  | 4 => rfl
  | 5 => rfl
  | 6 => rfl
  | 7 => rfl
  | 8 => rfl
  | 9 => rfl
  | 10 => rfl
  | 11 => rfl
  | 12 => rfl
  | 13 => rfl
  | 14 => rfl
  | 15 => rfl
  | 16 => rfl
  | 17 => rfl
  | 18 => rfl
  | m + 19 => rfl
theorem h_109 : cC ad r lp fd nr nc nd mc lf ln bd tm it th my lps em mk tr wg wr we wc wb vg vr ve vc vb sy sf so st sn ne mt 109 = some (.inl (0, 4, fun j => Value.int (iI (wc j)))) := rfl
theorem u_109 {wc' : Int → Int} : va_up (cC ad r lp fd nr nc nd mc lf ln bd tm it th my lps em mk tr wg wr we wc wb vg vr ve vc vb sy sf so st sn ne mt) 109 (some (.inl (0, 4, fun j => Value.int (iI (wc' j))))) = cC ad r lp fd nr nc nd mc lf ln bd tm it th my lps em mk tr wg wr we wc' wb vg vr ve vc vb sy sf so st sn ne mt := by
  unfold cC
  rw [show (109 : Nat) = 100 + 9 from rfl, cK_F (by decide)]
  congr
  funext m
  match m with
  | 0 => rfl
  | 1 => rfl
  | 2 => rfl
  | 3 => rfl
  | 4 => rfl
  | 5 => rfl
  | 6 => rfl
  | 7 => rfl
  | 8 => rfl
  | 9 => rfl
  | 10 => rfl
  | 11 => rfl
  | 12 => rfl
  | 13 => rfl
  | 14 => rfl
  | 15 => rfl
  | 16 => rfl
  | 17 => rfl
  | 18 => rfl
  | m + 19 => rfl
theorem h_110 : cC ad r lp fd nr nc nd mc lf ln bd tm it th my lps em mk tr wg wr we wc wb vg vr ve vc vb sy sf so st sn ne mt 110 = some (.inr (5, [wf ad vg, vr, Value.int (iI ve), Value.ref (ad 111), Value.int (iI (bz vb))])) := rfl
theorem u_110 {vg' : Bool} {vr' : Value} {ve' : Int} {vb' : Bool} : va_up (cC ad r lp fd nr nc nd mc lf ln bd tm it th my lps em mk tr wg wr we wc wb vg vr ve vc vb sy sf so st sn ne mt) 110 (some (.inr (5, [wf ad vg', vr', Value.int (iI ve'), Value.ref (ad 111), Value.int (iI (bz vb'))]))) = cC ad r lp fd nr nc nd mc lf ln bd tm it th my lps em mk tr wg wr we wc wb vg' vr' ve' vc vb' sy sf so st sn ne mt := by
  unfold cC
  rw [show (110 : Nat) = 100 + 10 from rfl, cK_F (by decide)]
  congr
  funext m
  match m with
  | 0 => rfl
  | 1 => rfl
  | 2 => rfl
  | 3 => rfl
  | 4 => rfl
  | 5 => rfl
  | 6 => rfl
  | 7 => rfl
  | 8 => rfl
  | 9 => rfl
  | 10 => rfl
  | 11 => rfl
  | 12 => rfl
  | 13 => rfl
  | 14 => rfl
  | 15 => rfl
  | 16 => rfl
  | 17 => rfl
  | 18 => rfl
  | m + 19 => rfl
theorem h_111 : cC ad r lp fd nr nc nd mc lf ln bd tm it th my lps em mk tr wg wr we wc wb vg vr ve vc vb sy sf so st sn ne mt 111 = some (.inl (0, 4, fun j => Value.int (iI (vc j)))) := rfl
theorem u_111 {vc' : Int → Int} : va_up (cC ad r lp fd nr nc nd mc lf ln bd tm it th my lps em mk tr wg wr we wc wb vg vr ve vc vb sy sf so st sn ne mt) 111 (some (.inl (0, 4, fun j => Value.int (iI (vc' j))))) = cC ad r lp fd nr nc nd mc lf ln bd tm it th my lps em mk tr wg wr we wc wb vg vr ve vc' vb sy sf so st sn ne mt := by
  unfold cC
  rw [show (111 : Nat) = 100 + 11 from rfl, cK_F (by decide)]
  congr
  funext m
  match m with
  | 0 => rfl
  | 1 => rfl
  | 2 => rfl
  | 3 => rfl
  | 4 => rfl
  | 5 => rfl
  | 6 => rfl
  | 7 => rfl
  | 8 => rfl
  | 9 => rfl
  | 10 => rfl
  | 11 => rfl
  | 12 => rfl
  | 13 => rfl
  | 14 => rfl
  | 15 => rfl
  | 16 => rfl
  | 17 => rfl
  | 18 => rfl
  | m + 19 => rfl
theorem h_112 : cC ad r lp fd nr nc nd mc lf ln bd tm it th my lps em mk tr wg wr we wc wb vg vr ve vc vb sy sf so st sn ne mt 112 = some (.inr (4, [Value.ref (ad 113), Value.ref (ad 114), Value.ref (ad 115), Value.ref (ad 116), Value.int (iI sn)])) := rfl
theorem u_112 {sn' : Int} : va_up (cC ad r lp fd nr nc nd mc lf ln bd tm it th my lps em mk tr wg wr we wc wb vg vr ve vc vb sy sf so st sn ne mt) 112 (some (.inr (4, [Value.ref (ad 113), Value.ref (ad 114), Value.ref (ad 115), Value.ref (ad 116), Value.int (iI sn')]))) = cC ad r lp fd nr nc nd mc lf ln bd tm it th my lps em mk tr wg wr we wc wb vg vr ve vc vb sy sf so st sn' ne mt := by
  unfold cC
  rw [show (112 : Nat) = 100 + 12 from rfl, cK_F (by decide)]
  congr
  funext m
  match m with
  | 0 => rfl
  | 1 => rfl
  | 2 => rfl
  | 3 => rfl
  | 4 => rfl
  | 5 => rfl
  | 6 => rfl
  | 7 => rfl
  | 8 => rfl
  | 9 => rfl
  | 10 => rfl
  | 11 => rfl
  | 12 => rfl
  | 13 => rfl
  | 14 => rfl
  | 15 => rfl
  | 16 => rfl
  | 17 => rfl
  | 18 => rfl
  | m + 19 => rfl
theorem h_113 : cC ad r lp fd nr nc nd mc lf ln bd tm it th my lps em mk tr wg wr we wc wb vg vr ve vc vb sy sf so st sn ne mt 113 = some (.inl (0, 256, fun j => Value.int (iI (sy j)))) := rfl
theorem u_113 {sy' : Int → Int} : va_up (cC ad r lp fd nr nc nd mc lf ln bd tm it th my lps em mk tr wg wr we wc wb vg vr ve vc vb sy sf so st sn ne mt) 113 (some (.inl (0, 256, fun j => Value.int (iI (sy' j))))) = cC ad r lp fd nr nc nd mc lf ln bd tm it th my lps em mk tr wg wr we wc wb vg vr ve vc vb sy' sf so st sn ne mt := by
  unfold cC
  rw [show (113 : Nat) = 100 + 13 from rfl, cK_F (by decide)]
  congr
  funext m
  match m with
  | 0 => rfl
  | 1 => rfl
  | 2 => rfl
  | 3 => rfl
  | 4 => rfl
  | 5 => rfl
  | 6 => rfl
  | 7 => rfl
  | 8 => rfl
  | 9 => rfl
  | 10 => rfl
  | 11 => rfl
  | 12 => rfl
  | 13 => rfl
  | 14 => rfl
  | 15 => rfl
  | 16 => rfl
  | 17 => rfl
  | 18 => rfl
  | m + 19 => rfl
theorem h_114 : cC ad r lp fd nr nc nd mc lf ln bd tm it th my lps em mk tr wg wr we wc wb vg vr ve vc vb sy sf so st sn ne mt 114 = some (.inl (0, 256, fun j => Value.int (iI (sf j)))) := rfl
theorem u_114 {sf' : Int → Int} : va_up (cC ad r lp fd nr nc nd mc lf ln bd tm it th my lps em mk tr wg wr we wc wb vg vr ve vc vb sy sf so st sn ne mt) 114 (some (.inl (0, 256, fun j => Value.int (iI (sf' j))))) = cC ad r lp fd nr nc nd mc lf ln bd tm it th my lps em mk tr wg wr we wc wb vg vr ve vc vb sy sf' so st sn ne mt := by
  unfold cC
  rw [show (114 : Nat) = 100 + 14 from rfl, cK_F (by decide)]
  congr
  funext m
  match m with
  | 0 => rfl
  | 1 => rfl
  | 2 => rfl
  | 3 => rfl
  | 4 => rfl
  | 5 => rfl
  | 6 => rfl
  | 7 => rfl
  | 8 => rfl
  | 9 => rfl
  | 10 => rfl
  | 11 => rfl
  | 12 => rfl
  | 13 => rfl
  | 14 => rfl
  | 15 => rfl
  | 16 => rfl
  | 17 => rfl
  | 18 => rfl
  | m + 19 => rfl
theorem h_115 : cC ad r lp fd nr nc nd mc lf ln bd tm it th my lps em mk tr wg wr we wc wb vg vr ve vc vb sy sf so st sn ne mt 115 = some (.inl (0, 256, fun j => Value.int (iI (so j)))) := rfl
theorem u_115 {so' : Int → Int} : va_up (cC ad r lp fd nr nc nd mc lf ln bd tm it th my lps em mk tr wg wr we wc wb vg vr ve vc vb sy sf so st sn ne mt) 115 (some (.inl (0, 256, fun j => Value.int (iI (so' j))))) = cC ad r lp fd nr nc nd mc lf ln bd tm it th my lps em mk tr wg wr we wc wb vg vr ve vc vb sy sf so' st sn ne mt := by
  unfold cC
  rw [show (115 : Nat) = 100 + 15 from rfl, cK_F (by decide)]
  congr
  funext m
  match m with
  | 0 => rfl
  | 1 => rfl
  | 2 => rfl
  | 3 => rfl
  | 4 => rfl
  | 5 => rfl
  | 6 => rfl
  | 7 => rfl
  | 8 => rfl
  | 9 => rfl
  | 10 => rfl
  | 11 => rfl
  | 12 => rfl
  | 13 => rfl
  | 14 => rfl
  | 15 => rfl
  | 16 => rfl
  | 17 => rfl
  | 18 => rfl
  | m + 19 => rfl
theorem h_116 : cC ad r lp fd nr nc nd mc lf ln bd tm it th my lps em mk tr wg wr we wc wb vg vr ve vc vb sy sf so st sn ne mt 116 = some (.inl (1, 256, fun j => Value.long (iL (st j)))) := rfl
theorem u_116 {st' : Int → Int} : va_up (cC ad r lp fd nr nc nd mc lf ln bd tm it th my lps em mk tr wg wr we wc wb vg vr ve vc vb sy sf so st sn ne mt) 116 (some (.inl (1, 256, fun j => Value.long (iL (st' j))))) = cC ad r lp fd nr nc nd mc lf ln bd tm it th my lps em mk tr wg wr we wc wb vg vr ve vc vb sy sf so st' sn ne mt := by
  unfold cC
  rw [show (116 : Nat) = 100 + 16 from rfl, cK_F (by decide)]
  congr
  funext m
  match m with
  | 0 => rfl
  | 1 => rfl
  | 2 => rfl
  | 3 => rfl
  | 4 => rfl
  | 5 => rfl
  | 6 => rfl
  | 7 => rfl
  | 8 => rfl
  | 9 => rfl
  | 10 => rfl
  | 11 => rfl
  | 12 => rfl
  | 13 => rfl
  | 14 => rfl
  | 15 => rfl
  | 16 => rfl
  | 17 => rfl
  | 18 => rfl
  | m + 19 => rfl
theorem h_117 : cC ad r lp fd nr nc nd mc lf ln bd tm it th my lps em mk tr wg wr we wc wb vg vr ve vc vb sy sf so st sn ne mt 117 = some (.inl (0, 5, fun j => Value.int (iI (ne j)))) := rfl
theorem u_117 {ne' : Int → Int} : va_up (cC ad r lp fd nr nc nd mc lf ln bd tm it th my lps em mk tr wg wr we wc wb vg vr ve vc vb sy sf so st sn ne mt) 117 (some (.inl (0, 5, fun j => Value.int (iI (ne' j))))) = cC ad r lp fd nr nc nd mc lf ln bd tm it th my lps em mk tr wg wr we wc wb vg vr ve vc vb sy sf so st sn ne' mt := by
  unfold cC
  rw [show (117 : Nat) = 100 + 17 from rfl, cK_F (by decide)]
  congr
  funext m
  match m with
  | 0 => rfl
  | 1 => rfl
  | 2 => rfl
  | 3 => rfl
  | 4 => rfl
  | 5 => rfl
  | 6 => rfl
  | 7 => rfl
  | 8 => rfl
  | 9 => rfl
  | 10 => rfl
  | 11 => rfl
  | 12 => rfl
  | 13 => rfl
  | 14 => rfl
  | 15 => rfl
  | 16 => rfl
  | 17 => rfl
  | 18 => rfl
  | m + 19 => rfl
theorem h_118 : cC ad r lp fd nr nc nd mc lf ln bd tm it th my lps em mk tr wg wr we wc wb vg vr ve vc vb sy sf so st sn ne mt 118 = some (.inl (7, 65, fun j => Value.ref (ad (idM j)))) := rfl
end HC
