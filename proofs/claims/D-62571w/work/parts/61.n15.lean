/-! cells that are made: worlds that are changed at several places -/
theorem va_uu {α : Type} (f : Nat → α) (i : Nat) (x y : α) : va_up (va_up f i x) i y = va_up f i y := by
  funext z
  by_cases h : z = i
  · rw [h, va_s, va_s]
  · rw [va_n _ _ h, va_n _ _ h, va_n _ _ h]
theorem va_cc {α : Type} (f : Nat → α) {i j : Nat} (x y : α) (h : i ≠ j) : va_up (va_up f i x) j y = va_up (va_up f j y) i x := by
  funext z
  by_cases h1 : z = i
  · rw [h1, va_n _ _ h, va_s, va_s]
  · rw [va_n _ (i := i) _ h1]
    by_cases h2 : z = j
    · rw [h2, va_s, va_s]
    · rw [va_n _ _ h2, va_n _ _ h2, va_n _ _ h1]
theorem gg_congr {lo n : Nat} {f g : Int → Option jE} {rest : Nat → Option jE} (h : ∀ k, 0 ≤ k → k < (n : Int) → f k = g k) : gg lo n f rest = gg lo n g rest := by
  funext i
  unfold gg
  by_cases hc : lo ≤ i ∧ i < lo + n
  · rw [if_pos hc, if_pos hc]
    exact h _ (by omega) (by omega)
  · rw [if_neg hc, if_neg hc]
theorem gg_congr2 {lo n : Nat} {f g : Int → Option jE} {rest rest' : Nat → Option jE} (h : ∀ k, 0 ≤ k → k < (n : Int) → f k = g k) (hr : rest = rest') : gg lo n f rest = gg lo n g rest' := by
  rw [gg_congr h, hr]
section N15
variable {l : Launch} {D : jD} {b : Nat} {w : jW} {ad : Nat → Nat} {r : Nat → Option jE} {lp : Bool} {fd : Int} {nr : Int} {nc : Int} {nd : Int} {mc : Int} {lf : Int → Int} {ln : Int → Int} {bd : Int → Int} {tm : Int → Int} {it : Int → Int → Int} {th : Int → Int → Bool} {my : Int → Int} {lps : Int → Int → Int} {em : Int → Int} {mk : Int → Int → Int} {tr : Int → Int → Int → Int} {wg : Bool} {wr : Value} {we : Int} {wc : Int → Int} {wb : Bool} {vg : Bool} {vr : Value} {ve : Int} {vc : Int → Int} {vb : Bool} {sy : Int → Int} {sf : Int → Int} {so : Int → Int} {st : Int → Int} {sn : Int} {ne : Int → Int} {mt : Int → Int → Bool}
set_option maxHeartbeats 4000000 in
theorem c_Ru_init {c : Nat → Option jE} {i ib : Nat} {p q n y : Int} (hn : 0 ≤ n ∧ n ≤ 3) (hii : i ≠ ib) (hib : c ib = none) : Ct l D b Y_Ru_init { frames := 1, cells := 1, slots := 3, locals := 21 } [Value.ref (ad i), Value.int (iI p), Value.int (iI q), Value.int (iI n), Value.int (iI y)] (ad, va_up c i (some (.inr (3, [Value.int (iI 0), Value.int (iI 0), Value.null])))) (fun v w' => v = none ∧ ∃ ad2, (∀ x, x ≠ ib → ad2 x = ad x) ∧ w' = (ad2, va_up (va_up c i (some (.inr (3, [Value.int (iI p), Value.int (iI q), Value.ref (ad2 ib)])))) ib (some (.inl (0, n.toNat, fun j => Value.int (iI (if 0 ≤ j ∧ j < n then sym y (4 * j) else 0))))))) := by
  refine Ct_of (by decide) (Nat.le_of_ble_eq_true rfl) ?_
  show J l D b Y_Ru_init _ _ (ad, va_up c i (some (.inr (3, [Value.int (iI 0), Value.int (iI 0), Value.null])))) 0 0 0 [(0, Value.ref (ad i)), (1, Value.int (iI p)), (2, Value.int (iI q)), (3, Value.int (iI n)), (4, Value.int (iI y))] []
  refine J_aload_n d_Ru_init_0 rfl 0 rfl ?_
  refine J_obj oi_Ru_3 d_Ru_init_1 ⟨Nat.le_of_ble_eq_true rfl, Nat.le_of_ble_eq_true rfl⟩ ?_
  refine J_aload_n d_Ru_init_4 rfl 0 rfl ?_
  refine J_iload_n d_Ru_init_5 rfl 1 rfl ?_
  refine J_put fs_Ru_9 (va_s _ _ _) (Nat.le_of_ble_eq_true rfl) (fun _ h => by cases h; exact Or.inr ⟨rfl, rfl⟩) rfl rfl (va_uu _ _ _ _) d_Ru_init_6 ?_
  refine J_aload_n d_Ru_init_9 rfl 0 rfl ?_
  refine J_iload_n d_Ru_init_10 rfl 2 rfl ?_
  refine J_put fs_Ru_15 (va_s _ _ _) (Nat.le_of_ble_eq_true rfl) (fun _ h => by cases h; exact Or.inr ⟨rfl, rfl⟩) rfl rfl (va_uu _ _ _ _) d_Ru_init_11 ?_
  refine J_aload_n d_Ru_init_14 rfl 0 rfl ?_
  refine J_iload_n d_Ru_init_15 rfl 3 rfl ?_
  refine J.top (show Value.int (iI n) = Value.int (iI ((n.toNat : Nat) : Int)) by rw [show ((n.toNat : Nat) : Int) = n by omega]) ?_
  refine J_newa (i := ib) (t := 0) (N := n.toNat) (f := fun j => Value.int (iI ((fun _ => (0 : Int)) j))) d_Ru_init_16 (by decide) rfl ar_0 (by show va_up c i _ ib = none; rw [va_n _ _ (fun h => hii h.symm)]; exact hib) (by omega) (fun _ => rfl) ⟨Nat.le_of_ble_eq_true rfl, by show 0 + n.toNat ≤ 3; omega⟩ (fun a => ?_)
  obtain ⟨ad2, e2⟩ : ∃ z, z = va_up ad ib a := ⟨_, rfl⟩
  have hag : ∀ x, x ≠ ib → ad2 x = ad x := fun x hx => by rw [e2, va_n _ _ hx]
  have hai : ad i = ad2 i := (hag i hii).symm
  have hab : a = ad2 ib := by rw [e2, va_s]
  show J l D b Y_Ru_init _ _ (va_up ad ib a, va_up (va_up c i (some (.inr (3, [Value.int (iI p), Value.int (iI q), Value.null])))) ib (some (.inl (0, n.toNat, fun j => Value.int (iI ((fun _ => (0 : Int)) j)))))) 1 (0 + n.toNat) 18 [(0, Value.ref (ad i)), (1, Value.int (iI p)), (2, Value.int (iI q)), (3, Value.int (iI n)), (4, Value.int (iI y))] [Value.ref a, Value.ref (ad i)]
  rw [← e2, hai, hab]
  refine J_put (i := i) (c' := va_up (va_up c i (some (.inr (3, [Value.int (iI p), Value.int (iI q), Value.ref (ad2 ib)])))) ib (some (.inl (0, n.toNat, fun j => Value.int (iI ((fun _ => (0 : Int)) j)))))) fs_Ru_18 (show va_up (va_up c i _) ib _ i = _ by rw [va_n _ _ hii, va_s]) (Nat.le_of_ble_eq_true rfl) (fun _ h => by cases h; exact Or.inr ⟨rfl, rfl⟩) rfl rfl (by show va_up (va_up (va_up c i _) ib _) i _ = _; rw [va_cc _ _ _ hii, va_uu, ← va_cc _ _ _ hii]; rfl) d_Ru_init_18 ?_
  show J l D b Y_Ru_init _ _ (ad2, va_up (va_up c i (some (.inr (3, [Value.int (iI p), Value.int (iI q), Value.ref (ad2 ib)])))) ib (some (.inl (0, n.toNat, fun j => Value.int (iI ((fun _ => (0 : Int)) j)))))) 1 (0 + n.toNat) 21 [(0, Value.ref (ad2 i)), (1, Value.int (iI p)), (2, Value.int (iI q)), (3, Value.int (iI n)), (4, Value.int (iI y))] []
  refine J_iconst d_Ru_init_21 ?_
  refine J_istore d_Ru_init_22 (by decide) rfl ?_
  refine J.loop (σ := Int × (Int → Int)) (fun xx_ => match xx_ with | (k, f) => (0 ≤ k ∧ k ≤ n) ∧ (f = fun j => if 0 ≤ j ∧ j < k then sym y (4 * j) else 0)) (fun xx_ => match xx_ with | (k, f) => (n - k).toNat) (ws := fun xx_ => match xx_ with | (k, f) => (ad2, va_up (va_up c i (some (.inr (3, [Value.int (iI p), Value.int (iI q), Value.ref (ad2 ib)])))) ib (some (.inl (0, n.toNat, fun j => Value.int (iI (f j))))))) (ks := fun _ => 1) (ns := fun _ => (0 + n.toNat)) (lvs := fun xx_ => match xx_ with | (k, f) => [(5, Value.int (iI k)), (0, Value.ref (ad2 i)), (1, Value.int (iI p)), (2, Value.int (iI q)), (3, Value.int (iI n)), (4, Value.int (iI y))]) (sts := fun _ => []) ?_ (0, fun _ => (0 : Int)) ?_
  · rintro ⟨k, f⟩ hI ih1
    have hI : (0 ≤ k ∧ k ≤ n) ∧ (f = fun j => if 0 ≤ j ∧ j < k then sym y (4 * j) else 0) := hI
    obtain ⟨hk, hf⟩ := hI
    show J l D b Y_Ru_init _ _ (ad2, va_up (va_up c i (some (.inr (3, [Value.int (iI p), Value.int (iI q), Value.ref (ad2 ib)])))) ib (some (.inl (0, n.toNat, fun j => Value.int (iI (f j)))))) 1 (0 + n.toNat) 24 [(5, Value.int (iI k)), (0, Value.ref (ad2 i)), (1, Value.int (iI p)), (2, Value.int (iI q)), (3, Value.int (iI n)), (4, Value.int (iI y))] []
    refine J_iload d_Ru_init_24 0 rfl ?_
    refine J_iload_n d_Ru_init_26 rfl 4 rfl ?_
    refine J_icmp_ge (tgt := 53) d_Ru_init_27 rfl (by omega) (by omega) (fun h27_2 => ?_) (fun h27_2 => ?_)
    · refine J_vret rfl d_Ru_init_53 ⟨Nat.le_refl _, by show 0 + n.toNat ≤ 3; omega⟩ ?_
      rw [hf, show k = n by omega]
      exact ⟨rfl, ad2, hag, rfl⟩
    · refine J_aload_n d_Ru_init_30 rfl 1 rfl ?_
      refine J_get fs_Ru_18 (show va_up (va_up c i _) ib _ i = _ by rw [va_n _ _ hii, va_s]) rfl d_Ru_init_31 ?_
      refine J_iload d_Ru_init_34 0 rfl ?_
      refine J_iload d_Ru_init_36 5 rfl ?_
      refine J_iconst d_Ru_init_38 ?_
      refine J_iload d_Ru_init_39 0 rfl ?_
      refine J_imul d_Ru_init_41 ?_
      refine J_ishr d_Ru_init_42 rfl ?_
      refine J_bipush d_Ru_init_43 (by decide) ?_
      refine J_iand d_Ru_init_45 (sym_eq _ _) ?_
      refine J_iast (show va_up (va_up c i _) ib _ ib = _ by rw [va_s]) (by omega) (by omega) (va_uu _ _ _ _) d_Ru_init_46 ?_
      refine J_iinc (j := 0) d_Ru_init_47 rfl (by decide) rfl ?_
      refine J_goto (tgt := 24) d_Ru_init_50 rfl ?_
      exact ih1 (k + 1, upI f k (sym y (4 * k))) (show (0 ≤ (k + 1) ∧ (k + 1) ≤ n) ∧ ((upI f k (sym y (4 * k))) = fun j => if 0 ≤ j ∧ j < (k + 1) then sym y (4 * j) else 0) by
          refine ⟨by omega, ?_⟩
          funext j
          rw [upI_ap, hf]
          by_cases hj : j = k
          · rw [if_pos hj, if_pos (by omega), hj]
          · rw [if_neg hj]
            show (if 0 ≤ j ∧ j < k then sym y (4 * j) else 0) = _
            by_cases hj2 : 0 ≤ j ∧ j < k
            · rw [if_pos hj2, if_pos (by omega)]
            · rw [if_neg hj2, if_neg (by omega)]) (show ((n - (k + 1)).toNat) < ((n - k).toNat) by
          omega)
  · show (0 ≤ (0 : Int) ∧ (0 : Int) ≤ n) ∧ ((fun _ => (0 : Int)) = fun j => if 0 ≤ j ∧ j < (0 : Int) then sym y (4 * j) else 0)
    refine ⟨by omega, ?_⟩
    funext j
    rw [if_neg (by omega)]
end N15
