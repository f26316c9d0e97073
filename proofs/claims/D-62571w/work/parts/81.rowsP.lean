/-! rows that make cells, told place by place -/
section JP
variable {l : Launch} {D : jD} {b : Nat} {Y : jM} {R : Room} {post : Option Value → jW → Prop} {ad : Nat → Nat} {c : Nat → Option jE} {k n pc : Nat} {lv : List (Nat × Value)} {st : List Value}
theorem P_newa {i t N : Nat} {atype : ArrayType} {f : Int → Value} (hd : decode Y.2.1 pc = .ok (.newarray atype, 2)) (ht : t < 4) (hty : newarray.typeOf atype = jty t) (harr : Cond.arrayClass (jty t) ∈ tb) (hi : c i = none) (hN : N ≤ 100000) (hf : ∀ j, f j = defaultValue (jty t)) (hk : k + 1 ≤ R.cells ∧ n + N ≤ R.slots)
    (kk : ∀ ad1 c1, (∀ x, x ≠ i → ad1 x = ad x ∧ c1 x = c x) → c1 i = some (.inl (t, N, f)) → J l D b Y R post (ad1, c1) (k + 1) (n + N) (pc + 2) lv (.ref (ad1 i) :: st)) : J l D b Y R post (ad, c) k n pc lv (.int (iI (N : Int)) :: st) :=
  J_newa (w := (ad, c)) hd ht hty harr hi hN hf hk (fun a => by
    have h := kk (va_up ad i a) (va_up c i (some (.inl (t, N, f)))) (fun x hx => ⟨va_n _ _ hx, va_n _ _ hx⟩) (va_s _ _ _)
    rw [va_s] at h
    exact h)
theorem P_anew {i t N idx : Nat} {C : String} {f : Int → Value} (hd : decode Y.2.1 pc = .ok (.anewarray idx, 3)) (ht : t < 9) (hty : jty t = .object C) (hcl : Cond.classLink Y.1.cls idx C ∈ tb) (hov : ∀ U : State, jAO U → va_AO C U) (hi : c i = none) (hN : N ≤ 100000) (hf : ∀ j, f j = .null) (hk : k + 1 ≤ R.cells ∧ n + N ≤ R.slots)
    (kk : ∀ ad1 c1, (∀ x, x ≠ i → ad1 x = ad x ∧ c1 x = c x) → c1 i = some (.inl (t, N, f)) → J l D b Y R post (ad1, c1) (k + 1) (n + N) (pc + 3) lv (.ref (ad1 i) :: st)) : J l D b Y R post (ad, c) k n pc lv (.int (iI (N : Int)) :: st) :=
  J_anew (w := (ad, c)) hd ht hty hcl (Or.inr fun args U K => (hov U K.2.2.2.2.2.2).use) hi hN hf hk (fun a => by
    have h := kk (va_up ad i a) (va_up c i (some (.inl (t, N, f)))) (fun x hx => ⟨va_n _ _ hx, va_n _ _ hx⟩) (va_s _ _ _)
    rw [va_s] at h
    exact h)
theorem P_new {i ci idx : Nat} {r : vw_C} {fs : List Value} (hd : decode Y.2.1 pc = .ok (.new idx, 3)) (hr : clz[ci]? = some r) (hcl : Cond.classLink Y.1.cls idx r.1 ∈ tb) (hin : Cond.instantiable r.1 r.2.2 ∈ tb) (hini : Cond.initialized r.1 ∈ tb) (hi : c i = none) (hfs : ∀ j, j < r.2.2 → defaultValue (clt ci j) = vp_V fs j) (hk : k + 1 ≤ R.cells ∧ n + r.2.2 ≤ R.slots)
    (kk : ∀ ad1 c1, (∀ x, x ≠ i → ad1 x = ad x ∧ c1 x = c x) → c1 i = some (.inr (ci, fs)) → J l D b Y R post (ad1, c1) (k + 1) (n + r.2.2) (pc + 3) lv (.ref (ad1 i) :: st)) : J l D b Y R post (ad, c) k n pc lv st :=
  J_new (w := (ad, c)) hd hr hcl hin hini hi hfs hk (fun a => by
    have h := kk (va_up ad i a) (va_up c i (some (.inr (ci, fs)))) (fun x hx => ⟨va_n _ _ hx, va_n _ _ hx⟩) (va_s _ _ _)
    rw [va_s] at h
    exact h)
theorem P_put {i ci kf idx o : Nat} {fs : List Value} {v : Value} (hs : FS Y.1.cls idx ci kf) (ho : ad i = o) (hc : c i = some (.inr (ci, fs))) (hl : kf < fs.length) (hfin : ∀ r : vw_C, clz[ci]? = some r → (r.2.1 kf).2.2.2 = false ∨ (Y.1.name = "<init>" ∧ (r.2.1 kf).1 = Y.1.cls)) (hn : narrow (clt ci kf) v = v) (hfit : fits (clt ci kf) v = true) (hd : decode Y.2.1 pc = .ok (.putfield idx, 3))
    (kk : ∀ c1, (∀ x, x ≠ i → c1 x = c x) → c1 i = some (.inr (ci, fs.set kf v)) → J l D b Y R post (ad, c1) k n (pc + 3) lv st) : J l D b Y R post (ad, c) k n pc lv (v :: .ref o :: st) := by
  subst ho
  exact J_put (w := (ad, c)) hs hc hl hfin hn hfit rfl hd (kk _ (fun x hx => va_n _ _ hx) (va_s _ _ _))
theorem P_get {i ci kf idx o : Nat} {fs : List Value} {v : Value} (hs : FS Y.1.cls idx ci kf) (ho : ad i = o) (hc : c i = some (.inr (ci, fs))) (hv : fs[kf]? = some v) (hd : decode Y.2.1 pc = .ok (.getfield idx, 3)) (kk : J l D b Y R post (ad, c) k n (pc + 3) lv (v :: st)) : J l D b Y R post (ad, c) k n pc lv (.ref o :: st) := by
  subst ho
  exact J_get (w := (ad, c)) hs hc hv hd kk
theorem P_aast {i j t nn ci o a : Nat} {r : vw_C} {E : String} {f : Int → Value} {fs : List Value} {z : Int} (hoi : ad i = o) (hoj : ad j = a) (hc : c i = some (.inl (t, nn, f))) (hty : jty t = .object E) (hv : c j = some (.inr (ci, fs))) (hr : clz[ci]? = some r) (hca : r.1 = E ∨ Cond.castable r.1 E ∈ nst) (hz : 0 ≤ z ∧ z < nn) (hn : nn ≤ 2147483647) (hd : decode Y.2.1 pc = .ok (.aastore, 1))
    (kk : ∀ c1, (∀ x, x ≠ i → c1 x = c x) → c1 i = some (.inl (t, nn, upI f z (.ref a))) → J l D b Y R post (ad, c1) k n (pc + 1) lv st) : J l D b Y R post (ad, c) k n pc lv (.ref a :: .int (iI z) :: .ref o :: st) := by
  subst hoi
  subst hoj
  exact J_aast (w := (ad, c)) hc hty hv hr hca hz hn rfl hd (kk _ (fun x hx => va_n _ _ hx) (va_s _ _ _))
set_option maxHeartbeats 4000000 in
/-- an array of arrays: the outer one under the number io, the inner ones from lo on -/
theorem P_multi {io lo t ti N M idx : Nat} {ty : FieldType} {nm : String} {fi : Int → Value} (hd : decode Y.2.1 pc = .ok (.multianewarray idx 2, 4)) (ht : t < 9 ∧ ti < 9) (hty : jty t = .array ty ∧ jty ti = ty) (hra : ∀ (U : State) (c : ClassId), va_RA U c ty → U.vm.findClass (FieldType.array ty).toString = some c) (hbb : componentBytes ty ≤ 8) (hnm : nm = "[" ++ (FieldType.array ty).toString) (hcl : Cond.classLink Y.1.cls idx nm ∈ tb) (hov : ∀ U : State, jAO U → jMM ty U) (hdf : fits ty (defaultValue ty) = true) (hdd : (defaultValue ty).isDefault = true) (hi : c io = none) (hlo : ∀ j, j < N → c (lo + j) = none) (hio : ¬ (lo ≤ io ∧ io < lo + N)) (hN : N ≤ 1000 ∧ M ≤ 1000) (hf : ∀ j, fi j = defaultValue ty) (hk : k + (1 + N) ≤ R.cells ∧ n + (N + N * M) ≤ R.slots)
    (kk : ∀ ad1 c1, (∀ x, x ≠ io → ¬ (lo ≤ x ∧ x < lo + N) → ad1 x = ad x ∧ c1 x = c x) → c1 io = some (.inl (t, N, fun j => if 0 ≤ j ∧ j < (N : Int) then Value.ref (ad1 (lo + j.toNat)) else Value.null)) → (∀ j, j < N → c1 (lo + j) = some (.inl (ti, M, fi))) → J l D b Y R post (ad1, c1) (k + 1 + N) (n + N + N * M) (pc + 4) lv (.ref (ad1 io) :: st)) : J l D b Y R post (ad, c) k n pc lv (.int (iI (M : Int)) :: .int (iI (N : Int)) :: st) := by
  intro p e s m args below meth c0 B K H locs ls hH hS hl T hT X
  obtain ⟨comp, cA, kA, f1, f2, f3, f4⟩ := hov s K.2.2.2.2.2.2
  have hcA : D.2.2.1 t = cA := by
    have h9 := (K.1.2 t _ (jT_at D ht.1)).2
    rw [hty.1] at h9
    exact Option.some.inj (h9.symm.trans f4)
  have hcomp : D.2.2.1 ti = comp := by
    have h9 := (K.1.2 ti _ (jT_at D ht.2)).2
    rw [hty.2] at h9
    exact Option.some.inj ((hra s _ h9).symm.trans f1)
  obtain ⟨-, kc, hkc, cc, hkdc⟩ := (K.1.2 ti _ (jT_at D ht.2)).1 0 (fun _ => .null)
  rw [hty.2] at hkdc
  have hkc' : s.vm.classes[comp]? = some kc := by rw [← hcomp]; exact hkc
  obtain ⟨vm₁, L, X₂, hL, hstep⟩ := mn_step X B.1 B.2.2.2.2.1 (B.2.2.2.2.2.1 _ hcl) (by rw [hnm]; exact f4) f2 f3 (fun v hv => by rcases hv with rfl | ⟨a, rfl⟩ <;> rfl) hkc' hkdc (g := F0 m pc ls (.int (iI (M : Int)) :: .int (iI (N : Int)) :: st)) rfl rfl (by rw [iI_0, iI_lt (by omega) (by omega)]; omega) (by rw [iI_0, iI_lt (by omega) (by omega)]; omega) (N := N) (M := M) (by rw [iI_clamp (by omega)]; omega) (by rw [iI_clamp (by omega)]; omega) hN ⟨by show 4 ≤ 8; decide, hbb⟩ hdf hdd hk.1 hk.2 (by rw [B.2.1]; exact hd)
  obtain ⟨g1, g2, g3, g4, g5, g6⟩ := mnS_facts (s := T.setVm vm₁) (c := cA) (comp := comp) (N := N) (M := M) (dv := defaultValue ty) N
  have hTh : (T.setVm vm₁).heap = H := hT
  rw [hTh] at g1 g2 g5 g6
  have hTs : T.heap.size = H.size := by rw [hT]
  obtain ⟨ad1, e1⟩ : ∃ z : Nat → Nat, z = fun x => if x = io then H.size else if lo ≤ x ∧ x < lo + N then H.size + 1 + (x - lo) else ad x := ⟨_, rfl⟩
  obtain ⟨c1, e2⟩ : ∃ z : Nat → Option jE, z = fun x => if x = io then some (.inl (t, N, fun j => if 0 ≤ j ∧ j < (N : Int) then Value.ref (ad1 (lo + j.toNat)) else Value.null)) else if lo ≤ x ∧ x < lo + N then some (.inl (ti, M, fi)) else c x := ⟨_, rfl⟩
  have a0 : ad1 io = H.size := by rw [e1]; exact if_pos rfl
  have a1 : ∀ j, j < N → ad1 (lo + j) = H.size + 1 + j := fun j hj => by
    rw [e1]
    show (if lo + j = io then _ else if _ then _ else _) = _
    rw [if_neg (by omega), if_pos (by omega)]
    omega
  have a2 : ∀ x, x ≠ io → ¬ (lo ≤ x ∧ x < lo + N) → ad1 x = ad x := fun x h1 h2 => by
    rw [e1]
    show (if x = io then _ else if _ then _ else _) = _
    rw [if_neg h1, if_neg h2]
  have b0 : c1 io = some (.inl (t, N, fun j => if 0 ≤ j ∧ j < (N : Int) then Value.ref (ad1 (lo + j.toNat)) else Value.null)) := by rw [e2]; exact if_pos rfl
  have b1 : ∀ j, j < N → c1 (lo + j) = some (.inl (ti, M, fi)) := fun j hj => by
    rw [e2]
    show (if lo + j = io then _ else if _ then _ else _) = _
    rw [if_neg (by omega), if_pos (by omega)]
  have b2 : ∀ x, x ≠ io → ¬ (lo ≤ x ∧ x < lo + N) → c1 x = c x := fun x h1 h2 => by
    rw [e2]
    show (if x = io then _ else if _ then _ else _) = _
    rw [if_neg h1, if_neg h2]
  have hb : b ≤ H.size := Nat.le_trans K.2.2.2.2.1 hS.1
  -- every cell: a new one, with its address, or an old one
  have cs : ∀ x e, c1 x = some e → (x = io ∧ ad1 x = H.size) ∨ (∃ j, j < N ∧ x = lo + j ∧ ad1 x = H.size + 1 + j) ∨ (c x = some e ∧ ad1 x = ad x ∧ ad1 x < H.size) := by
    intro x e he
    by_cases h1 : x = io
    · exact Or.inl ⟨h1, by rw [h1]; exact a0⟩
    · by_cases h2 : lo ≤ x ∧ x < lo + N
      · refine Or.inr (Or.inl ⟨x - lo, by omega, by omega, ?_⟩)
        have := a1 (x - lo) (by omega)
        rw [show lo + (x - lo) = x by omega] at this
        exact this
      · rw [b2 x h1 h2] at he
        exact Or.inr (Or.inr ⟨he, a2 x h1 h2, by rw [a2 x h1 h2]; exact (hH.1 x e he).2.lt⟩)
  have hHp : Hp D b (ad1, c1) (mnS (T.setVm vm₁) cA comp N M (defaultValue ty) N).heap := by
    refine ⟨fun x e he => ?_, fun x y e f hx hy hxy => ?_⟩
    · have he' : c1 x = some e := he
      show b ≤ ad1 x ∧ jAt D (ad1 x) e _
      rcases cs x e he' with ⟨h1, h2⟩ | ⟨j, hj, h1, h2⟩ | ⟨h1, h2, h3⟩
      · rw [h1, b0] at he'
        cases he'
        rw [h2]
        refine ⟨hb, ht.1, ?_⟩
        rw [g2, hcA]
        unfold mnO arrV
        congr 3
        funext j
        have hj := j.isLt
        show (if j.val < N then _ else _) = (if 0 ≤ ((j.val : Nat) : Int) ∧ ((j.val : Nat) : Int) < (N : Int) then Value.ref (ad1 (lo + ((j.val : Nat) : Int).toNat)) else Value.null)
        rw [if_pos hj, if_pos (by omega), Int.toNat_natCast, a1 _ hj]
      · rw [h1, b1 j hj] at he'
        cases he'
        rw [h2]
        refine ⟨by omega, ht.2, ?_⟩
        rw [g6 j hj, hcomp]
        unfold arrV
        congr 3
        funext j
        exact (hf _).symm
      · rw [h2]
        exact ⟨(hH.1 x e h1).1, (hH.1 x e h1).2.kept (g5 _ (hH.1 x e h1).2.lt)⟩
    · have hx' : c1 x = some e := hx
      have hy' : c1 y = some f := hy
      have hxy' : ad1 x = ad1 y := hxy
      rcases cs x e hx' with ⟨p1, p2⟩ | ⟨j, hj, p1, p2⟩ | ⟨p1, p2, p3⟩ <;> rcases cs y f hy' with ⟨q1, q2⟩ | ⟨j', hj', q1, q2⟩ | ⟨q1, q2, q3⟩
      · rw [p1, q1]
      · omega
      · omega
      · omega
      · omega
      · omega
      · omega
      · omega
      · exact hH.2 x y e f p1 q1 (by show ad x = ad y; rw [← p2, ← q2]; exact hxy')
  have hSS : va_S (fun q => b ≤ q) s.heap (mnS (T.setVm vm₁) cA comp N M (defaultValue ty) N).heap (locs ++ L) := by
    refine ⟨by rw [g1]; exact Nat.le_trans hS.1 (by omega), fun q h1 h2 => (g5 q (Nat.lt_of_lt_of_le h1 hS.1)).trans (hS.2.1 q h1 h2), fun q hq => ?_⟩
    rcases List.mem_append.mp hq with h | h
    · exact hS.2.2 q h
    · show b ≤ q.base
      rw [hL q h, hTs]
      exact hb
  obtain ⟨t9, h1, h2⟩ := kk ad1 c1 (fun x h1 h2 => ⟨a2 x h1 h2, b2 x h1 h2⟩) b0 b1 p e s m args below meth c0 B K _ (locs ++ L) ls hHp hSS hl _ rfl X₂
  refine ⟨t9, hstep t9 ?_, h2⟩
  rw [hTs, ← a0]
  exact h1
/-- two worlds whose arrays are alike within their bounds -/
def eqE (e e' : Option jE) : Prop := e = e' ∨ ∃ (t nn : Nat) (f g : Int → Value), e = some (.inl (t, nn, f)) ∧ e' = some (.inl (t, nn, g)) ∧ ∀ j, 0 ≤ j → j < (nn : Int) → f j = g j
theorem J.eqv {c' : Nat → Option jE} (h : ∀ x, eqE (c x) (c' x)) (kk : J l D b Y R post (ad, c') k n pc lv st) : J l D b Y R post (ad, c) k n pc lv st := by
  intro p e s m args below meth c0 B K H locs ls hH hS hl
  refine kk p e s m args below meth c0 B K H locs ls ⟨fun i e' he => ?_, fun i j e' f' hi hj hij => ?_⟩ hS hl
  · have he' : c' i = some e' := he
    rcases h i with h1 | ⟨t, nn, f, g, h1, h2, h3⟩
    · exact hH.1 i e' (by show c i = some e'; rw [h1]; exact he')
    · have hat := hH.1 i _ h1
      rw [h2] at he'
      cases he'
      refine ⟨hat.1, hat.2.1, ?_⟩
      have h4 := hat.2.2
      show H[ad i]? = some (arrV (D.2.2.1 t) nn (fun j => g (j : Int)))
      rw [show H[ad i]? = some (arrV (D.2.2.1 t) nn (fun j => f (j : Int))) from h4]
      unfold arrV
      congr 3
      funext j
      exact h3 j.val (by omega) (by have := j.isLt; omega)
  · have key : ∀ i e', c' i = some e' → ∃ e9, c i = some e9 := by
      intro i e' he
      rcases h i with h1 | ⟨t, nn, f, g, h1, h2, h3⟩
      · exact ⟨e', by rw [h1]; exact he⟩
      · exact ⟨_, h1⟩
    obtain ⟨e9, k1⟩ := key i e' hi
    obtain ⟨f9, k2⟩ := key j f' hj
    exact hH.2 i j e9 f9 k1 k2 hij
end JP
