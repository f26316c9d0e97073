/-! rows that make cells; casts -/
section JA
variable {l : Launch} {D : jD} {b : Nat} {Y : jM} {R : Room} {post : Option Value → jW → Prop} {w : jW} {k n pc : Nat} {lv : List (Nat × Value)} {st : List Value}
theorem J_newa {i t N : Nat} {atype : ArrayType} {f : Int → Value} (hd : decode Y.2.1 pc = .ok (.newarray atype, 2)) (ht : t < 4) (hty : newarray.typeOf atype = jty t) (harr : Cond.arrayClass (jty t) ∈ tb) (hi : w.2 i = none) (hN : N ≤ 100000) (hf : ∀ j, f j = defaultValue (jty t)) (hk : k + 1 ≤ R.cells ∧ n + N ≤ R.slots)
    (kk : ∀ a, J l D b Y R post (va_up w.1 i a, va_up w.2 i (some (.inl (t, N, f)))) (k + 1) (n + N) (pc + 2) lv (.ref a :: st)) : J l D b Y R post w k n pc lv (.int (iI (N : Int)) :: st) := by
  intro p e s m args below meth c B K H locs ls hH hS hl
  have hb4 : componentBytes (jty t) ≤ 8 := by
    have : t = 0 ∨ t = 1 ∨ t = 2 ∨ t = 3 := by omega
    rcases this with rfl | rfl | rfl | rfl <;> decide
  have hbb : N * componentBytes (newarray.typeOf atype) ≤ 536870912 := by
    rw [hty]
    have := Nat.mul_le_mul hN hb4
    omega
  refine va_newaK B.1 B.2.1 (by rw [hty]; exact B.2.2.2.2.2.1 _ harr) rfl hd (N := N) rfl (by rw [iI_0, iI_lt (by omega) (by omega)]; omega) (by rw [iI_clamp (by omega)]; omega) hbb hk.1 hk.2 rfl fun H1 cA e1 z1 o1 hAr hNm => ?_
  have hcA : cA = D.2.2.1 t := by
    have h9 := (K.1.2 t _ (jT_at D (show t < 9 by omega))).2
    rw [hty] at hNm
    have : t = 0 ∨ t = 1 ∨ t = 2 ∨ t = 3 := by omega
    rcases this with rfl | rfl | rfl | rfl <;> exact Option.some.inj (hNm.symm.trans h9)
  subst hcA
  have hat : jAt D H.size (.inl (t, N, f)) H1 := by
    refine ⟨by omega, ?_⟩
    rw [e1, hty]
    congr 2
    funext j
    exact (hf j).symm
  exact kk H.size p e s m args below meth c B K H1 locs ls (hH.push hi hat o1 (Nat.le_trans K.2.2.2.2.1 hS.1)) ⟨Nat.le_trans hS.1 (by omega), fun q h1 h2 => (o1 q (Nat.lt_of_lt_of_le h1 hS.1)).trans (hS.2.1 q h1 h2), hS.2.2⟩ hl
theorem J_anew {i t N idx : Nat} {C : String} {f : Int → Value} (hd : decode Y.2.1 pc = .ok (.anewarray idx, 3)) (ht : t < 9) (hty : jty t = .object C) (hcl : Cond.classLink Y.1.cls idx C ∈ tb) (hov : Cond.arrayOver (.object C) ∈ tb ∨ ∀ (args : Array Value) (U : State), jK D b U → (Cond.arrayOver (.object C)).before args U = true) (hi : w.2 i = none) (hN : N ≤ 100000) (hf : ∀ j, f j = .null) (hk : k + 1 ≤ R.cells ∧ n + N ≤ R.slots)
    (kk : ∀ a, J l D b Y R post (va_up w.1 i a, va_up w.2 i (some (.inl (t, N, f)))) (k + 1) (n + N) (pc + 3) lv (.ref a :: st)) : J l D b Y R post w k n pc lv (.int (iI (N : Int)) :: st) := by
  intro p e s m args below meth c B K H locs ls hH hS hl
  have hnat : (iI (N : Int)).toNatClampNeg = N := by rw [iI_clamp (by omega)]; omega
  have hov' : (Cond.arrayOver (.object C)).before args s = true := by
    rcases hov with h | h
    · exact B.2.2.2.2.2.1 _ h
    · exact h args s K
  refine W.anew B.1 B.2.1 B.2.2.2.2.1 (B.2.2.2.2.2.1 _ hcl) hov' rfl hd rfl (by rw [iI_0, iI_lt (by omega) (by omega)]; omega) (by rw [hnat]; omega) hk.1 (by rw [hnat]; exact hk.2) fun cA kA comp h1 h2 h3 h4 => ?_
  rw [hnat]
  have hcA : cA = D.2.2.1 t := by
    have h9 := (K.1.2 t _ (jT_at D ht)).2
    rw [hty] at h9
    obtain ⟨_, _, _, _, _, h10⟩ := h9
    exact Option.some.inj (h1.symm.trans h10)
  subst hcA
  have hat : jAt D H.size (.inl (t, N, f)) (H.push { cls := D.2.2.1 t, slots := Array.replicate N .null, vm := .none }) := by
    refine ⟨ht, ?_⟩
    rw [arrV_new]
    simp
    congr 1
    funext j
    exact (hf j).symm
  have o1 : ∀ q : Nat, q < H.size → (H.push { cls := D.2.2.1 t, slots := Array.replicate N .null, vm := .none })[q]? = H[q]? := fun q hq => by rw [Array.getElem?_push, if_neg (Nat.ne_of_lt hq)]
  exact kk H.size p e s m args below meth c B K _ locs ls (hH.push hi hat o1 (Nat.le_trans K.2.2.2.2.1 hS.1)) ⟨Nat.le_trans hS.1 (by simp), fun q h1 h2 => (o1 q (Nat.lt_of_lt_of_le h1 hS.1)).trans (hS.2.1 q h1 h2), hS.2.2⟩ hl
theorem J_new {i ci idx : Nat} {r : vw_C} {fs : List Value} (hd : decode Y.2.1 pc = .ok (.new idx, 3)) (hr : clz[ci]? = some r) (hcl : Cond.classLink Y.1.cls idx r.1 ∈ tb) (hin : Cond.instantiable r.1 r.2.2 ∈ tb) (hini : Cond.initialized r.1 ∈ tb) (hi : w.2 i = none) (hfs : ∀ j, j < r.2.2 → defaultValue (clt ci j) = vp_V fs j) (hk : k + 1 ≤ R.cells ∧ n + r.2.2 ≤ R.slots)
    (kk : ∀ a, J l D b Y R post (va_up w.1 i a, va_up w.2 i (some (.inr (ci, fs)))) (k + 1) (n + r.2.2) (pc + 3) lv (.ref a :: st)) : J l D b Y R post w k n pc lv st := by
  intro p e s m args below meth c B K H locs ls hH hS hl
  have hKn := K.1.1 ci r hr
  refine W.newcK B.1 B.2.1 B.2.2.2.2.1 (B.2.2.2.2.2.1 _ hcl) (B.2.2.2.2.2.1 _ hin) (B.2.2.2.2.2.1 _ hini) rfl hd hk.1 hk.2 hKn.2.1 rfl fun H1 kC hkC e1 z1 o1 => ?_
  have hat : jAt D H.size (.inr (ci, fs)) H1 := ⟨r, hr, (u_born (clt ci) B.2.2.2.2.2.1 (clz_in ci r hr) hKn hkC e1 (clz_ty ci r hr)).to hfs⟩
  exact kk H.size p e s m args below meth c B K H1 locs ls (hH.push hi hat o1 (Nat.le_trans K.2.2.2.2.1 hS.1)) ⟨Nat.le_trans hS.1 (by omega), fun q h1 h2 => (o1 q (Nat.lt_of_lt_of_le h1 hS.1)).trans (hS.2.1 q h1 h2), hS.2.2⟩ hl
/-- Object.<init> -/
def OI (own : String) (idx : Nat) : Prop := Cond.methodLink own idx Lib.objectInit ∈ tb
theorem oi_words : Cond.instanceMethod Lib.objectInit ∈ tb ∧ Cond.code Lib.objectInit ⟨#[0xb1]⟩ 1 none ∈ tb := ⟨tb_in (List.mem_of_getElem? (i := 88) (by decide +kernel)) rfl, tb_in (List.mem_of_getElem? (i := 89) (by decide +kernel)) rfl⟩
theorem J_obj {idx a : Nat} (hs : OI Y.1.cls idx) (hd : decode Y.2.1 pc = .ok (.invokespecial idx, 3)) (hr : 1 ≤ R.frames ∧ (st.map fun v => v.category).sum + 12 ≤ R.locals) (kk : J l D b Y R post w k n (pc + 3) lv st) : J l D b Y R post w k n pc lv (.ref a :: st) := by
  intro p e s m args below meth c B K H locs ls hH hS hl
  exact W.objInit B.1 B.2.1 B.2.2.2.2.1 (B.2.2.2.2.2.1 _ hs) (B.2.2.2.2.2.1 _ oi_words.1) (B.2.2.2.2.2.1 _ oi_words.2) rfl (by rw [B.2.2.2.1]; exact hl.1) rfl hd hr.1 (by show 2 * 0 + _ + 12 ≤ _; omega) (kk p e s m args below meth c B K H locs ls hH hS hl)
/-- a reference is laid into an array of references -/
theorem J_aast {i j t nn ci : Nat} {r : vw_C} {E : String} {f : Int → Value} {fs : List Value} {z : Int} {c' : Nat → Option jE} (hc : w.2 i = some (.inl (t, nn, f))) (hty : jty t = .object E) (hv : w.2 j = some (.inr (ci, fs))) (hr : clz[ci]? = some r) (hca : r.1 = E ∨ Cond.castable r.1 E ∈ nst) (hz : 0 ≤ z ∧ z < nn) (hn : nn ≤ 2147483647) (hw : va_up w.2 i (some (.inl (t, nn, upI f z (.ref (w.1 j))))) = c') (hd : decode Y.2.1 pc = .ok (.aastore, 1)) (kk : J l D b Y R post (w.1, c') k n (pc + 1) lv st) : J l D b Y R post w k n pc lv (.ref (w.1 j) :: .int (iI z) :: .ref (w.1 i) :: st) := by
  intro p e s m args below meth c B K H locs ls hH hS hl
  obtain ⟨hb1, ht9, hcell⟩ := hH.1 i _ hc
  obtain ⟨-, r', hr', cv, q1, q2, q3, -⟩ := hH.1 j _ hv
  cases hr'.symm.trans hr
  have hK9 := K.1.2 t _ (jT_at D ht9)
  have hra := hK9.2
  rw [hty] at hra
  obtain ⟨kA, comp, ha1, ha2, ha3, -⟩ := hra
  obtain ⟨hfc, kC, hkC, hkind⟩ := (K.1.1 ci _ hr).2
  have hinst : ∃ kcomp, s.vm.classes[comp]? = some kcomp ∧ s.vm.assignable (D.1 ci) comp = true := by
    rcases hca with e1 | hc9
    · rw [e1] at hfc
      have e2 : D.1 ci = comp := Option.some.inj (hfc.symm.trans ha3)
      rw [← e2]
      exact ⟨kC, hkC, va_assign (K.1.1 ci _ hr).2⟩
    · obtain ⟨c0, t0, f1, f2, f3⟩ := Cond.castable_spec (va_Nw.use (A := args) rfl (K.2.1 _ hc9))
      cases hfc.symm.trans f1
      cases ha3.symm.trans f2
      obtain ⟨kk9, hk9, -⟩ := Vm.findClass_spec ha3
      exact ⟨kk9, hk9, f3⟩
  obtain ⟨kcomp, hk1, hk2⟩ := hinst
  have hclz : (iI z).toNatClampNeg < nn := by
    rw [iI_clamp (by omega)]
    omega
  refine W.aast B.1 B.2.1 hcell (fun q h => by cases h) (fun q => by cases q) ha1 ha2 rfl hk1 ⟨fun h => (iI_in hz hn) (Or.inl h), by rw [arrV_size]; exact hclz⟩ q1 (fun q h => by rw [q3] at h; cases h) (by rw [q2]; exact hkC) (by rw [q2]; exact hk2) rfl rfl hd fun H1 e1 z1 oq => ?_
  have hnew := st_at (i := i) (f := f) ht9 hz hn e1
  have hH2 := hH.set hc hnew oq
  rw [hw] at hH2
  exact kk p e s m args below meth c B K _ _ ls hH2 (hS.put z1 oq hb1) hl
theorem J_cast {i ci idx : Nat} {r : vw_C} {fs : List Value} (hv : w.2 i = some (.inr (ci, fs))) (hr : clz[ci]? = some r) (hcl : Cond.classLink Y.1.cls idx r.1 ∈ tb) (hca : Cond.castable r.1 r.1 ∈ nst) (hd : decode Y.2.1 pc = .ok (.checkcast idx, 3)) (kk : J l D b Y R post w k n (pc + 3) lv (.ref (w.1 i) :: st)) : J l D b Y R post w k n pc lv (.ref (w.1 i) :: st) := by
  intro p e s m args below meth c B K H locs ls hH hS hl
  obtain ⟨-, r', hr', cv, q1, q2, q3, -⟩ := hH.1 i _ hv
  cases hr'.symm.trans hr
  exact va_castY B.1 B.2.1 B.2.2.2.2.1 (B.2.2.2.2.2.1 _ hcl) (K.2.1 _ hca) ⟨cv, q1, by rw [q3]; rfl, by rw [q2]; exact (K.1.1 ci _ hr).2.1⟩ hd (kk p e s m args below meth c B K H locs ls hH hS hl)
end JA
theorem oi_CF_3 : OI "ChartForest" 3 := tb_in (List.mem_of_getElem? (i := 87) (by decide +kernel)) rfl
theorem oi_Ru_3 : OI "ChartForest$Rule" 3 := tb_in (List.mem_of_getElem? (i := 95) (by decide +kernel)) rfl
theorem oi_AC_1 : OI "java/util/AbstractCollection" 1 := tb_in (List.mem_of_getElem? (i := 122) (by decide +kernel)) rfl
theorem oi_Wa_3 : OI "ChartForest$Walker" 3 := tb_in (List.mem_of_getElem? (i := 148) (by decide +kernel)) rfl
theorem oi_St_1 : OI "ChartForest$Stack" 1 := tb_in (List.mem_of_getElem? (i := 172) (by decide +kernel)) rfl
theorem oi_Se_3 : OI "ChartForest$ItemSet" 3 := tb_in (List.mem_of_getElem? (i := 201) (by decide +kernel)) rfl
theorem oi_Co_3 : OI "ChartForest$Column" 3 := tb_in (List.mem_of_getElem? (i := 228) (by decide +kernel)) rfl
theorem oi_Mo_1 : OI "ChartForestModel" 1 := tb_in (List.mem_of_getElem? (i := 718) (by decide +kernel)) rfl
