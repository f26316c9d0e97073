/-! rows of J that read and write the world; ends; calls -/
set_option maxRecDepth 20000 in
theorem clz_in : ∀ (ci : Nat) (r : vw_C), clz[ci]? = some r → ∀ w ∈ u_ws r.1 r.2.1 r.2.2, w ∈ tb := by
  intro ci r h
  match ci with
  | 0 => cases h; exact fun w hw => (show ∀ w ∈ u_ws R_CF F_CF 12, w ∈ lw_tbl ∧ goodWord w = true by decide +kernel) w hw |> fun q => tb_in q.1 q.2
  | 1 => cases h; exact fun w hw => (show ∀ w ∈ u_ws R_Co F_Co 2, w ∈ lw_tbl ∧ goodWord w = true by decide +kernel) w hw |> fun q => tb_in q.1 q.2
  | 2 => cases h; exact fun w hw => (show ∀ w ∈ u_ws R_Se F_Se 5, w ∈ lw_tbl ∧ goodWord w = true by decide +kernel) w hw |> fun q => tb_in q.1 q.2
  | 3 => cases h; exact fun w hw => (show ∀ w ∈ u_ws R_Ru F_Ru 3, w ∈ lw_tbl ∧ goodWord w = true by decide +kernel) w hw |> fun q => tb_in q.1 q.2
  | 4 => cases h; exact fun w hw => (show ∀ w ∈ u_ws R_St F_St 5, w ∈ lw_tbl ∧ goodWord w = true by decide +kernel) w hw |> fun q => tb_in q.1 q.2
  | 5 => cases h; exact fun w hw => (show ∀ w ∈ u_ws R_Wa F_Wa 5, w ∈ lw_tbl ∧ goodWord w = true by decide +kernel) w hw |> fun q => tb_in q.1 q.2
  | 6 => cases h; exact fun w hw => (show ∀ w ∈ u_ws R_Mo F_Mo 19, w ∈ lw_tbl ∧ goodWord w = true by decide +kernel) w hw |> fun q => tb_in q.1 q.2
  | 7 => cases h; exact fun w hw => (show ∀ w ∈ u_ws R_Al F_Al 3, w ∈ lw_tbl ∧ goodWord w = true by decide +kernel) w hw |> fun q => tb_in q.1 q.2
  | n + 8 => cases h
theorem clz_ty : ∀ (ci : Nat) (r : vw_C), clz[ci]? = some r → ∀ k, k < r.2.2 → parseFieldDescriptor (r.2.1 k).2.2.1 = some (clt ci k) := by
  intro ci r h
  match ci with
  | 0 => cases h; exact t_CF_ok
  | 1 => cases h; exact t_Co_ok
  | 2 => cases h; exact t_Se_ok
  | 3 => cases h; exact t_Ru_ok
  | 4 => cases h; exact t_St_ok
  | 5 => cases h; exact t_Wa_ok
  | 6 => cases h; exact t_Mo_ok
  | 7 => cases h; exact t_Al_ok
  | n + 8 => cases h
theorem clz_nm : ∀ (ci : Nat) (r : vw_C), clz[ci]? = some r → ∀ a, a < r.2.2 → ∀ b, b < r.2.2 → a ≠ b → (r.2.1 a).2.1 ≠ (r.2.1 b).2.1 := by
  intro ci r h
  match ci with
  | 0 => cases h; exact n_CF
  | 1 => cases h; exact n_Co
  | 2 => cases h; exact n_Se
  | 3 => cases h; exact n_Ru
  | 4 => cases h; exact n_St
  | 5 => cases h; exact n_Wa
  | 6 => cases h; exact n_Mo
  | 7 => cases h; exact n_Al
  | n + 8 => cases h
/-- the entry idx of the class own's pool names the field kf of the class ci -/
def FS (own : String) (idx ci kf : Nat) : Prop := ∃ r : vw_C, clz[ci]? = some r ∧ kf < r.2.2 ∧ (Cond.fieldLink own idx (r.2.1 kf).1 (r.2.1 kf).2.1 (r.2.1 kf).2.2.1 ∈ tb ∨ (∃ host, Cond.fieldLinkNest own idx (r.2.1 kf).1 (r.2.1 kf).2.1 (r.2.1 kf).2.2.1 host ∈ nst) ∨ ∃ ref, Cond.fieldLink own idx ref (r.2.1 kf).2.1 (r.2.1 kf).2.2.1 ∈ tb ∧ Cond.sameField ref (r.2.1 kf).1 (r.2.1 kf).2.1 (r.2.1 kf).2.2.1 ∈ tb)
section JH
variable {l : Launch} {D : jD} {b : Nat} {Y : jM} {R : Room} {post : Option Value → jW → Prop} {w : jW} {k n pc : Nat} {lv : List (Nat × Value)} {st : List Value}
set_option maxHeartbeats 1000000 in
theorem J_get {i ci kf idx : Nat} {fs : List Value} {v : Value} (hs : FS Y.1.cls idx ci kf) (hc : w.2 i = some (.inr (ci, fs))) (hv : fs[kf]? = some v) (hd : decode Y.2.1 pc = .ok (.getfield idx, 3)) (kk : J l D b Y R post w k n (pc + 3) lv (v :: st)) : J l D b Y R post w k n pc lv (.ref (w.1 i) :: st) := by
  intro p e s m args below meth c B K H locs ls hH hS hl
  obtain ⟨r, hr, hk, hlk⟩ := hs
  obtain ⟨r', h1, cell, q1, q2, q3, q4⟩ := (hH.1 i _ hc).2
  cases h1.symm.trans hr
  obtain ⟨hSl, hfc, kC, hkC, hkind⟩ := K.1.1 ci _ hr
  obtain ⟨cf, kf', fi, f, hi, hsl⟩ := hSl kf hk
  have hst := (u_facts hfc hkC (u_lays B.2.2.2.2.2.1 (clz_in ci r hr) hk) hi).1
  have hkn : cell.vm ≠ .unknown := by rw [q3]; exact fun h => by cases h
  have hvv : cell.slots[f.slot]? = some v := by rw [hsl, q4 kf hk]; simp [vp_V, hv]
  have go := kk p e s m args below meth c B K H locs ls hH hS hl
  rcases hlk with h | ⟨host, h⟩ | ⟨ref, h, h2⟩
  · exact W.getf B.1 B.2.1 B.2.2.2.2.1 (B.2.2.2.2.2.1 _ h) hi hst q1 hkn hvv rfl rfl hd go
  · exact va_Wgetf B.1 B.2.1 B.2.2.2.2.1 (va_Nw.use rfl (K.2.1 _ h)) hi hst q1 hkn hvv rfl rfl hd go
  · exact W.getf B.1 B.2.1 B.2.2.2.2.1 (B.2.2.2.2.2.1 _ h) (u_same (B.2.2.2.2.2.1 _ h2) _ hi) hst q1 hkn hvv rfl rfl hd go
set_option maxHeartbeats 1000000 in
theorem J_put {i ci kf idx : Nat} {fs : List Value} {v : Value} {c' : Nat → Option jE} (hs : FS Y.1.cls idx ci kf) (hc : w.2 i = some (.inr (ci, fs))) (hl : kf < fs.length) (hfin : ∀ r : vw_C, clz[ci]? = some r → (r.2.1 kf).2.2.2 = false ∨ (Y.1.name = "<init>" ∧ (r.2.1 kf).1 = Y.1.cls)) (hn : narrow (clt ci kf) v = v) (hfit : fits (clt ci kf) v = true) (hw : va_up w.2 i (some (.inr (ci, fs.set kf v))) = c') (hd : decode Y.2.1 pc = .ok (.putfield idx, 3)) (kk : J l D b Y R post (w.1, c') k n (pc + 3) lv st) : J l D b Y R post w k n pc lv (v :: .ref (w.1 i) :: st) := by
  intro p e s m args below meth c B K H locs ls hH hS hl'
  obtain ⟨r, hr, hk, hlk⟩ := hs
  have hat := hH.1 i _ hc
  obtain ⟨r', h1, cell, q1, q2, q3, q4⟩ := hat.2
  cases h1.symm.trans hr
  have hts := B.2.2.2.2.2.1
  have hin := clz_in ci r hr
  have hap := va_apart (own := Y.1.cls) (D := (D.1, D.2.1)) (cl := clz) hts hin (clt ci) (clz_ty ci r hr) (clz_nm ci r hr) K.1 hr
  obtain ⟨hSl, hfc, kC, hkC, hkind⟩ := K.1.1 ci _ hr
  obtain ⟨cf, kf', fi, f, hi, hsl⟩ := hSl kf hk
  have hst := (u_facts hfc hkC (u_lays hts hin hk) hi).1
  have hfits := u_fits hfc hkC hkind (u_lays hts hin hk) hi (clz_ty ci r hr kf hk) hn hfit
  have hlt : f.slot < cell.slots.size := by rw [hsl]; exact k2_hasslot (q4 kf hk)
  have hfn : hasFlag f.accessFlags Acc.final = false ∨ (m.cls = cf ∧ meth.name = "<init>") := by
    rcases hfin r hr with hf | ⟨hf1, hf2⟩
    · have hlay := hts _ (hin _ (u_in_lay hk))
      unfold u_lay at hlay
      rw [if_neg (by rw [hf]; decide)] at hlay
      exact Or.inl (u_store hfc hkC hkind hlay hi (clz_ty ci r hr kf hk) hn hfit).1
    · by_cases hf : (r.2.1 kf).2.2.2 = true
      · have hlay := hts _ (hin _ (u_in_lay hk))
        unfold u_lay at hlay
        rw [if_pos hf] at hlay
        obtain ⟨_, _, c2, _, _, _, -, -, hf', -, -, -, hown2, -⟩ := Cond.laysFinal_spec hlay
        have e1 : c2 = cf := by have := hi.symm.trans hf'; simp at this; exact this.1.symm
        rw [hf2] at hown2
        exact Or.inr ⟨by rw [← e1]; exact Option.some.inj (B.2.2.2.2.1.symm.trans hown2), by rw [B.2.2.2.2.2.2.2.1]; exact hf1⟩
      · have hlay := hts _ (hin _ (u_in_lay hk))
        unfold u_lay at hlay
        rw [if_neg hf] at hlay
        exact Or.inl (u_store hfc hkC hkind hlay hi (clz_ty ci r hr kf hk) hn hfit).1
  have ha : w.1 i < H.size := (Array.getElem?_eq_some_iff.mp q1).1
  have hkn : cell.vm ≠ .unknown := by rw [q3]; exact fun h => by cases h
  have hfs : s.fitsSlot cell.cls cell.vm f.slot v = true := by rw [q2, q3]; exact hfits.2
  have oq : ∀ q : Nat, q ≠ w.1 i → (H.setIfInBounds (w.1 i) (cell.setSlot f.slot v))[q]? = H[q]? := fun q hq => by simp [Array.getElem?_setIfInBounds, Ne.symm hq]
  have hnew : jAt D (w.1 i) (.inr (ci, fs.set kf v)) (H.setIfInBounds (w.1 i) (cell.setSlot f.slot v)) := by
    have e1 : (H.setIfInBounds (w.1 i) (cell.setSlot f.slot v))[w.1 i]? = some (cell.setSlot (D.2.1 ci kf) v) := by rw [hsl]; simp [Array.getElem?_setIfInBounds, ha]
    exact ⟨r, hr, t_OB.to (V := updV (vp_V fs) kf v) ⟨_, e1, q2, q3, t_set q4 hap hk v⟩ (fun j _ => vp_updV_set hl v j)⟩
  have hH2 := hH.set hc hnew oq
  rw [hw] at hH2
  have go := kk p e s m args below meth c B K _ _ ls hH2 (hS.put (k := f.slot) (by simp) oq hat.1) hl'
  rcases hlk with h | ⟨host, h⟩ | ⟨ref, h, h2⟩
  · exact W.putf B.1 B.2.1 B.2.2.2.2.1 (hts _ h) hi hst hfn q1 hkn hlt hfits.1 hfs rfl rfl hd go
  · exact va_Wputf B.1 B.2.1 B.2.2.2.2.1 (va_Nw.use rfl (K.2.1 _ h)) hi hst hfn q1 hkn hlt hfits.1 hfs rfl rfl hd go
  · exact W.putf B.1 B.2.1 B.2.2.2.2.1 (hts _ h) (u_same (hts _ h2) _ hi) hst hfn q1 hkn hlt hfits.1 hfs rfl rfl hd go
theorem jArr {H : Heap} {s : State} (K : jK D b s) (hH : Hp D b w H) {i t nn : Nat} {f : Int → Value} (hc : w.2 i = some (.inl (t, nn, f))) : H[w.1 i]? = some (arrV (D.2.2.1 t) nn (fun j => f (j : Int))) ∧ s.isArrayOf (arrV (D.2.2.1 t) nn (fun j => f (j : Int))) (jty t) := by
  obtain ⟨-, ht, h⟩ := hH.1 i _ hc
  exact ⟨h, (K.1.2 t _ (jT_at D ht)).1 nn _⟩
theorem J_alen {i t nn : Nat} {f : Int → Value} (hc : w.2 i = some (.inl (t, nn, f))) (hd : decode Y.2.1 pc = .ok (.arraylength, 1)) (kk : J l D b Y R post w k n (pc + 1) lv (.int (iI nn) :: st)) : J l D b Y R post w k n pc lv (.ref (w.1 i) :: st) := by
  intro p e s m args below meth c B K H locs ls hH hS hl
  obtain ⟨h1, h2⟩ := jArr K hH hc
  exact W.alen (n := iI nn) B.1 B.2.1 h1 h2 (by rw [arrV_size]; exact iI_nat nn) rfl rfl hd (kk p e s m args below meth c B K H locs ls hH hS hl)
theorem rd_at {cI : ClassId} {nn : Nat} {f : Int → Value} {z : Int} (hz : 0 ≤ z ∧ z < nn) (hn : nn ≤ 2147483647) : (arrV cI nn (fun j => f (j : Int))).slots[(iI z).toNatClampNeg]? = some (f z) := by
  rw [iI_clamp (by omega), arrV_read _ _ (by omega)]
  congr 2
  omega
theorem J_iald {i nn : Nat} {G : Int → Int} {z : Int} (hc : w.2 i = some (.inl (0, nn, fun j => .int (iI (G j))))) (hz : 0 ≤ z ∧ z < nn) (hn : nn ≤ 2147483647) (hd : decode Y.2.1 pc = .ok (.iaload, 1)) (kk : J l D b Y R post w k n (pc + 1) lv (.int (iI (G z)) :: st)) : J l D b Y R post w k n pc lv (.int (iI z) :: .ref (w.1 i) :: st) := by
  intro p e s m args below meth c B K H locs ls hH hS hl
  obtain ⟨h1, h2⟩ := jArr K hH hc
  exact W.iald B.1 B.2.1 h1 h2 (fun q => by cases q) (by rw [arrV_size]; exact iI_in hz hn) (rd_at (f := fun j => .int (iI (G j))) hz hn) rfl rfl hd (kk p e s m args below meth c B K H locs ls hH hS hl)
theorem J_sald {i nn : Nat} {G : Int → Int} {z : Int} (hc : w.2 i = some (.inl (2, nn, fun j => .int (iI (G j))))) (hz : 0 ≤ z ∧ z < nn) (hn : nn ≤ 2147483647) (hd : decode Y.2.1 pc = .ok (.saload, 1)) (kk : J l D b Y R post w k n (pc + 1) lv (.int (iI (G z)) :: st)) : J l D b Y R post w k n pc lv (.int (iI z) :: .ref (w.1 i) :: st) := by
  intro p e s m args below meth c B K H locs ls hH hS hl
  obtain ⟨h1, h2⟩ := jArr K hH hc
  exact W.sald B.1 B.2.1 h1 h2 (fun q => by cases q) (by rw [arrV_size]; exact iI_in hz hn) (rd_at (f := fun j => .int (iI (G j))) hz hn) rfl rfl hd (kk p e s m args below meth c B K H locs ls hH hS hl)
theorem J_zald {i nn : Nat} {G : Int → Bool} {z : Int} (hc : w.2 i = some (.inl (3, nn, fun j => .int (iI (bz (G j)))))) (hz : 0 ≤ z ∧ z < nn) (hn : nn ≤ 2147483647) (hd : decode Y.2.1 pc = .ok (.baload, 1)) (kk : J l D b Y R post w k n (pc + 1) lv (.int (iI (bz (G z))) :: st)) : J l D b Y R post w k n pc lv (.int (iI z) :: .ref (w.1 i) :: st) := by
  intro p e s m args below meth c B K H locs ls hH hS hl
  obtain ⟨h1, h2⟩ := jArr K hH hc
  exact W.zald B.1 B.2.1 h1 h2 (fun q => by cases q) (by rw [arrV_size]; exact iI_in hz hn) (rd_at (f := fun j => .int (iI (bz (G j)))) hz hn) rfl rfl hd (kk p e s m args below meth c B K H locs ls hH hS hl)
theorem J_lald {i nn : Nat} {G : Int → Int} {z : Int} (hc : w.2 i = some (.inl (1, nn, fun j => .long (iL (G j))))) (hz : 0 ≤ z ∧ z < nn) (hn : nn ≤ 2147483647) (hd : decode Y.2.1 pc = .ok (.laload, 1)) (kk : J l D b Y R post w k n (pc + 1) lv (.long (iL (G z)) :: st)) : J l D b Y R post w k n pc lv (.int (iI z) :: .ref (w.1 i) :: st) := by
  intro p e s m args below meth c B K H locs ls hH hS hl
  obtain ⟨h1, h2⟩ := jArr K hH hc
  exact W.lald B.1 B.2.1 h1 h2 (fun q => by cases q) (by rw [arrV_size]; exact iI_in hz hn) (rd_at (f := fun j => .long (iL (G j))) hz hn) rfl rfl hd (kk p e s m args below meth c B K H locs ls hH hS hl)
theorem J_aald {i t nn : Nat} {f : Int → Value} {z : Int} {v : Value} (hc : w.2 i = some (.inl (t, nn, f))) (ht : (jty t).isReference = true) (hz : 0 ≤ z ∧ z < nn) (hn : nn ≤ 2147483647) (hv : f z = v) (hd : decode Y.2.1 pc = .ok (.aaload, 1)) (kk : J l D b Y R post w k n (pc + 1) lv (v :: st)) : J l D b Y R post w k n pc lv (.int (iI z) :: .ref (w.1 i) :: st) := by
  intro p e s m args below meth c B K H locs ls hH hS hl
  obtain ⟨h1, h2⟩ := jArr K hH hc
  subst hv
  exact W.aald B.1 B.2.1 h1 h2 ht (fun q => by cases q) (by rw [arrV_size]; exact iI_in hz hn) (rd_at hz hn) rfl rfl hd (kk p e s m args below meth c B K H locs ls hH hS hl)
theorem st_at {D : jD} {i t nn : Nat} {f : Int → Value} {z : Int} {v : Value} {a : Nat} {H1 : Heap} (ht : t < 9) (hz : 0 ≤ z ∧ z < nn) (hn : nn ≤ 2147483647) (h : H1[a]? = some ((arrV (D.2.2.1 t) nn (fun j => f (j : Int))).setSlot (iI z).toNatClampNeg v)) : jAt D a (.inl (t, nn, upI f z v)) H1 := by
  refine ⟨ht, ?_⟩
  rw [h, arrV_store, iI_clamp (by omega)]
  congr 2
  funext j
  show (if j = z.toNat then v else f (j : Int)) = if (j : Int) = z then v else f (j : Int)
  by_cases hj : (j : Int) = z
  · rw [if_pos (by omega), if_pos hj]
  · rw [if_neg (by omega), if_neg hj]
theorem J_iast {i nn : Nat} {G : Int → Int} {z v : Int} {c' : Nat → Option jE} (hc : w.2 i = some (.inl (0, nn, fun j => .int (iI (G j))))) (hz : 0 ≤ z ∧ z < nn) (hn : nn ≤ 2147483647) (hw : va_up w.2 i (some (.inl (0, nn, fun j => .int (iI (upI G z v j))))) = c') (hd : decode Y.2.1 pc = .ok (.iastore, 1)) (kk : J l D b Y R post (w.1, c') k n (pc + 1) lv st) : J l D b Y R post w k n pc lv (.int (iI v) :: .int (iI z) :: .ref (w.1 i) :: st) := by
  intro p e s m args below meth c B K H locs ls hH hS hl
  obtain ⟨h1, h2⟩ := jArr K hH hc
  refine W.iast B.1 B.2.1 h1 h2 (fun q => by cases q) (by rw [arrV_size]; exact iI_in hz hn) rfl rfl hd fun H1 e1 z1 oq => ?_
  have hnew := st_at (i := i) (f := fun j => .int (iI (G j))) (by decide) hz hn e1
  rw [show upI (fun j => Value.int (iI (G j))) z (.int (iI v)) = fun j => .int (iI (upI G z v j)) from upI_map (fun x => Value.int (iI x)) G z v] at hnew
  have hH2 := hH.set hc hnew oq
  rw [hw] at hH2
  exact kk p e s m args below meth c B K _ _ ls hH2 (hS.put z1 oq (hH.1 i _ hc).1) hl
theorem J_sast {i nn : Nat} {G : Int → Int} {z v : Int} {c' : Nat → Option jE} (hc : w.2 i = some (.inl (2, nn, fun j => .int (iI (G j))))) (hz : 0 ≤ z ∧ z < nn) (hn : nn ≤ 2147483647) (hv : -32768 ≤ v ∧ v ≤ 32767) (hw : va_up w.2 i (some (.inl (2, nn, fun j => .int (iI (upI G z v j))))) = c') (hd : decode Y.2.1 pc = .ok (.sastore, 1)) (kk : J l D b Y R post (w.1, c') k n (pc + 1) lv st) : J l D b Y R post w k n pc lv (.int (iI v) :: .int (iI z) :: .ref (w.1 i) :: st) := by
  intro p e s m args below meth c B K H locs ls hH hS hl
  obtain ⟨h1, h2⟩ := jArr K hH hc
  refine W.sast B.1 B.2.1 h1 h2 (fun q => by cases q) (by rw [arrV_size]; exact iI_in hz hn) rfl rfl hd fun H1 e1 z1 oq => ?_
  rw [nar_s hv] at e1
  have hnew := st_at (i := i) (f := fun j => .int (iI (G j))) (by decide) hz hn e1
  rw [show upI (fun j => Value.int (iI (G j))) z (.int (iI v)) = fun j => .int (iI (upI G z v j)) from upI_map (fun x => Value.int (iI x)) G z v] at hnew
  have hH2 := hH.set hc hnew oq
  rw [hw] at hH2
  exact kk p e s m args below meth c B K _ _ ls hH2 (hS.put z1 oq (hH.1 i _ hc).1) hl
theorem J_zast {i nn : Nat} {G : Int → Bool} {z : Int} {v : Bool} {c' : Nat → Option jE} (hc : w.2 i = some (.inl (3, nn, fun j => .int (iI (bz (G j)))))) (hz : 0 ≤ z ∧ z < nn) (hn : nn ≤ 2147483647) (hw : va_up w.2 i (some (.inl (3, nn, fun j => .int (iI (bz (upI G z v j)))))) = c') (hd : decode Y.2.1 pc = .ok (.bastore, 1)) (kk : J l D b Y R post (w.1, c') k n (pc + 1) lv st) : J l D b Y R post w k n pc lv (.int (iI (bz v)) :: .int (iI z) :: .ref (w.1 i) :: st) := by
  intro p e s m args below meth c B K H locs ls hH hS hl
  obtain ⟨h1, h2⟩ := jArr K hH hc
  refine W.zast B.1 B.2.1 h1 h2 (fun q => by cases q) (by rw [arrV_size]; exact iI_in hz hn) rfl rfl hd fun H1 e1 z1 oq => ?_
  rw [nar_z v] at e1
  have hnew := st_at (i := i) (f := fun j => .int (iI (bz (G j)))) (by decide) hz hn e1
  rw [show upI (fun j => Value.int (iI (bz (G j)))) z (.int (iI (bz v))) = fun j => .int (iI (bz (upI G z v j))) from upI_map (fun x => Value.int (iI (bz x))) G z v] at hnew
  have hH2 := hH.set hc hnew oq
  rw [hw] at hH2
  exact kk p e s m args below meth c B K _ _ ls hH2 (hS.put z1 oq (hH.1 i _ hc).1) hl
theorem J_last {i nn : Nat} {G : Int → Int} {z v : Int} {c' : Nat → Option jE} (hc : w.2 i = some (.inl (1, nn, fun j => .long (iL (G j))))) (hz : 0 ≤ z ∧ z < nn) (hn : nn ≤ 2147483647) (hw : va_up w.2 i (some (.inl (1, nn, fun j => .long (iL (upI G z v j))))) = c') (hd : decode Y.2.1 pc = .ok (.lastore, 1)) (kk : J l D b Y R post (w.1, c') k n (pc + 1) lv st) : J l D b Y R post w k n pc lv (.long (iL v) :: .int (iI z) :: .ref (w.1 i) :: st) := by
  intro p e s m args below meth c B K H locs ls hH hS hl
  obtain ⟨h1, h2⟩ := jArr K hH hc
  refine W.last B.1 B.2.1 h1 h2 (fun q => by cases q) (by rw [arrV_size]; exact iI_in hz hn) rfl rfl hd fun H1 e1 z1 oq => ?_
  have hnew := st_at (i := i) (f := fun j => .long (iL (G j))) (by decide) hz hn e1
  rw [show upI (fun j => Value.long (iL (G j))) z (.long (iL v)) = fun j => .long (iL (upI G z v j)) from upI_map (fun x => Value.long (iL x)) G z v] at hnew
  have hH2 := hH.set hc hnew oq
  rw [hw] at hH2
  exact kk p e s m args below meth c B K _ _ ls hH2 (hS.put z1 oq (hH.1 i _ hc).1) hl
/-- ends -/
theorem jQ_ret {s t : State} {args : Array Value} {H : Heap} {locs : List Loc} {v : Option Value} (hp : post v w) (K : jK D b s) (hH : Hp D b w H) (hS : va_S (fun q => b ≤ q) s.heap H locs) (ht : t.heap = H) (hW : s.WarmedH t.vm) : jQ D b post args s (.returned v) t :=
  ⟨⟨v, w, rfl, hp, by rw [ht]; exact hH, K.warm hW (by rw [ht]; exact hS.1) (fun q h1 h2 => by rw [ht]; exact hS.2.1 q h1 h2)⟩, hS.F ht⟩
theorem J_iret {z : Int} (hr : Y.2.2.2 = some .int) (hd : decode Y.2.1 pc = .ok (.ireturn, 1)) (hk : k ≤ R.cells ∧ n ≤ R.slots) (hp : post (some (.int (iI z))) w) : J l D b Y R post w k n pc lv [.int (iI z)] :=
  fun p e s m args below meth c B K H locs ls hH hS hl => W.widen hk.1 hk.2 (W.iret B.1 B.2.1 (B.2.2.1.trans hr) (fun t ht hW => jQ_ret hp K hH hS ht hW) hS.2.2 hd B.2.2.2.2.2.2.1)
theorem J_zret {q : Bool} (hr : Y.2.2.2 = some .boolean) (hd : decode Y.2.1 pc = .ok (.ireturn, 1)) (hk : k ≤ R.cells ∧ n ≤ R.slots) (hp : post (some (.int (iI (bz q)))) w) : J l D b Y R post w k n pc lv [.int (iI (bz q))] :=
  fun p e s m args below meth c B K H locs ls hH hS hl => W.widen hk.1 hk.2 (W.zret B.1 B.2.1 (B.2.2.1.trans hr) (nar_z q) (fun t ht hW => jQ_ret hp K hH hS ht hW) hS.2.2 hd B.2.2.2.2.2.2.1)
theorem J_lret {z : Int} (hr : Y.2.2.2 = some .long) (hd : decode Y.2.1 pc = .ok (.lreturn, 1)) (hk : k ≤ R.cells ∧ n ≤ R.slots) (hp : post (some (.long (iL z))) w) : J l D b Y R post w k n pc lv [.long (iL z)] :=
  fun p e s m args below meth c B K H locs ls hH hS hl => W.widen hk.1 hk.2 (W.lret B.1 B.2.1 (B.2.2.1.trans hr) (fun t ht hW => jQ_ret hp K hH hS ht hW) hS.2.2 hd B.2.2.2.2.2.2.1)
theorem J_vret (hr : Y.2.2.2 = none) (hd : decode Y.2.1 pc = .ok (.return_, 1)) (hk : k ≤ R.cells ∧ n ≤ R.slots) (hp : post none w) : J l D b Y R post w k n pc lv [] :=
  fun p e s m args below meth c B K H locs ls hH hS hl => W.widen hk.1 hk.2 (W.vret B.1 B.2.1 (B.2.2.1.trans hr) (fun t ht hW => jQ_ret hp K hH hS ht hW) hS.2.2 hd B.2.2.2.2.2.2.1)
theorem J_aret {a : Nat} {C : String} (hr : Y.2.2.2 = some (.object C)) (hd : decode Y.2.1 pc = .ok (.areturn, 1)) (hk : k ≤ R.cells ∧ n ≤ R.slots) (hp : post (some (.ref a)) w) : J l D b Y R post w k n pc lv [.ref a] :=
  fun p e s m args below meth c B K H locs ls hH hS hl => W.widen hk.1 hk.2 (W.aret B.1 B.2.1 (B.2.2.1.trans hr) (Or.inl ⟨_, rfl⟩) (Or.inr ⟨_, rfl⟩) (fun t ht hW => jQ_ret hp K hH hS ht hW) hS.2.2 hd B.2.2.2.2.2.2.1)
end JH
