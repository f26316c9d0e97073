section XR
variable {l : Launch} {D : jD} {b : Nat} {Y : jM} {R : Room} {X : String} {post : jW → Prop} {w : jW} {k n pc : Nat} {lv : List (Nat × Value)} {st : List Value}
theorem JX.sub (ks : List Nat) {lv' : List (Nat × Value)} (h : lv_pick lv ks = lv') (kk : JX l D b Y R X post w k n pc lv' st) : JX l D b Y R X post w k n pc lv st :=
  fun p e s m args below meth c B K H locs ls hH hS hl => kk p e s m args below meth c B K H locs ls hH hS (lv_sub hl ks h)
theorem JX.more {k' n' : Nat} (h1 : k ≤ k') (h2 : n ≤ n') (kk : JX l D b Y R X post w k' n' pc lv st) : JX l D b Y R X post w k n pc lv st :=
  fun p e s m args below meth c B K H locs ls hH hS hl => W.widen h1 h2 (kk p e s m args below meth c B K H locs ls hH hS hl)
theorem JX.world {w' : jW} (h : w = w') (kk : JX l D b Y R X post w' k n pc lv st) : JX l D b Y R X post w k n pc lv st := h ▸ kk
theorem JX.drop {c : Nat → Option jE} (hc : ∀ i e, c i = some e → w.2 i = some e) (kk : JX l D b Y R X post (w.1, c) k n pc lv st) : JX l D b Y R X post w k n pc lv st :=
  fun p e s m args below meth c B K H locs ls hH hS hl => kk p e s m args below meth c B K H locs ls (hH.drop hc) hS hl
theorem JX.top {x y : Value} (h : x = y) (kk : JX l D b Y R X post w k n pc lv (y :: st)) : JX l D b Y R X post w k n pc lv (x :: st) := h ▸ kk
theorem JX.stk {st' : List Value} (h : st = st') (kk : JX l D b Y R X post w k n pc lv st') : JX l D b Y R X post w k n pc lv st := h ▸ kk
theorem JX.loc {lv' : List (Nat × Value)} (h : lv = lv') (kk : JX l D b Y R X post w k n pc lv' st) : JX l D b Y R X post w k n pc lv st := h ▸ kk
theorem JX.at {pc' : Nat} (h : pc = pc') (kk : JX l D b Y R X post w k n pc' lv st) : JX l D b Y R X post w k n pc lv st := h ▸ kk
theorem JX.loop {σ : Type} (I : σ → Prop) (μ : σ → Nat) {ws : σ → jW} {ks ns : σ → Nat} {lvs : σ → List (Nat × Value)} {sts : σ → List Value}
    (h : ∀ x, I x → (∀ y, I y → μ y < μ x → JX l D b Y R X post (ws y) (ks y) (ns y) pc (lvs y) (sts y)) → JX l D b Y R X post (ws x) (ks x) (ns x) pc (lvs x) (sts x)) : ∀ x, I x → JX l D b Y R X post (ws x) (ks x) (ns x) pc (lvs x) (sts x) := by
  have key : ∀ (n : Nat) x, μ x ≤ n → I x → JX l D b Y R X post (ws x) (ks x) (ns x) pc (lvs x) (sts x) := by
    intro n
    induction n with
    | zero => exact fun x hx hI => h x hI (fun y _ hy => absurd hy (by omega))
    | succ n ih => exact fun x hx hI => h x hI (fun y hIy hy => ih y (by omega) hIy)
  exact fun x hI => key (μ x) x (Nat.le_refl _) hI
theorem X_iconst {z : Int} (hd : decode Y.2.1 pc = .ok (.iconst z, 1)) (kk : JX l D b Y R X post w k n (pc + 1) lv (.int (iI z) :: st)) : JX l D b Y R X post w k n pc lv (st) :=
  fun p e s m args below meth c B K H locs ls hH hS hl => lv_iconst B.1 B.2.1 hd rfl (kk p e s m args below meth c B K H locs ls hH hS hl)
theorem X_bipush {z : Int} (hd : decode Y.2.1 pc = .ok (.bipush z, 2)) (hv : (Int8.ofInt z).toInt32 = iI z) (kk : JX l D b Y R X post w k n (pc + 2) lv (.int (iI z) :: st)) : JX l D b Y R X post w k n pc lv (st) :=
  fun p e s m args below meth c B K H locs ls hH hS hl => lv_bipush B.1 B.2.1 hd hv (kk p e s m args below meth c B K H locs ls hH hS hl)
theorem X_sipush {z : Int} (hd : decode Y.2.1 pc = .ok (.sipush z, 3)) (hv : (Int16.ofInt z).toInt32 = iI z) (kk : JX l D b Y R X post w k n (pc + 3) lv (.int (iI z) :: st)) : JX l D b Y R X post w k n pc lv (st) :=
  fun p e s m args below meth c B K H locs ls hH hS hl => lv_sipush B.1 B.2.1 hd hv (kk p e s m args below meth c B K H locs ls hH hS hl)
theorem X_lconst {q : Fin 2} {z : Int} (hd : decode Y.2.1 pc = .ok (.lconst q, 1)) (hv : Int64.ofNat (q : Nat) = iL z) (kk : JX l D b Y R X post w k n (pc + 1) lv (.long (iL z) :: st)) : JX l D b Y R X post w k n pc lv (st) :=
  fun p e s m args below meth c B K H locs ls hH hS hl => lv_lconst B.1 B.2.1 hd hv (kk p e s m args below meth c B K H locs ls hH hS hl)
theorem X_null (hd : decode Y.2.1 pc = .ok (.aconst_null, 1)) (kk : JX l D b Y R X post w k n (pc + 1) lv (.null :: st)) : JX l D b Y R X post w k n pc lv (st) :=
  fun p e s m args below meth c B K H locs ls hH hS hl => lv_null B.1 B.2.1 hd (kk p e s m args below meth c B K H locs ls hH hS hl)
theorem X_iload_n {q : Fin 4} {i : Nat} {x : Int32} (hd : decode Y.2.1 pc = .ok (.iload_n q, 1)) (hi : (q : Nat) = i) (j : Nat) (hj : lv[j]? = some (i, .int x)) (kk : JX l D b Y R X post w k n (pc + 1) lv (.int x :: st)) : JX l D b Y R X post w k n pc lv (st) :=
  fun p e s m args below meth c B K H locs ls hH hS hl => lv_iload_n B.1 B.2.1 hd hi (lv_at hl j hj) (kk p e s m args below meth c B K H locs ls hH hS hl)
theorem X_iload {i : Nat} {x : Int32} (hd : decode Y.2.1 pc = .ok (.iload i, 2)) (j : Nat) (hj : lv[j]? = some (i, .int x)) (kk : JX l D b Y R X post w k n (pc + 2) lv (.int x :: st)) : JX l D b Y R X post w k n pc lv (st) :=
  fun p e s m args below meth c B K H locs ls hH hS hl => lv_iload B.1 B.2.1 hd (lv_at hl j hj) (kk p e s m args below meth c B K H locs ls hH hS hl)
theorem X_lload_n {q : Fin 4} {i : Nat} {x : Int64} (hd : decode Y.2.1 pc = .ok (.lload_n q, 1)) (hi : (q : Nat) = i) (j : Nat) (hj : lv[j]? = some (i, .long x)) (kk : JX l D b Y R X post w k n (pc + 1) lv (.long x :: st)) : JX l D b Y R X post w k n pc lv (st) :=
  fun p e s m args below meth c B K H locs ls hH hS hl => lv_lload_n B.1 B.2.1 hd hi (lv_at hl j hj) (kk p e s m args below meth c B K H locs ls hH hS hl)
theorem X_lload {i : Nat} {x : Int64} (hd : decode Y.2.1 pc = .ok (.lload i, 2)) (j : Nat) (hj : lv[j]? = some (i, .long x)) (kk : JX l D b Y R X post w k n (pc + 2) lv (.long x :: st)) : JX l D b Y R X post w k n pc lv (st) :=
  fun p e s m args below meth c B K H locs ls hH hS hl => lv_lload B.1 B.2.1 hd (lv_at hl j hj) (kk p e s m args below meth c B K H locs ls hH hS hl)
theorem X_aload_n {q : Fin 4} {i : Nat} {x : Nat} (hd : decode Y.2.1 pc = .ok (.aload_n q, 1)) (hi : (q : Nat) = i) (j : Nat) (hj : lv[j]? = some (i, .ref x)) (kk : JX l D b Y R X post w k n (pc + 1) lv (.ref x :: st)) : JX l D b Y R X post w k n pc lv (st) :=
  fun p e s m args below meth c B K H locs ls hH hS hl => lv_aload_n B.1 B.2.1 hd hi (lv_at hl j hj) (kk p e s m args below meth c B K H locs ls hH hS hl)
theorem X_aload {i : Nat} {x : Nat} (hd : decode Y.2.1 pc = .ok (.aload i, 2)) (j : Nat) (hj : lv[j]? = some (i, .ref x)) (kk : JX l D b Y R X post w k n (pc + 2) lv (.ref x :: st)) : JX l D b Y R X post w k n pc lv (st) :=
  fun p e s m args below meth c B K H locs ls hH hS hl => lv_aload B.1 B.2.1 hd (lv_at hl j hj) (kk p e s m args below meth c B K H locs ls hH hS hl)
theorem X_istore_n {q : Fin 4} {i : Nat} {x : Int32} {lv' : List (Nat × Value)} (hd : decode Y.2.1 pc = .ok (.istore_n q, 1)) (hi : (q : Nat) = i) (hn : i < Y.2.2.1) (hlv : (i, Value.int x) :: lv.filter (fun q => !(q.1 == i) && !(q.1 + 1 == i && q.2.category == 2)) = lv') (kk : JX l D b Y R X post w k n (pc + 1) lv' st) : JX l D b Y R X post w k n pc lv (.int x :: st) :=
  fun p e s m args below meth c B K H locs ls hH hS hl => lv_istore_n B.1 B.2.1 hd hi hl hn hlv (fun ls2 hl2 => kk p e s m args below meth c B K H locs ls2 hH hS hl2)
theorem X_istore {i : Nat} {x : Int32} {lv' : List (Nat × Value)} (hd : decode Y.2.1 pc = .ok (.istore i, 2)) (hn : i < Y.2.2.1) (hlv : (i, Value.int x) :: lv.filter (fun q => !(q.1 == i) && !(q.1 + 1 == i && q.2.category == 2)) = lv') (kk : JX l D b Y R X post w k n (pc + 2) lv' st) : JX l D b Y R X post w k n pc lv (.int x :: st) :=
  fun p e s m args below meth c B K H locs ls hH hS hl => lv_istore B.1 B.2.1 hd hl hn hlv (fun ls2 hl2 => kk p e s m args below meth c B K H locs ls2 hH hS hl2)
theorem X_lstore_n {q : Fin 4} {i : Nat} {x : Int64} {lv' : List (Nat × Value)} (hd : decode Y.2.1 pc = .ok (.lstore_n q, 1)) (hi : (q : Nat) = i) (hn : i + 1 < Y.2.2.1) (hlv : (i, Value.long x) :: lv.filter (fun q => !(q.1 == i) && (!(q.1 == i + 1) && !(q.1 + 1 == i && q.2.category == 2))) = lv') (kk : JX l D b Y R X post w k n (pc + 1) lv' st) : JX l D b Y R X post w k n pc lv (.long x :: st) :=
  fun p e s m args below meth c B K H locs ls hH hS hl => lv_lstore_n B.1 B.2.1 hd hi hl hn hlv (fun ls2 hl2 => kk p e s m args below meth c B K H locs ls2 hH hS hl2)
theorem X_lstore {i : Nat} {x : Int64} {lv' : List (Nat × Value)} (hd : decode Y.2.1 pc = .ok (.lstore i, 2)) (hn : i + 1 < Y.2.2.1) (hlv : (i, Value.long x) :: lv.filter (fun q => !(q.1 == i) && (!(q.1 == i + 1) && !(q.1 + 1 == i && q.2.category == 2))) = lv') (kk : JX l D b Y R X post w k n (pc + 2) lv' st) : JX l D b Y R X post w k n pc lv (.long x :: st) :=
  fun p e s m args below meth c B K H locs ls hH hS hl => lv_lstore B.1 B.2.1 hd hl hn hlv (fun ls2 hl2 => kk p e s m args below meth c B K H locs ls2 hH hS hl2)
theorem X_astore_n {q : Fin 4} {i : Nat} {x : Nat} {lv' : List (Nat × Value)} (hd : decode Y.2.1 pc = .ok (.astore_n q, 1)) (hi : (q : Nat) = i) (hn : i < Y.2.2.1) (hlv : (i, Value.ref x) :: lv.filter (fun q => !(q.1 == i) && !(q.1 + 1 == i && q.2.category == 2)) = lv') (kk : JX l D b Y R X post w k n (pc + 1) lv' st) : JX l D b Y R X post w k n pc lv (.ref x :: st) :=
  fun p e s m args below meth c B K H locs ls hH hS hl => lv_astore_n B.1 B.2.1 hd hi hl hn hlv (fun ls2 hl2 => kk p e s m args below meth c B K H locs ls2 hH hS hl2)
theorem X_astore {i : Nat} {x : Nat} {lv' : List (Nat × Value)} (hd : decode Y.2.1 pc = .ok (.astore i, 2)) (hn : i < Y.2.2.1) (hlv : (i, Value.ref x) :: lv.filter (fun q => !(q.1 == i) && !(q.1 + 1 == i && q.2.category == 2)) = lv') (kk : JX l D b Y R X post w k n (pc + 2) lv' st) : JX l D b Y R X post w k n pc lv (.ref x :: st) :=
  fun p e s m args below meth c B K H locs ls hH hS hl => lv_astore B.1 B.2.1 hd hl hn hlv (fun ls2 hl2 => kk p e s m args below meth c B K H locs ls2 hH hS hl2)
theorem X_iinc {i j : Nat} {z a : Int} {lv' : List (Nat × Value)} (hd : decode Y.2.1 pc = .ok (.iinc i z, 3)) (hj : lv[j]? = some (i, .int (iI a))) (hn : i < Y.2.2.1) (hlv : (i, Value.int (iI (a + z))) :: lv.filter (fun q => !(q.1 == i) && !(q.1 + 1 == i && q.2.category == 2)) = lv') (kk : JX l D b Y R X post w k n (pc + 3) lv' st) : JX l D b Y R X post w k n pc lv st :=
  fun p e s m args below meth c B K H locs ls hH hS hl => lv_iinc B.1 B.2.1 hd hl hj (iI_add a z) hn hlv (fun ls2 hl2 => kk p e s m args below meth c B K H locs ls2 hH hS hl2)
theorem X_iadd {x y : Int} (hd : decode Y.2.1 pc = .ok (.iadd, 1)) (kk : JX l D b Y R X post w k n (pc + 1) lv (.int (iI (x + y)) :: st)) : JX l D b Y R X post w k n pc lv (.int (iI y) :: .int (iI x) :: st) :=
  fun p e s m args below meth c B K H locs ls hH hS hl => lv_iadd B.1 B.2.1 hd (by rw [iI_add]; exact kk p e s m args below meth c B K H locs ls hH hS hl)
theorem X_isub {x y : Int} (hd : decode Y.2.1 pc = .ok (.isub, 1)) (kk : JX l D b Y R X post w k n (pc + 1) lv (.int (iI (x - y)) :: st)) : JX l D b Y R X post w k n pc lv (.int (iI y) :: .int (iI x) :: st) :=
  fun p e s m args below meth c B K H locs ls hH hS hl => lv_isub B.1 B.2.1 hd (by rw [iI_sub]; exact kk p e s m args below meth c B K H locs ls hH hS hl)
theorem X_imul {x y : Int} (hd : decode Y.2.1 pc = .ok (.imul, 1)) (kk : JX l D b Y R X post w k n (pc + 1) lv (.int (iI (x * y)) :: st)) : JX l D b Y R X post w k n pc lv (.int (iI y) :: .int (iI x) :: st) :=
  fun p e s m args below meth c B K H locs ls hH hS hl => lv_imul B.1 B.2.1 hd (by rw [iI_mul]; exact kk p e s m args below meth c B K H locs ls hH hS hl)
theorem X_idiv {x y : Int} (hd : decode Y.2.1 pc = .ok (.idiv, 1)) (hx : 0 ≤ x ∧ x ≤ 2147483647) (hy : 0 < y ∧ y ≤ 2147483647) (kk : JX l D b Y R X post w k n (pc + 1) lv (.int (iI (x / y)) :: st)) : JX l D b Y R X post w k n pc lv (.int (iI y) :: .int (iI x) :: st) :=
  fun p e s m args below meth c B K H locs ls hH hS hl => lv_idiv B.1 B.2.1 hd (fun h => absurd ((iI_eq (b := 0) (by omega) (by omega)).mp h) (by omega)) (by rw [iI_div hx hy]; exact kk p e s m args below meth c B K H locs ls hH hS hl)
theorem X_irem {x y : Int} (hd : decode Y.2.1 pc = .ok (.irem, 1)) (hx : 0 ≤ x ∧ x ≤ 2147483647) (hy : 0 < y ∧ y ≤ 2147483647) (kk : JX l D b Y R X post w k n (pc + 1) lv (.int (iI (x % y)) :: st)) : JX l D b Y R X post w k n pc lv (.int (iI y) :: .int (iI x) :: st) :=
  fun p e s m args below meth c B K H locs ls hH hS hl => lv_irem B.1 B.2.1 hd (fun h => absurd ((iI_eq (b := 0) (by omega) (by omega)).mp h) (by omega)) (by rw [iI_rem hx hy]; exact kk p e s m args below meth c B K H locs ls hH hS hl)
theorem X_ladd {x y : Int} (hd : decode Y.2.1 pc = .ok (.ladd, 1)) (kk : JX l D b Y R X post w k n (pc + 1) lv (.long (iL (x + y)) :: st)) : JX l D b Y R X post w k n pc lv (.long (iL y) :: .long (iL x) :: st) :=
  fun p e s m args below meth c B K H locs ls hH hS hl => lv_ladd B.1 B.2.1 hd (by rw [iL_add]; exact kk p e s m args below meth c B K H locs ls hH hS hl)
theorem X_lsub {x y : Int} (hd : decode Y.2.1 pc = .ok (.lsub, 1)) (kk : JX l D b Y R X post w k n (pc + 1) lv (.long (iL (x - y)) :: st)) : JX l D b Y R X post w k n pc lv (.long (iL y) :: .long (iL x) :: st) :=
  fun p e s m args below meth c B K H locs ls hH hS hl => lv_lsub B.1 B.2.1 hd (by rw [iL_sub]; exact kk p e s m args below meth c B K H locs ls hH hS hl)
theorem X_lmul {x y : Int} (hd : decode Y.2.1 pc = .ok (.lmul, 1)) (kk : JX l D b Y R X post w k n (pc + 1) lv (.long (iL (x * y)) :: st)) : JX l D b Y R X post w k n pc lv (.long (iL y) :: .long (iL x) :: st) :=
  fun p e s m args below meth c B K H locs ls hH hS hl => lv_lmul B.1 B.2.1 hd (by rw [iL_mul]; exact kk p e s m args below meth c B K H locs ls hH hS hl)
theorem X_ldiv {x y : Int} (hd : decode Y.2.1 pc = .ok (.ldiv, 1)) (hx : 0 ≤ x ∧ x ≤ 9223372036854775807) (hy : 0 < y ∧ y ≤ 9223372036854775807) (kk : JX l D b Y R X post w k n (pc + 1) lv (.long (iL (x / y)) :: st)) : JX l D b Y R X post w k n pc lv (.long (iL y) :: .long (iL x) :: st) :=
  fun p e s m args below meth c B K H locs ls hH hS hl => lv_ldiv B.1 B.2.1 hd (fun h => absurd ((iL_eq (b := 0) (by omega) (by omega)).mp h) (by omega)) (by rw [iL_div hx hy]; exact kk p e s m args below meth c B K H locs ls hH hS hl)
theorem X_lrem {x y : Int} (hd : decode Y.2.1 pc = .ok (.lrem, 1)) (hx : 0 ≤ x ∧ x ≤ 9223372036854775807) (hy : 0 < y ∧ y ≤ 9223372036854775807) (kk : JX l D b Y R X post w k n (pc + 1) lv (.long (iL (x % y)) :: st)) : JX l D b Y R X post w k n pc lv (.long (iL y) :: .long (iL x) :: st) :=
  fun p e s m args below meth c B K H locs ls hH hS hl => lv_lrem B.1 B.2.1 hd (fun h => absurd ((iL_eq (b := 0) (by omega) (by omega)).mp h) (by omega)) (by rw [iL_rem hx hy]; exact kk p e s m args below meth c B K H locs ls hH hS hl)
theorem X_iand {x y z : Int32} (hd : decode Y.2.1 pc = .ok (.iand, 1)) (hz : x &&& y = z) (kk : JX l D b Y R X post w k n (pc + 1) lv (.int z :: st)) : JX l D b Y R X post w k n pc lv (.int y :: .int x :: st) :=
  fun p e s m args below meth c B K H locs ls hH hS hl => lv_iand B.1 B.2.1 hd (by rw [hz]; exact kk p e s m args below meth c B K H locs ls hH hS hl)
theorem X_ior {x y z : Int32} (hd : decode Y.2.1 pc = .ok (.ior, 1)) (hz : x ||| y = z) (kk : JX l D b Y R X post w k n (pc + 1) lv (.int z :: st)) : JX l D b Y R X post w k n pc lv (.int y :: .int x :: st) :=
  fun p e s m args below meth c B K H locs ls hH hS hl => lv_ior B.1 B.2.1 hd (by rw [hz]; exact kk p e s m args below meth c B K H locs ls hH hS hl)
theorem X_ixor {x y z : Int32} (hd : decode Y.2.1 pc = .ok (.ixor, 1)) (hz : x ^^^ y = z) (kk : JX l D b Y R X post w k n (pc + 1) lv (.int z :: st)) : JX l D b Y R X post w k n pc lv (.int y :: .int x :: st) :=
  fun p e s m args below meth c B K H locs ls hH hS hl => lv_ixor B.1 B.2.1 hd (by rw [hz]; exact kk p e s m args below meth c B K H locs ls hH hS hl)
theorem X_land {x y z : Int64} (hd : decode Y.2.1 pc = .ok (.land, 1)) (hz : x &&& y = z) (kk : JX l D b Y R X post w k n (pc + 1) lv (.long z :: st)) : JX l D b Y R X post w k n pc lv (.long y :: .long x :: st) :=
  fun p e s m args below meth c B K H locs ls hH hS hl => lv_land B.1 B.2.1 hd (by rw [hz]; exact kk p e s m args below meth c B K H locs ls hH hS hl)
theorem X_lor {x y z : Int64} (hd : decode Y.2.1 pc = .ok (.lor, 1)) (hz : x ||| y = z) (kk : JX l D b Y R X post w k n (pc + 1) lv (.long z :: st)) : JX l D b Y R X post w k n pc lv (.long y :: .long x :: st) :=
  fun p e s m args below meth c B K H locs ls hH hS hl => lv_lor B.1 B.2.1 hd (by rw [hz]; exact kk p e s m args below meth c B K H locs ls hH hS hl)
theorem X_lxor {x y z : Int64} (hd : decode Y.2.1 pc = .ok (.lxor, 1)) (hz : x ^^^ y = z) (kk : JX l D b Y R X post w k n (pc + 1) lv (.long z :: st)) : JX l D b Y R X post w k n pc lv (.long y :: .long x :: st) :=
  fun p e s m args below meth c B K H locs ls hH hS hl => lv_lxor B.1 B.2.1 hd (by rw [hz]; exact kk p e s m args below meth c B K H locs ls hH hS hl)
theorem X_ishl {x y z : Int32} (hd : decode Y.2.1 pc = .ok (.ishl, 1)) (hz : x <<< (y &&& 31) = z) (kk : JX l D b Y R X post w k n (pc + 1) lv (.int z :: st)) : JX l D b Y R X post w k n pc lv (.int y :: .int x :: st) :=
  fun p e s m args below meth c B K H locs ls hH hS hl => lv_ishl B.1 B.2.1 hd (by rw [hz]; exact kk p e s m args below meth c B K H locs ls hH hS hl)
theorem X_ishr {x y z : Int32} (hd : decode Y.2.1 pc = .ok (.ishr, 1)) (hz : x >>> (y &&& 31) = z) (kk : JX l D b Y R X post w k n (pc + 1) lv (.int z :: st)) : JX l D b Y R X post w k n pc lv (.int y :: .int x :: st) :=
  fun p e s m args below meth c B K H locs ls hH hS hl => lv_ishr B.1 B.2.1 hd (by rw [hz]; exact kk p e s m args below meth c B K H locs ls hH hS hl)
theorem X_iushr {x y z : Int32} (hd : decode Y.2.1 pc = .ok (.iushr, 1)) (hz : (x.toUInt32 >>> (y.toUInt32 &&& Int32.toUInt32 31)).toInt32 = z) (kk : JX l D b Y R X post w k n (pc + 1) lv (.int z :: st)) : JX l D b Y R X post w k n pc lv (.int y :: .int x :: st) :=
  fun p e s m args below meth c B K H locs ls hH hS hl => lv_iushr B.1 B.2.1 hd hz (kk p e s m args below meth c B K H locs ls hH hS hl)
theorem X_lshl {x z : Int64} {y : Int32} (hd : decode Y.2.1 pc = .ok (.lshl, 1)) (hz : x <<< (y.toInt64 &&& 63) = z) (kk : JX l D b Y R X post w k n (pc + 1) lv (.long z :: st)) : JX l D b Y R X post w k n pc lv (.int y :: .long x :: st) :=
  fun p e s m args below meth c B K H locs ls hH hS hl => lv_lshl B.1 B.2.1 hd hz (kk p e s m args below meth c B K H locs ls hH hS hl)
theorem X_lshr {x z : Int64} {y : Int32} (hd : decode Y.2.1 pc = .ok (.lshr, 1)) (hz : x >>> (y.toInt64 &&& 63) = z) (kk : JX l D b Y R X post w k n (pc + 1) lv (.long z :: st)) : JX l D b Y R X post w k n pc lv (.int y :: .long x :: st) :=
  fun p e s m args below meth c B K H locs ls hH hS hl => lv_lshr B.1 B.2.1 hd hz (kk p e s m args below meth c B K H locs ls hH hS hl)
theorem X_i2l {x : Int} (hd : decode Y.2.1 pc = .ok (.i2l, 1)) (hx : -2147483648 ≤ x ∧ x ≤ 2147483647) (kk : JX l D b Y R X post w k n (pc + 1) lv (.long (iL x) :: st)) : JX l D b Y R X post w k n pc lv (.int (iI x) :: st) :=
  fun p e s m args below meth c B K H locs ls hH hS hl => lv_i2l B.1 B.2.1 hd (iI_long hx) (kk p e s m args below meth c B K H locs ls hH hS hl)
theorem X_i2s {x : Int} (hd : decode Y.2.1 pc = .ok (.i2s, 1)) (hx : -32768 ≤ x ∧ x ≤ 32767) (kk : JX l D b Y R X post w k n (pc + 1) lv (.int (iI x) :: st)) : JX l D b Y R X post w k n pc lv (.int (iI x) :: st) :=
  fun p e s m args below meth c B K H locs ls hH hS hl => lv_i2s B.1 B.2.1 hd (iI_short hx) (kk p e s m args below meth c B K H locs ls hH hS hl)
theorem X_dup {v : Value} (hd : decode Y.2.1 pc = .ok (.dup, 1)) (hv : v.category = 1) (kk : JX l D b Y R X post w k n (pc + 1) lv (v :: v :: st)) : JX l D b Y R X post w k n pc lv (v :: st) :=
  fun p e s m args below meth c B K H locs ls hH hS hl => lv_dup B.1 B.2.1 hd hv (kk p e s m args below meth c B K H locs ls hH hS hl)
theorem X_pop {v : Value} (hd : decode Y.2.1 pc = .ok (.pop, 1)) (hv : v.category = 1) (kk : JX l D b Y R X post w k n (pc + 1) lv (st)) : JX l D b Y R X post w k n pc lv (v :: st) :=
  fun p e s m args below meth c B K H locs ls hH hS hl => lv_pop B.1 B.2.1 hd hv (kk p e s m args below meth c B K H locs ls hH hS hl)
theorem X_dup_x1 {v u : Value} (hd : decode Y.2.1 pc = .ok (.dup_x1, 1)) (hv : v.category = 1) (hu : u.category = 1) (kk : JX l D b Y R X post w k n (pc + 1) lv (v :: u :: v :: st)) : JX l D b Y R X post w k n pc lv (v :: u :: st) :=
  fun p e s m args below meth c B K H locs ls hH hS hl => lv_dup_x1 B.1 B.2.1 hd hv hu (kk p e s m args below meth c B K H locs ls hH hS hl)
theorem X_dup2 {v u : Value} (hd : decode Y.2.1 pc = .ok (.dup2, 1)) (hv : v.category = 1) (hu : u.category = 1) (kk : JX l D b Y R X post w k n (pc + 1) lv (v :: u :: v :: u :: st)) : JX l D b Y R X post w k n pc lv (v :: u :: st) :=
  fun p e s m args below meth c B K H locs ls hH hS hl => lv_dup2_11 B.1 B.2.1 hd hv hu (kk p e s m args below meth c B K H locs ls hH hS hl)
theorem X_goto {off : Int} {tgt : Nat} (hd : decode Y.2.1 pc = .ok (.goto off, 3)) (ht : (pc : Int) + off = (tgt : Int)) (kk : JX l D b Y R X post w k n tgt lv st) : JX l D b Y R X post w k n pc lv st :=
  fun p e s m args below meth c B K H locs ls hH hS hl => lv_goto B.1 B.2.1 hd ht (kk p e s m args below meth c B K H locs ls hH hS hl)
theorem X_if_eq {x : Int} {off : Int} {tgt : Nat} (hd : decode Y.2.1 pc = .ok (.ifCond .eq off, 3)) (ht : (pc : Int) + off = (tgt : Int)) (hx : -2147483648 ≤ x ∧ x ≤ 2147483647) (kt : x = 0 → JX l D b Y R X post w k n tgt lv st) (kf : x ≠ 0 → JX l D b Y R X post w k n (pc + 3) lv st) : JX l D b Y R X post w k n pc lv (.int (iI x) :: st) := by
  intro p e s m args below meth c B K H locs ls hH hS hl
  have hy0 : iI x = iI 0 ↔ x = 0 := iI_eq hx (by omega)
  have hy1 : iI x < iI 0 ↔ x < 0 := iI_lt hx (by omega)
  have hy2 : iI x ≤ iI 0 ↔ x ≤ 0 := iI_le hx (by omega)
  have hy3 : iI 0 < iI x ↔ 0 < x := iI_lt (by omega) hx
  have hy4 : iI 0 ≤ iI x ↔ 0 ≤ x := iI_le (by omega) hx
  refine lv_if_eq (x := iI x) B.1 B.2.1 hd ht (fun h => kt ?_ p e s m args below meth c B K H locs ls hH hS hl) (fun h => kf ?_ p e s m args below meth c B K H locs ls hH hS hl)
  all_goals (try rw [iI_0] at h); (try simp only [hy0, hy1, hy2, hy3, hy4, ne_eq, Int32.not_lt, Int32.not_le, ge_iff_le, gt_iff_lt, Classical.not_not] at h); (try simp only [ge_iff_le, gt_iff_lt, ne_eq]); (first | exact h | omega)
theorem X_icmp_eq {x y : Int} {off : Int} {tgt : Nat} (hd : decode Y.2.1 pc = .ok (.if_icmp .eq off, 3)) (ht : (pc : Int) + off = (tgt : Int)) (hx : -2147483648 ≤ x ∧ x ≤ 2147483647) (hy : -2147483648 ≤ y ∧ y ≤ 2147483647) (kt : x = y → JX l D b Y R X post w k n tgt lv st) (kf : x ≠ y → JX l D b Y R X post w k n (pc + 3) lv st) : JX l D b Y R X post w k n pc lv (.int (iI y) :: .int (iI x) :: st) := by
  intro p e s m args below meth c B K H locs ls hH hS hl
  have hy0 : iI x = iI y ↔ x = y := iI_eq hx (by omega)
  have hy1 : iI x < iI y ↔ x < y := iI_lt hx (by omega)
  have hy2 : iI x ≤ iI y ↔ x ≤ y := iI_le hx (by omega)
  have hy3 : iI y < iI x ↔ y < x := iI_lt (by omega) hx
  have hy4 : iI y ≤ iI x ↔ y ≤ x := iI_le (by omega) hx
  refine lv_icmp_eq (x := iI x) (y := iI y) B.1 B.2.1 hd ht (fun h => kt ?_ p e s m args below meth c B K H locs ls hH hS hl) (fun h => kf ?_ p e s m args below meth c B K H locs ls hH hS hl)
  all_goals (try rw [iI_0] at h); (try simp only [hy0, hy1, hy2, hy3, hy4, ne_eq, Int32.not_lt, Int32.not_le, ge_iff_le, gt_iff_lt, Classical.not_not] at h); (try simp only [ge_iff_le, gt_iff_lt, ne_eq]); (first | exact h | omega)
theorem X_if_ne {x : Int} {off : Int} {tgt : Nat} (hd : decode Y.2.1 pc = .ok (.ifCond .ne off, 3)) (ht : (pc : Int) + off = (tgt : Int)) (hx : -2147483648 ≤ x ∧ x ≤ 2147483647) (kt : x ≠ 0 → JX l D b Y R X post w k n tgt lv st) (kf : x = 0 → JX l D b Y R X post w k n (pc + 3) lv st) : JX l D b Y R X post w k n pc lv (.int (iI x) :: st) := by
  intro p e s m args below meth c B K H locs ls hH hS hl
  have hy0 : iI x = iI 0 ↔ x = 0 := iI_eq hx (by omega)
  have hy1 : iI x < iI 0 ↔ x < 0 := iI_lt hx (by omega)
  have hy2 : iI x ≤ iI 0 ↔ x ≤ 0 := iI_le hx (by omega)
  have hy3 : iI 0 < iI x ↔ 0 < x := iI_lt (by omega) hx
  have hy4 : iI 0 ≤ iI x ↔ 0 ≤ x := iI_le (by omega) hx
  refine lv_if_ne (x := iI x) B.1 B.2.1 hd ht (fun h => kt ?_ p e s m args below meth c B K H locs ls hH hS hl) (fun h => kf ?_ p e s m args below meth c B K H locs ls hH hS hl)
  all_goals (try rw [iI_0] at h); (try simp only [hy0, hy1, hy2, hy3, hy4, ne_eq, Int32.not_lt, Int32.not_le, ge_iff_le, gt_iff_lt, Classical.not_not] at h); (try simp only [ge_iff_le, gt_iff_lt, ne_eq]); (first | exact h | omega)
theorem X_icmp_ne {x y : Int} {off : Int} {tgt : Nat} (hd : decode Y.2.1 pc = .ok (.if_icmp .ne off, 3)) (ht : (pc : Int) + off = (tgt : Int)) (hx : -2147483648 ≤ x ∧ x ≤ 2147483647) (hy : -2147483648 ≤ y ∧ y ≤ 2147483647) (kt : x ≠ y → JX l D b Y R X post w k n tgt lv st) (kf : x = y → JX l D b Y R X post w k n (pc + 3) lv st) : JX l D b Y R X post w k n pc lv (.int (iI y) :: .int (iI x) :: st) := by
  intro p e s m args below meth c B K H locs ls hH hS hl
  have hy0 : iI x = iI y ↔ x = y := iI_eq hx (by omega)
  have hy1 : iI x < iI y ↔ x < y := iI_lt hx (by omega)
  have hy2 : iI x ≤ iI y ↔ x ≤ y := iI_le hx (by omega)
  have hy3 : iI y < iI x ↔ y < x := iI_lt (by omega) hx
  have hy4 : iI y ≤ iI x ↔ y ≤ x := iI_le (by omega) hx
  refine lv_icmp_ne (x := iI x) (y := iI y) B.1 B.2.1 hd ht (fun h => kt ?_ p e s m args below meth c B K H locs ls hH hS hl) (fun h => kf ?_ p e s m args below meth c B K H locs ls hH hS hl)
  all_goals (try rw [iI_0] at h); (try simp only [hy0, hy1, hy2, hy3, hy4, ne_eq, Int32.not_lt, Int32.not_le, ge_iff_le, gt_iff_lt, Classical.not_not] at h); (try simp only [ge_iff_le, gt_iff_lt, ne_eq]); (first | exact h | omega)
theorem X_if_lt {x : Int} {off : Int} {tgt : Nat} (hd : decode Y.2.1 pc = .ok (.ifCond .lt off, 3)) (ht : (pc : Int) + off = (tgt : Int)) (hx : -2147483648 ≤ x ∧ x ≤ 2147483647) (kt : x < 0 → JX l D b Y R X post w k n tgt lv st) (kf : x ≥ 0 → JX l D b Y R X post w k n (pc + 3) lv st) : JX l D b Y R X post w k n pc lv (.int (iI x) :: st) := by
  intro p e s m args below meth c B K H locs ls hH hS hl
  have hy0 : iI x = iI 0 ↔ x = 0 := iI_eq hx (by omega)
  have hy1 : iI x < iI 0 ↔ x < 0 := iI_lt hx (by omega)
  have hy2 : iI x ≤ iI 0 ↔ x ≤ 0 := iI_le hx (by omega)
  have hy3 : iI 0 < iI x ↔ 0 < x := iI_lt (by omega) hx
  have hy4 : iI 0 ≤ iI x ↔ 0 ≤ x := iI_le (by omega) hx
  refine lv_if_lt (x := iI x) B.1 B.2.1 hd ht (fun h => kt ?_ p e s m args below meth c B K H locs ls hH hS hl) (fun h => kf ?_ p e s m args below meth c B K H locs ls hH hS hl)
  all_goals (try rw [iI_0] at h); (try simp only [hy0, hy1, hy2, hy3, hy4, ne_eq, Int32.not_lt, Int32.not_le, ge_iff_le, gt_iff_lt, Classical.not_not] at h); (try simp only [ge_iff_le, gt_iff_lt, ne_eq]); (first | exact h | omega)
theorem X_icmp_lt {x y : Int} {off : Int} {tgt : Nat} (hd : decode Y.2.1 pc = .ok (.if_icmp .lt off, 3)) (ht : (pc : Int) + off = (tgt : Int)) (hx : -2147483648 ≤ x ∧ x ≤ 2147483647) (hy : -2147483648 ≤ y ∧ y ≤ 2147483647) (kt : x < y → JX l D b Y R X post w k n tgt lv st) (kf : x ≥ y → JX l D b Y R X post w k n (pc + 3) lv st) : JX l D b Y R X post w k n pc lv (.int (iI y) :: .int (iI x) :: st) := by
  intro p e s m args below meth c B K H locs ls hH hS hl
  have hy0 : iI x = iI y ↔ x = y := iI_eq hx (by omega)
  have hy1 : iI x < iI y ↔ x < y := iI_lt hx (by omega)
  have hy2 : iI x ≤ iI y ↔ x ≤ y := iI_le hx (by omega)
  have hy3 : iI y < iI x ↔ y < x := iI_lt (by omega) hx
  have hy4 : iI y ≤ iI x ↔ y ≤ x := iI_le (by omega) hx
  refine lv_icmp_lt (x := iI x) (y := iI y) B.1 B.2.1 hd ht (fun h => kt ?_ p e s m args below meth c B K H locs ls hH hS hl) (fun h => kf ?_ p e s m args below meth c B K H locs ls hH hS hl)
  all_goals (try rw [iI_0] at h); (try simp only [hy0, hy1, hy2, hy3, hy4, ne_eq, Int32.not_lt, Int32.not_le, ge_iff_le, gt_iff_lt, Classical.not_not] at h); (try simp only [ge_iff_le, gt_iff_lt, ne_eq]); (first | exact h | omega)
theorem X_if_ge {x : Int} {off : Int} {tgt : Nat} (hd : decode Y.2.1 pc = .ok (.ifCond .ge off, 3)) (ht : (pc : Int) + off = (tgt : Int)) (hx : -2147483648 ≤ x ∧ x ≤ 2147483647) (kt : x ≥ 0 → JX l D b Y R X post w k n tgt lv st) (kf : x < 0 → JX l D b Y R X post w k n (pc + 3) lv st) : JX l D b Y R X post w k n pc lv (.int (iI x) :: st) := by
  intro p e s m args below meth c B K H locs ls hH hS hl
  have hy0 : iI x = iI 0 ↔ x = 0 := iI_eq hx (by omega)
  have hy1 : iI x < iI 0 ↔ x < 0 := iI_lt hx (by omega)
  have hy2 : iI x ≤ iI 0 ↔ x ≤ 0 := iI_le hx (by omega)
  have hy3 : iI 0 < iI x ↔ 0 < x := iI_lt (by omega) hx
  have hy4 : iI 0 ≤ iI x ↔ 0 ≤ x := iI_le (by omega) hx
  refine lv_if_ge (x := iI x) B.1 B.2.1 hd ht (fun h => kt ?_ p e s m args below meth c B K H locs ls hH hS hl) (fun h => kf ?_ p e s m args below meth c B K H locs ls hH hS hl)
  all_goals (try rw [iI_0] at h); (try simp only [hy0, hy1, hy2, hy3, hy4, ne_eq, Int32.not_lt, Int32.not_le, ge_iff_le, gt_iff_lt, Classical.not_not] at h); (try simp only [ge_iff_le, gt_iff_lt, ne_eq]); (first | exact h | omega)
theorem X_icmp_ge {x y : Int} {off : Int} {tgt : Nat} (hd : decode Y.2.1 pc = .ok (.if_icmp .ge off, 3)) (ht : (pc : Int) + off = (tgt : Int)) (hx : -2147483648 ≤ x ∧ x ≤ 2147483647) (hy : -2147483648 ≤ y ∧ y ≤ 2147483647) (kt : x ≥ y → JX l D b Y R X post w k n tgt lv st) (kf : x < y → JX l D b Y R X post w k n (pc + 3) lv st) : JX l D b Y R X post w k n pc lv (.int (iI y) :: .int (iI x) :: st) := by
  intro p e s m args below meth c B K H locs ls hH hS hl
  have hy0 : iI x = iI y ↔ x = y := iI_eq hx (by omega)
  have hy1 : iI x < iI y ↔ x < y := iI_lt hx (by omega)
  have hy2 : iI x ≤ iI y ↔ x ≤ y := iI_le hx (by omega)
  have hy3 : iI y < iI x ↔ y < x := iI_lt (by omega) hx
  have hy4 : iI y ≤ iI x ↔ y ≤ x := iI_le (by omega) hx
  refine lv_icmp_ge (x := iI x) (y := iI y) B.1 B.2.1 hd ht (fun h => kt ?_ p e s m args below meth c B K H locs ls hH hS hl) (fun h => kf ?_ p e s m args below meth c B K H locs ls hH hS hl)
  all_goals (try rw [iI_0] at h); (try simp only [hy0, hy1, hy2, hy3, hy4, ne_eq, Int32.not_lt, Int32.not_le, ge_iff_le, gt_iff_lt, Classical.not_not] at h); (try simp only [ge_iff_le, gt_iff_lt, ne_eq]); (first | exact h | omega)
theorem X_if_gt {x : Int} {off : Int} {tgt : Nat} (hd : decode Y.2.1 pc = .ok (.ifCond .gt off, 3)) (ht : (pc : Int) + off = (tgt : Int)) (hx : -2147483648 ≤ x ∧ x ≤ 2147483647) (kt : x > 0 → JX l D b Y R X post w k n tgt lv st) (kf : x ≤ 0 → JX l D b Y R X post w k n (pc + 3) lv st) : JX l D b Y R X post w k n pc lv (.int (iI x) :: st) := by
  intro p e s m args below meth c B K H locs ls hH hS hl
  have hy0 : iI x = iI 0 ↔ x = 0 := iI_eq hx (by omega)
  have hy1 : iI x < iI 0 ↔ x < 0 := iI_lt hx (by omega)
  have hy2 : iI x ≤ iI 0 ↔ x ≤ 0 := iI_le hx (by omega)
  have hy3 : iI 0 < iI x ↔ 0 < x := iI_lt (by omega) hx
  have hy4 : iI 0 ≤ iI x ↔ 0 ≤ x := iI_le (by omega) hx
  refine lv_if_gt (x := iI x) B.1 B.2.1 hd ht (fun h => kt ?_ p e s m args below meth c B K H locs ls hH hS hl) (fun h => kf ?_ p e s m args below meth c B K H locs ls hH hS hl)
  all_goals (try rw [iI_0] at h); (try simp only [hy0, hy1, hy2, hy3, hy4, ne_eq, Int32.not_lt, Int32.not_le, ge_iff_le, gt_iff_lt, Classical.not_not] at h); (try simp only [ge_iff_le, gt_iff_lt, ne_eq]); (first | exact h | omega)
theorem X_icmp_gt {x y : Int} {off : Int} {tgt : Nat} (hd : decode Y.2.1 pc = .ok (.if_icmp .gt off, 3)) (ht : (pc : Int) + off = (tgt : Int)) (hx : -2147483648 ≤ x ∧ x ≤ 2147483647) (hy : -2147483648 ≤ y ∧ y ≤ 2147483647) (kt : x > y → JX l D b Y R X post w k n tgt lv st) (kf : x ≤ y → JX l D b Y R X post w k n (pc + 3) lv st) : JX l D b Y R X post w k n pc lv (.int (iI y) :: .int (iI x) :: st) := by
  intro p e s m args below meth c B K H locs ls hH hS hl
  have hy0 : iI x = iI y ↔ x = y := iI_eq hx (by omega)
  have hy1 : iI x < iI y ↔ x < y := iI_lt hx (by omega)
  have hy2 : iI x ≤ iI y ↔ x ≤ y := iI_le hx (by omega)
  have hy3 : iI y < iI x ↔ y < x := iI_lt (by omega) hx
  have hy4 : iI y ≤ iI x ↔ y ≤ x := iI_le (by omega) hx
  refine lv_icmp_gt (x := iI x) (y := iI y) B.1 B.2.1 hd ht (fun h => kt ?_ p e s m args below meth c B K H locs ls hH hS hl) (fun h => kf ?_ p e s m args below meth c B K H locs ls hH hS hl)
  all_goals (try rw [iI_0] at h); (try simp only [hy0, hy1, hy2, hy3, hy4, ne_eq, Int32.not_lt, Int32.not_le, ge_iff_le, gt_iff_lt, Classical.not_not] at h); (try simp only [ge_iff_le, gt_iff_lt, ne_eq]); (first | exact h | omega)
theorem X_if_le {x : Int} {off : Int} {tgt : Nat} (hd : decode Y.2.1 pc = .ok (.ifCond .le off, 3)) (ht : (pc : Int) + off = (tgt : Int)) (hx : -2147483648 ≤ x ∧ x ≤ 2147483647) (kt : x ≤ 0 → JX l D b Y R X post w k n tgt lv st) (kf : x > 0 → JX l D b Y R X post w k n (pc + 3) lv st) : JX l D b Y R X post w k n pc lv (.int (iI x) :: st) := by
  intro p e s m args below meth c B K H locs ls hH hS hl
  have hy0 : iI x = iI 0 ↔ x = 0 := iI_eq hx (by omega)
  have hy1 : iI x < iI 0 ↔ x < 0 := iI_lt hx (by omega)
  have hy2 : iI x ≤ iI 0 ↔ x ≤ 0 := iI_le hx (by omega)
  have hy3 : iI 0 < iI x ↔ 0 < x := iI_lt (by omega) hx
  have hy4 : iI 0 ≤ iI x ↔ 0 ≤ x := iI_le (by omega) hx
  refine lv_if_le (x := iI x) B.1 B.2.1 hd ht (fun h => kt ?_ p e s m args below meth c B K H locs ls hH hS hl) (fun h => kf ?_ p e s m args below meth c B K H locs ls hH hS hl)
  all_goals (try rw [iI_0] at h); (try simp only [hy0, hy1, hy2, hy3, hy4, ne_eq, Int32.not_lt, Int32.not_le, ge_iff_le, gt_iff_lt, Classical.not_not] at h); (try simp only [ge_iff_le, gt_iff_lt, ne_eq]); (first | exact h | omega)
theorem X_icmp_le {x y : Int} {off : Int} {tgt : Nat} (hd : decode Y.2.1 pc = .ok (.if_icmp .le off, 3)) (ht : (pc : Int) + off = (tgt : Int)) (hx : -2147483648 ≤ x ∧ x ≤ 2147483647) (hy : -2147483648 ≤ y ∧ y ≤ 2147483647) (kt : x ≤ y → JX l D b Y R X post w k n tgt lv st) (kf : x > y → JX l D b Y R X post w k n (pc + 3) lv st) : JX l D b Y R X post w k n pc lv (.int (iI y) :: .int (iI x) :: st) := by
  intro p e s m args below meth c B K H locs ls hH hS hl
  have hy0 : iI x = iI y ↔ x = y := iI_eq hx (by omega)
  have hy1 : iI x < iI y ↔ x < y := iI_lt hx (by omega)
  have hy2 : iI x ≤ iI y ↔ x ≤ y := iI_le hx (by omega)
  have hy3 : iI y < iI x ↔ y < x := iI_lt (by omega) hx
  have hy4 : iI y ≤ iI x ↔ y ≤ x := iI_le (by omega) hx
  refine lv_icmp_le (x := iI x) (y := iI y) B.1 B.2.1 hd ht (fun h => kt ?_ p e s m args below meth c B K H locs ls hH hS hl) (fun h => kf ?_ p e s m args below meth c B K H locs ls hH hS hl)
  all_goals (try rw [iI_0] at h); (try simp only [hy0, hy1, hy2, hy3, hy4, ne_eq, Int32.not_lt, Int32.not_le, ge_iff_le, gt_iff_lt, Classical.not_not] at h); (try simp only [ge_iff_le, gt_iff_lt, ne_eq]); (first | exact h | omega)
theorem X_ifB_eq {q : Bool} {off : Int} {tgt : Nat} (hd : decode Y.2.1 pc = .ok (.ifCond .eq off, 3)) (ht : (pc : Int) + off = (tgt : Int)) (kt : q = false → JX l D b Y R X post w k n tgt lv st) (kf : q = true → JX l D b Y R X post w k n (pc + 3) lv st) : JX l D b Y R X post w k n pc lv (.int (iI (bz q)) :: st) :=
  X_if_eq hd ht (by have := bz_le q; omega) (fun h => kt (by revert h; cases q <;> simp [bz])) (fun h => kf (by revert h; cases q <;> simp [bz]))
theorem X_ifB_ne {q : Bool} {off : Int} {tgt : Nat} (hd : decode Y.2.1 pc = .ok (.ifCond .ne off, 3)) (ht : (pc : Int) + off = (tgt : Int)) (kt : q = true → JX l D b Y R X post w k n tgt lv st) (kf : q = false → JX l D b Y R X post w k n (pc + 3) lv st) : JX l D b Y R X post w k n pc lv (.int (iI (bz q)) :: st) :=
  X_if_ne hd ht (by have := bz_le q; omega) (fun h => kt (by revert h; cases q <;> simp [bz])) (fun h => kf (by revert h; cases q <;> simp [bz]))
theorem X_lcmp {x y : Int} (hd : decode Y.2.1 pc = .ok (.lcmp, 1)) (hx : -9223372036854775808 ≤ x ∧ x ≤ 9223372036854775807) (hy : -9223372036854775808 ≤ y ∧ y ≤ 9223372036854775807) (kk : JX l D b Y R X post w k n (pc + 1) lv (.int (iI (if y < x then 1 else if x = y then 0 else -1)) :: st)) : JX l D b Y R X post w k n pc lv (.long (iL y) :: .long (iL x) :: st) :=
  fun p e s m args below meth c B K H locs ls hH hS hl => W.lcmp B.1 B.2.1 hd (by rw [lg_iL hx hy]; exact kk p e s m args below meth c B K H locs ls hH hS hl)
theorem X_lcmp_eq {x y : Int} {off : Int} {tgt : Nat} (hd : decode Y.2.1 pc = .ok (.lcmp, 1)) (hd2 : decode Y.2.1 (pc + 1) = .ok (.ifCond .eq off, 3)) (ht : ((pc + 1 : Nat) : Int) + off = (tgt : Int)) (hx : -9223372036854775808 ≤ x ∧ x ≤ 9223372036854775807) (hy : -9223372036854775808 ≤ y ∧ y ≤ 9223372036854775807) (kt : x = y → JX l D b Y R X post w k n tgt lv st) (kf : x ≠ y → JX l D b Y R X post w k n (pc + 4) lv st) : JX l D b Y R X post w k n pc lv (.long (iL y) :: .long (iL x) :: st) := by
  refine X_lcmp hd hx hy (X_if_eq hd2 ht (by split <;> (try split) <;> omega) (fun h => kt ?_) (fun h => kf ?_))
  all_goals (split at h <;> (try split at h) <;> first | omega | (simp at h; done))
theorem X_lcmp_ne {x y : Int} {off : Int} {tgt : Nat} (hd : decode Y.2.1 pc = .ok (.lcmp, 1)) (hd2 : decode Y.2.1 (pc + 1) = .ok (.ifCond .ne off, 3)) (ht : ((pc + 1 : Nat) : Int) + off = (tgt : Int)) (hx : -9223372036854775808 ≤ x ∧ x ≤ 9223372036854775807) (hy : -9223372036854775808 ≤ y ∧ y ≤ 9223372036854775807) (kt : x ≠ y → JX l D b Y R X post w k n tgt lv st) (kf : x = y → JX l D b Y R X post w k n (pc + 4) lv st) : JX l D b Y R X post w k n pc lv (.long (iL y) :: .long (iL x) :: st) := by
  refine X_lcmp hd hx hy (X_if_ne hd2 ht (by split <;> (try split) <;> omega) (fun h => kt ?_) (fun h => kf ?_))
  all_goals (split at h <;> (try split at h) <;> first | omega | (simp at h; done))
theorem X_lcmp_lt {x y : Int} {off : Int} {tgt : Nat} (hd : decode Y.2.1 pc = .ok (.lcmp, 1)) (hd2 : decode Y.2.1 (pc + 1) = .ok (.ifCond .lt off, 3)) (ht : ((pc + 1 : Nat) : Int) + off = (tgt : Int)) (hx : -9223372036854775808 ≤ x ∧ x ≤ 9223372036854775807) (hy : -9223372036854775808 ≤ y ∧ y ≤ 9223372036854775807) (kt : x < y → JX l D b Y R X post w k n tgt lv st) (kf : x ≥ y → JX l D b Y R X post w k n (pc + 4) lv st) : JX l D b Y R X post w k n pc lv (.long (iL y) :: .long (iL x) :: st) := by
  refine X_lcmp hd hx hy (X_if_lt hd2 ht (by split <;> (try split) <;> omega) (fun h => kt ?_) (fun h => kf ?_))
  all_goals (split at h <;> (try split at h) <;> first | omega | (simp at h; done))
theorem X_lcmp_ge {x y : Int} {off : Int} {tgt : Nat} (hd : decode Y.2.1 pc = .ok (.lcmp, 1)) (hd2 : decode Y.2.1 (pc + 1) = .ok (.ifCond .ge off, 3)) (ht : ((pc + 1 : Nat) : Int) + off = (tgt : Int)) (hx : -9223372036854775808 ≤ x ∧ x ≤ 9223372036854775807) (hy : -9223372036854775808 ≤ y ∧ y ≤ 9223372036854775807) (kt : x ≥ y → JX l D b Y R X post w k n tgt lv st) (kf : x < y → JX l D b Y R X post w k n (pc + 4) lv st) : JX l D b Y R X post w k n pc lv (.long (iL y) :: .long (iL x) :: st) := by
  refine X_lcmp hd hx hy (X_if_ge hd2 ht (by split <;> (try split) <;> omega) (fun h => kt ?_) (fun h => kf ?_))
  all_goals (split at h <;> (try split at h) <;> first | omega | (simp at h; done))
theorem X_lcmp_gt {x y : Int} {off : Int} {tgt : Nat} (hd : decode Y.2.1 pc = .ok (.lcmp, 1)) (hd2 : decode Y.2.1 (pc + 1) = .ok (.ifCond .gt off, 3)) (ht : ((pc + 1 : Nat) : Int) + off = (tgt : Int)) (hx : -9223372036854775808 ≤ x ∧ x ≤ 9223372036854775807) (hy : -9223372036854775808 ≤ y ∧ y ≤ 9223372036854775807) (kt : x > y → JX l D b Y R X post w k n tgt lv st) (kf : x ≤ y → JX l D b Y R X post w k n (pc + 4) lv st) : JX l D b Y R X post w k n pc lv (.long (iL y) :: .long (iL x) :: st) := by
  refine X_lcmp hd hx hy (X_if_gt hd2 ht (by split <;> (try split) <;> omega) (fun h => kt ?_) (fun h => kf ?_))
  all_goals (split at h <;> (try split at h) <;> first | omega | (simp at h; done))
theorem X_lcmp_le {x y : Int} {off : Int} {tgt : Nat} (hd : decode Y.2.1 pc = .ok (.lcmp, 1)) (hd2 : decode Y.2.1 (pc + 1) = .ok (.ifCond .le off, 3)) (ht : ((pc + 1 : Nat) : Int) + off = (tgt : Int)) (hx : -9223372036854775808 ≤ x ∧ x ≤ 9223372036854775807) (hy : -9223372036854775808 ≤ y ∧ y ≤ 9223372036854775807) (kt : x ≤ y → JX l D b Y R X post w k n tgt lv st) (kf : x > y → JX l D b Y R X post w k n (pc + 4) lv st) : JX l D b Y R X post w k n pc lv (.long (iL y) :: .long (iL x) :: st) := by
  refine X_lcmp hd hx hy (X_if_le hd2 ht (by split <;> (try split) <;> omega) (fun h => kt ?_) (fun h => kf ?_))
  all_goals (split at h <;> (try split at h) <;> first | omega | (simp at h; done))
theorem X_get {i ci kf idx : Nat} {fs : List Value} {v : Value} (hs : FS Y.1.cls idx ci kf) (hc : w.2 i = some (.inr (ci, fs))) (hv : fs[kf]? = some v) (hd : decode Y.2.1 pc = .ok (.getfield idx, 3)) (kk : JX l D b Y R X post w k n (pc + 3) lv (v :: st)) : JX l D b Y R X post w k n pc lv (.ref (w.1 i) :: st) := by
  intro p e s m args below meth c B K H locs ls hH hS hl
  obtain ⟨r, hr, hk, hlk⟩ := hs
  obtain ⟨r', h1, cell, q1, q2, q3, q4⟩ := (hH.1 i _ hc).2
  cases h1.symm.trans hr
  obtain ⟨hSl, hfc, kC, hkC, hkind⟩ := K.1.1 ci _ hr
  obtain ⟨cf, kf', fi, f, hi, hsl⟩ := hSl kf hk
  have hst := (u_facts hfc hkC (u_lays B.2.2.2.2.2.1 (clz_in ci r hr) hk) hi).1
  have hkn : cell.vm ≠ .unknown := by rw [q3]; exact fun h => by cases h
  have hvv : cell.slots[f.slot]? = some v := by rw [hsl, q4 kf hk]; simp [vp_V, hv]
  have go := kk p e s m args below meth c B K H locs ls hH hS hl
  rcases hlk with h | ⟨host, h⟩ | ⟨ref, h, h2⟩
  · exact W.getf B.1 B.2.1 B.2.2.2.2.1 (B.2.2.2.2.2.1 _ h) hi hst q1 hkn hvv rfl rfl hd go
  · exact va_Wgetf B.1 B.2.1 B.2.2.2.2.1 (va_Nw.use rfl (K.2.1 _ h)) hi hst q1 hkn hvv rfl rfl hd go
  · exact W.getf B.1 B.2.1 B.2.2.2.2.1 (B.2.2.2.2.2.1 _ h) (u_same (B.2.2.2.2.2.1 _ h2) _ hi) hst q1 hkn hvv rfl rfl hd go
theorem X_put {i ci kf idx : Nat} {fs : List Value} {v : Value} {c' : Nat → Option jE} (hs : FS Y.1.cls idx ci kf) (hc : w.2 i = some (.inr (ci, fs))) (hl : kf < fs.length) (hfin : ∀ r : vw_C, clz[ci]? = some r → (r.2.1 kf).2.2.2 = false ∨ (Y.1.name = "<init>" ∧ (r.2.1 kf).1 = Y.1.cls)) (hn : narrow (clt ci kf) v = v) (hfit : fits (clt ci kf) v = true) (hw : va_up w.2 i (some (.inr (ci, fs.set kf v))) = c') (hd : decode Y.2.1 pc = .ok (.putfield idx, 3)) (kk : JX l D b Y R X post (w.1, c') k n (pc + 3) lv st) : JX l D b Y R X post w k n pc lv (v :: .ref (w.1 i) :: st) := by
  intro p e s m args below meth c B K H locs ls hH hS hl'
  obtain ⟨r, hr, hk, hlk⟩ := hs
  have hat := hH.1 i _ hc
  obtain ⟨r', h1, cell, q1, q2, q3, q4⟩ := hat.2
  cases h1.symm.trans hr
  have hts := B.2.2.2.2.2.1
  have hin := clz_in ci r hr
  have hap := va_apart (own := Y.1.cls) (D := (D.1, D.2.1)) (cl := clz) hts hin (clt ci) (clz_ty ci r hr) (clz_nm ci r hr) K.1 hr
  obtain ⟨hSl, hfc, kC, hkC, hkind⟩ := K.1.1 ci _ hr
  obtain ⟨cf, kf', fi, f, hi, hsl⟩ := hSl kf hk
  have hst := (u_facts hfc hkC (u_lays hts hin hk) hi).1
  have hfits := u_fits hfc hkC hkind (u_lays hts hin hk) hi (clz_ty ci r hr kf hk) hn hfit
  have hlt : f.slot < cell.slots.size := by rw [hsl]; exact k2_hasslot (q4 kf hk)
  have hfn : hasFlag f.accessFlags Acc.final = false ∨ (m.cls = cf ∧ meth.name = "<init>") := by
    rcases hfin r hr with hf | ⟨hf1, hf2⟩
    · have hlay := hts _ (hin _ (u_in_lay hk))
      unfold u_lay at hlay
      rw [if_neg (by rw [hf]; decide)] at hlay
      exact Or.inl (u_store hfc hkC hkind hlay hi (clz_ty ci r hr kf hk) hn hfit).1
    · by_cases hf : (r.2.1 kf).2.2.2 = true
      · have hlay := hts _ (hin _ (u_in_lay hk))
        unfold u_lay at hlay
        rw [if_pos hf] at hlay
        obtain ⟨_, _, c2, _, _, _, -, -, hf', -, -, -, hown2, -⟩ := Cond.laysFinal_spec hlay
        have e1 : c2 = cf := by have := hi.symm.trans hf'; simp at this; exact this.1.symm
        rw [hf2] at hown2
        exact Or.inr ⟨by rw [← e1]; exact Option.some.inj (B.2.2.2.2.1.symm.trans hown2), by rw [B.2.2.2.2.2.2.2.1]; exact hf1⟩
      · have hlay := hts _ (hin _ (u_in_lay hk))
        unfold u_lay at hlay
        rw [if_neg hf] at hlay
        exact Or.inl (u_store hfc hkC hkind hlay hi (clz_ty ci r hr kf hk) hn hfit).1
  have ha : w.1 i < H.size := (Array.getElem?_eq_some_iff.mp q1).1
  have hkn : cell.vm ≠ .unknown := by rw [q3]; exact fun h => by cases h
  have hfs : s.fitsSlot cell.cls cell.vm f.slot v = true := by rw [q2, q3]; exact hfits.2
  have oq : ∀ q : Nat, q ≠ w.1 i → (H.setIfInBounds (w.1 i) (cell.setSlot f.slot v))[q]? = H[q]? := fun q hq => by simp [Array.getElem?_setIfInBounds, Ne.symm hq]
  have hnew : jAt D (w.1 i) (.inr (ci, fs.set kf v)) (H.setIfInBounds (w.1 i) (cell.setSlot f.slot v)) := by
    have e1 : (H.setIfInBounds (w.1 i) (cell.setSlot f.slot v))[w.1 i]? = some (cell.setSlot (D.2.1 ci kf) v) := by rw [hsl]; simp [Array.getElem?_setIfInBounds, ha]
    exact ⟨r, hr, t_OB.to (V := updV (vp_V fs) kf v) ⟨_, e1, q2, q3, t_set q4 hap hk v⟩ (fun j _ => vp_updV_set hl v j)⟩
  have hH2 := hH.set hc hnew oq
  rw [hw] at hH2
  have go := kk p e s m args below meth c B K _ _ ls hH2 (hS.put (k := f.slot) (by simp) oq hat.1) hl'
  rcases hlk with h | ⟨host, h⟩ | ⟨ref, h, h2⟩
  · exact W.putf B.1 B.2.1 B.2.2.2.2.1 (hts _ h) hi hst hfn q1 hkn hlt hfits.1 hfs rfl rfl hd go
  · exact va_Wputf B.1 B.2.1 B.2.2.2.2.1 (va_Nw.use rfl (K.2.1 _ h)) hi hst hfn q1 hkn hlt hfits.1 hfs rfl rfl hd go
  · exact W.putf B.1 B.2.1 B.2.2.2.2.1 (hts _ h) (u_same (hts _ h2) _ hi) hst hfn q1 hkn hlt hfits.1 hfs rfl rfl hd go
theorem X_alen {i t nn : Nat} {f : Int → Value} (hc : w.2 i = some (.inl (t, nn, f))) (hd : decode Y.2.1 pc = .ok (.arraylength, 1)) (kk : JX l D b Y R X post w k n (pc + 1) lv (.int (iI nn) :: st)) : JX l D b Y R X post w k n pc lv (.ref (w.1 i) :: st) := by
  intro p e s m args below meth c B K H locs ls hH hS hl
  obtain ⟨h1, h2⟩ := jArr K hH hc
  exact W.alen (n := iI nn) B.1 B.2.1 h1 h2 (by rw [arrV_size]; exact iI_nat nn) rfl rfl hd (kk p e s m args below meth c B K H locs ls hH hS hl)
theorem X_iald {i nn : Nat} {G : Int → Int} {z : Int} (hc : w.2 i = some (.inl (0, nn, fun j => .int (iI (G j))))) (hz : 0 ≤ z ∧ z < nn) (hn : nn ≤ 2147483647) (hd : decode Y.2.1 pc = .ok (.iaload, 1)) (kk : JX l D b Y R X post w k n (pc + 1) lv (.int (iI (G z)) :: st)) : JX l D b Y R X post w k n pc lv (.int (iI z) :: .ref (w.1 i) :: st) := by
  intro p e s m args below meth c B K H locs ls hH hS hl
  obtain ⟨h1, h2⟩ := jArr K hH hc
  exact W.iald B.1 B.2.1 h1 h2 (fun q => by cases q) (by rw [arrV_size]; exact iI_in hz hn) (rd_at (f := fun j => .int (iI (G j))) hz hn) rfl rfl hd (kk p e s m args below meth c B K H locs ls hH hS hl)
theorem X_sald {i nn : Nat} {G : Int → Int} {z : Int} (hc : w.2 i = some (.inl (2, nn, fun j => .int (iI (G j))))) (hz : 0 ≤ z ∧ z < nn) (hn : nn ≤ 2147483647) (hd : decode Y.2.1 pc = .ok (.saload, 1)) (kk : JX l D b Y R X post w k n (pc + 1) lv (.int (iI (G z)) :: st)) : JX l D b Y R X post w k n pc lv (.int (iI z) :: .ref (w.1 i) :: st) := by
  intro p e s m args below meth c B K H locs ls hH hS hl
  obtain ⟨h1, h2⟩ := jArr K hH hc
  exact W.sald B.1 B.2.1 h1 h2 (fun q => by cases q) (by rw [arrV_size]; exact iI_in hz hn) (rd_at (f := fun j => .int (iI (G j))) hz hn) rfl rfl hd (kk p e s m args below meth c B K H locs ls hH hS hl)
theorem X_zald {i nn : Nat} {G : Int → Bool} {z : Int} (hc : w.2 i = some (.inl (3, nn, fun j => .int (iI (bz (G j)))))) (hz : 0 ≤ z ∧ z < nn) (hn : nn ≤ 2147483647) (hd : decode Y.2.1 pc = .ok (.baload, 1)) (kk : JX l D b Y R X post w k n (pc + 1) lv (.int (iI (bz (G z))) :: st)) : JX l D b Y R X post w k n pc lv (.int (iI z) :: .ref (w.1 i) :: st) := by
  intro p e s m args below meth c B K H locs ls hH hS hl
  obtain ⟨h1, h2⟩ := jArr K hH hc
  exact W.zald B.1 B.2.1 h1 h2 (fun q => by cases q) (by rw [arrV_size]; exact iI_in hz hn) (rd_at (f := fun j => .int (iI (bz (G j)))) hz hn) rfl rfl hd (kk p e s m args below meth c B K H locs ls hH hS hl)
theorem X_lald {i nn : Nat} {G : Int → Int} {z : Int} (hc : w.2 i = some (.inl (1, nn, fun j => .long (iL (G j))))) (hz : 0 ≤ z ∧ z < nn) (hn : nn ≤ 2147483647) (hd : decode Y.2.1 pc = .ok (.laload, 1)) (kk : JX l D b Y R X post w k n (pc + 1) lv (.long (iL (G z)) :: st)) : JX l D b Y R X post w k n pc lv (.int (iI z) :: .ref (w.1 i) :: st) := by
  intro p e s m args below meth c B K H locs ls hH hS hl
  obtain ⟨h1, h2⟩ := jArr K hH hc
  exact W.lald B.1 B.2.1 h1 h2 (fun q => by cases q) (by rw [arrV_size]; exact iI_in hz hn) (rd_at (f := fun j => .long (iL (G j))) hz hn) rfl rfl hd (kk p e s m args below meth c B K H locs ls hH hS hl)
theorem X_aald {i t nn : Nat} {f : Int → Value} {z : Int} {v : Value} (hc : w.2 i = some (.inl (t, nn, f))) (ht : (jty t).isReference = true) (hz : 0 ≤ z ∧ z < nn) (hn : nn ≤ 2147483647) (hv : f z = v) (hd : decode Y.2.1 pc = .ok (.aaload, 1)) (kk : JX l D b Y R X post w k n (pc + 1) lv (v :: st)) : JX l D b Y R X post w k n pc lv (.int (iI z) :: .ref (w.1 i) :: st) := by
  intro p e s m args below meth c B K H locs ls hH hS hl
  obtain ⟨h1, h2⟩ := jArr K hH hc
  subst hv
  exact W.aald B.1 B.2.1 h1 h2 ht (fun q => by cases q) (by rw [arrV_size]; exact iI_in hz hn) (rd_at hz hn) rfl rfl hd (kk p e s m args below meth c B K H locs ls hH hS hl)
theorem X_iast {i nn : Nat} {G : Int → Int} {z v : Int} {c' : Nat → Option jE} (hc : w.2 i = some (.inl (0, nn, fun j => .int (iI (G j))))) (hz : 0 ≤ z ∧ z < nn) (hn : nn ≤ 2147483647) (hw : va_up w.2 i (some (.inl (0, nn, fun j => .int (iI (upI G z v j))))) = c') (hd : decode Y.2.1 pc = .ok (.iastore, 1)) (kk : JX l D b Y R X post (w.1, c') k n (pc + 1) lv st) : JX l D b Y R X post w k n pc lv (.int (iI v) :: .int (iI z) :: .ref (w.1 i) :: st) := by
  intro p e s m args below meth c B K H locs ls hH hS hl
  obtain ⟨h1, h2⟩ := jArr K hH hc
  refine W.iast B.1 B.2.1 h1 h2 (fun q => by cases q) (by rw [arrV_size]; exact iI_in hz hn) rfl rfl hd fun H1 e1 z1 oq => ?_
  have hnew := st_at (i := i) (f := fun j => .int (iI (G j))) (by decide) hz hn e1
  rw [show upI (fun j => Value.int (iI (G j))) z (.int (iI v)) = fun j => .int (iI (upI G z v j)) from upI_map (fun x => Value.int (iI x)) G z v] at hnew
  have hH2 := hH.set hc hnew oq
  rw [hw] at hH2
  exact kk p e s m args below meth c B K _ _ ls hH2 (hS.put z1 oq (hH.1 i _ hc).1) hl
theorem X_sast {i nn : Nat} {G : Int → Int} {z v : Int} {c' : Nat → Option jE} (hc : w.2 i = some (.inl (2, nn, fun j => .int (iI (G j))))) (hz : 0 ≤ z ∧ z < nn) (hn : nn ≤ 2147483647) (hv : -32768 ≤ v ∧ v ≤ 32767) (hw : va_up w.2 i (some (.inl (2, nn, fun j => .int (iI (upI G z v j))))) = c') (hd : decode Y.2.1 pc = .ok (.sastore, 1)) (kk : JX l D b Y R X post (w.1, c') k n (pc + 1) lv st) : JX l D b Y R X post w k n pc lv (.int (iI v) :: .int (iI z) :: .ref (w.1 i) :: st) := by
  intro p e s m args below meth c B K H locs ls hH hS hl
  obtain ⟨h1, h2⟩ := jArr K hH hc
  refine W.sast B.1 B.2.1 h1 h2 (fun q => by cases q) (by rw [arrV_size]; exact iI_in hz hn) rfl rfl hd fun H1 e1 z1 oq => ?_
  rw [nar_s hv] at e1
  have hnew := st_at (i := i) (f := fun j => .int (iI (G j))) (by decide) hz hn e1
  rw [show upI (fun j => Value.int (iI (G j))) z (.int (iI v)) = fun j => .int (iI (upI G z v j)) from upI_map (fun x => Value.int (iI x)) G z v] at hnew
  have hH2 := hH.set hc hnew oq
  rw [hw] at hH2
  exact kk p e s m args below meth c B K _ _ ls hH2 (hS.put z1 oq (hH.1 i _ hc).1) hl
theorem X_zast {i nn : Nat} {G : Int → Bool} {z : Int} {v : Bool} {c' : Nat → Option jE} (hc : w.2 i = some (.inl (3, nn, fun j => .int (iI (bz (G j)))))) (hz : 0 ≤ z ∧ z < nn) (hn : nn ≤ 2147483647) (hw : va_up w.2 i (some (.inl (3, nn, fun j => .int (iI (bz (upI G z v j)))))) = c') (hd : decode Y.2.1 pc = .ok (.bastore, 1)) (kk : JX l D b Y R X post (w.1, c') k n (pc + 1) lv st) : JX l D b Y R X post w k n pc lv (.int (iI (bz v)) :: .int (iI z) :: .ref (w.1 i) :: st) := by
  intro p e s m args below meth c B K H locs ls hH hS hl
  obtain ⟨h1, h2⟩ := jArr K hH hc
  refine W.zast B.1 B.2.1 h1 h2 (fun q => by cases q) (by rw [arrV_size]; exact iI_in hz hn) rfl rfl hd fun H1 e1 z1 oq => ?_
  rw [nar_z v] at e1
  have hnew := st_at (i := i) (f := fun j => .int (iI (bz (G j)))) (by decide) hz hn e1
  rw [show upI (fun j => Value.int (iI (bz (G j)))) z (.int (iI (bz v))) = fun j => .int (iI (bz (upI G z v j))) from upI_map (fun x => Value.int (iI (bz x))) G z v] at hnew
  have hH2 := hH.set hc hnew oq
  rw [hw] at hH2
  exact kk p e s m args below meth c B K _ _ ls hH2 (hS.put z1 oq (hH.1 i _ hc).1) hl
theorem X_last {i nn : Nat} {G : Int → Int} {z v : Int} {c' : Nat → Option jE} (hc : w.2 i = some (.inl (1, nn, fun j => .long (iL (G j))))) (hz : 0 ≤ z ∧ z < nn) (hn : nn ≤ 2147483647) (hw : va_up w.2 i (some (.inl (1, nn, fun j => .long (iL (upI G z v j))))) = c') (hd : decode Y.2.1 pc = .ok (.lastore, 1)) (kk : JX l D b Y R X post (w.1, c') k n (pc + 1) lv st) : JX l D b Y R X post w k n pc lv (.long (iL v) :: .int (iI z) :: .ref (w.1 i) :: st) := by
  intro p e s m args below meth c B K H locs ls hH hS hl
  obtain ⟨h1, h2⟩ := jArr K hH hc
  refine W.last B.1 B.2.1 h1 h2 (fun q => by cases q) (by rw [arrV_size]; exact iI_in hz hn) rfl rfl hd fun H1 e1 z1 oq => ?_
  have hnew := st_at (i := i) (f := fun j => .long (iL (G j))) (by decide) hz hn e1
  rw [show upI (fun j => Value.long (iL (G j))) z (.long (iL v)) = fun j => .long (iL (upI G z v j)) from upI_map (fun x => Value.long (iL x)) G z v] at hnew
  have hH2 := hH.set hc hnew oq
  rw [hw] at hH2
  exact kk p e s m args below meth c B K _ _ ls hH2 (hS.put z1 oq (hH.1 i _ hc).1) hl
theorem X_icmpB_ne {q : Bool} {off : Int} {tgt : Nat} (hd : decode Y.2.1 pc = .ok (.if_icmp .ne off, 3)) (ht : (pc : Int) + off = (tgt : Int)) (kt : q = false → JX l D b Y R X post w k n tgt lv st) (kf : q = true → JX l D b Y R X post w k n (pc + 3) lv st) : JX l D b Y R X post w k n pc lv (.int (iI 1) :: .int (iI (bz q)) :: st) :=
  X_icmp_ne hd ht (by have := bz_le q; omega) (by omega) (fun h => kt (by revert h; cases q <;> simp [bz])) (fun h => kf (by revert h; cases q <;> simp [bz]))
theorem X_icmpB_eq {q : Bool} {off : Int} {tgt : Nat} (hd : decode Y.2.1 pc = .ok (.if_icmp .eq off, 3)) (ht : (pc : Int) + off = (tgt : Int)) (kt : q = true → JX l D b Y R X post w k n tgt lv st) (kf : q = false → JX l D b Y R X post w k n (pc + 3) lv st) : JX l D b Y R X post w k n pc lv (.int (iI 1) :: .int (iI (bz q)) :: st) :=
  X_icmp_eq hd ht (by have := bz_le q; omega) (by omega) (fun h => kt (by revert h; cases q <;> simp [bz])) (fun h => kf (by revert h; cases q <;> simp [bz]))
theorem X_ldc2 {idx : Nat} {x : Int64} {z : Int} (hd : decode Y.2.1 pc = .ok (.ldc2_w idx, 3)) (hc : Cond.constantLong Y.1.cls idx x ∈ tb) (hv : x = iL z) (kk : JX l D b Y R X post w k n (pc + 3) lv (.long (iL z) :: st)) : JX l D b Y R X post w k n pc lv st :=
  fun p e s m args below meth c B K H locs ls hH hS hl => lv_ldc2 B.1 B.2.1 B.2.2.2.2.1 (B.2.2.2.2.2.1 _ hc) hd (by rw [hv]; exact kk p e s m args below meth c B K H locs ls hH hS hl)
theorem X_ldc {idx : Nat} {x : Int32} {z : Int} (hd : decode Y.2.1 pc = .ok (.ldc idx, 2)) (hc : Cond.constant Y.1.cls idx x ∈ tb) (hv : x = iI z) (kk : JX l D b Y R X post w k n (pc + 2) lv (.int (iI z) :: st)) : JX l D b Y R X post w k n pc lv st :=
  fun p e s m args below meth c B K H locs ls hH hS hl => lv_ldc B.1 B.2.1 B.2.2.2.2.1 (B.2.2.2.2.2.1 _ hc) hd (by rw [hv]; exact kk p e s m args below meth c B K H locs ls hH hS hl)
theorem X_ldc_w {idx : Nat} {x : Int32} {z : Int} (hd : decode Y.2.1 pc = .ok (.ldc_w idx, 3)) (hc : Cond.constant Y.1.cls idx x ∈ tb) (hv : x = iI z) (kk : JX l D b Y R X post w k n (pc + 3) lv (.int (iI z) :: st)) : JX l D b Y R X post w k n pc lv st :=
  fun p e s m args below meth c B K H locs ls hH hS hl => lv_ldcw B.1 B.2.1 B.2.2.2.2.1 (B.2.2.2.2.2.1 _ hc) hd (by rw [hv]; exact kk p e s m args below meth c B K H locs ls hH hS hl)
theorem X_alenE {i t nn : Nat} {f : Int → Value} {z : Int} (hc : w.2 i = some (.inl (t, nn, f))) (hz : (nn : Int) = z) (hd : decode Y.2.1 pc = .ok (.arraylength, 1)) (kk : JX l D b Y R X post w k n (pc + 1) lv (.int (iI z) :: st)) : JX l D b Y R X post w k n pc lv (.ref (w.1 i) :: st) := X_alen hc hd (hz ▸ kk)
theorem X_laldR {i nn : Nat} {G : Int → Int64} {z : Int} (hc : w.2 i = some (.inl (1, nn, fun j => .long (G j)))) (hz : 0 ≤ z ∧ z < nn) (hn : nn ≤ 2147483647) (hd : decode Y.2.1 pc = .ok (.laload, 1)) (kk : JX l D b Y R X post w k n (pc + 1) lv (.long (G z) :: st)) : JX l D b Y R X post w k n pc lv (.int (iI z) :: .ref (w.1 i) :: st) := by
  intro p e s m args below meth c B K H locs ls hH hS hl
  obtain ⟨h1, h2⟩ := jArr K hH hc
  exact W.lald B.1 B.2.1 h1 h2 (fun q => by cases q) (by rw [arrV_size]; exact iI_in hz hn) (rd_at (f := fun j => .long (G j)) hz hn) rfl rfl hd (kk p e s m args below meth c B K H locs ls hH hS hl)
theorem X_lastR {i nn : Nat} {G G' : Int → Int64} {z : Int} {v : Int64} {c' : Nat → Option jE} (hc : w.2 i = some (.inl (1, nn, fun j => .long (G j)))) (hz : 0 ≤ z ∧ z < nn) (hn : nn ≤ 2147483647) (hG : upI G z v = G') (hw : va_up w.2 i (some (.inl (1, nn, fun j => .long (G' j)))) = c') (hd : decode Y.2.1 pc = .ok (.lastore, 1)) (kk : JX l D b Y R X post (w.1, c') k n (pc + 1) lv st) : JX l D b Y R X post w k n pc lv (.long v :: .int (iI z) :: .ref (w.1 i) :: st) := by
  intro p e s m args below meth c B K H locs ls hH hS hl
  obtain ⟨h1, h2⟩ := jArr K hH hc
  refine W.last B.1 B.2.1 h1 h2 (fun q => by cases q) (by rw [arrV_size]; exact iI_in hz hn) rfl rfl hd fun H1 e1 z1 oq => ?_
  have hnew := st_at (i := i) (f := fun j => .long (G j)) (by decide) hz hn e1
  rw [show upI (fun j => Value.long (G j)) z (.long v) = fun j => .long (upI G z v j) from upI_map (fun x => Value.long x) G z v, hG] at hnew
  have hH2 := hH.set hc hnew oq
  rw [hw] at hH2
  exact kk p e s m args below meth c B K _ _ ls hH2 (hS.put z1 oq (hH.1 i _ hc).1) hl
theorem JX.topI {x y : Int} (h : x = y) (kk : JX l D b Y R X post w k n pc lv (.int (iI y) :: st)) : JX l D b Y R X post w k n pc lv (.int (iI x) :: st) := h ▸ kk
theorem X_minL {l : Launch} {D : jD} {b : Nat} {Y : jM} {R : Room} {X : String} {post : jW → Prop} {w : jW} {k n pc : Nat} {lv : List (Nat × Value)} {st : List Value} {x y : Int} (hY : Y.1.cls = "ChartForest") (hd : decode Y.2.1 pc = .ok (.invokestatic 218, 3)) (hx : -9223372036854775808 ≤ x ∧ x ≤ 9223372036854775807) (hy : -9223372036854775808 ≤ y ∧ y ≤ 9223372036854775807) (hr : 1 ≤ R.frames ∧ (st.map fun v => v.category).sum + 15 ≤ R.locals) (hk : k ≤ R.cells ∧ n ≤ R.slots)
    (kk : JX l D b Y R X post w k n (pc + 3) lv (.long (iL (if y < x then y else x)) :: st)) : JX l D b Y R X post w k n pc lv (.long (iL y) :: .long (iL x) :: st) := by
  intro p e9 s m args below meth c B K H locs ls hH hS hl
  refine va_mmin_long B.1 B.2.1 (by rw [B.2.2.2.1]; exact hl.1.symm) (hY ▸ B.2.2.2.2.1) (B.2.2.2.2.2.1 _ mn_words.1) (B.2.2.2.2.2.1 _ mn_words.2.1) (B.2.2.2.2.2.1 _ mn_words.2.2.1) (B.2.2.2.2.2.1 _ mn_words.2.2.2) hr.1 hr.2 hk.1 hk.2 hd ?_
  have e : (if iL y < iL x then iL y else iL x) = iL (if y < x then y else x) := by
    by_cases h : y < x
    · rw [if_pos h, if_pos ((iL_lt hy hx).mpr h)]
    · rw [if_neg h, if_neg (fun q => h ((iL_lt hy hx).mp q))]
  rw [e]
  exact kk p e9 s m args below meth c B K H locs ls hH hS hl

end XR
