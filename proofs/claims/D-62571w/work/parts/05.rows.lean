section JS
variable {l : Launch} {D : jD} {b : Nat} {Y : jM} {R : Room} {post : Option Value → jW → Prop} {w : jW} {k n pc : Nat} {lv : List (Nat × Value)} {st : List Value}
theorem J_iconst {z : Int} (hd : decode Y.2.1 pc = .ok (.iconst z, 1)) (kk : J l D b Y R post w k n (pc + 1) lv (.int (iI z) :: st)) : J l D b Y R post w k n pc lv (st) :=
  fun p e s m args below meth c B K H locs ls hH hS hl => lv_iconst B.1 B.2.1 hd rfl (kk p e s m args below meth c B K H locs ls hH hS hl)
theorem J_bipush {z : Int} (hd : decode Y.2.1 pc = .ok (.bipush z, 2)) (hv : (Int8.ofInt z).toInt32 = iI z) (kk : J l D b Y R post w k n (pc + 2) lv (.int (iI z) :: st)) : J l D b Y R post w k n pc lv (st) :=
  fun p e s m args below meth c B K H locs ls hH hS hl => lv_bipush B.1 B.2.1 hd hv (kk p e s m args below meth c B K H locs ls hH hS hl)
theorem J_sipush {z : Int} (hd : decode Y.2.1 pc = .ok (.sipush z, 3)) (hv : (Int16.ofInt z).toInt32 = iI z) (kk : J l D b Y R post w k n (pc + 3) lv (.int (iI z) :: st)) : J l D b Y R post w k n pc lv (st) :=
  fun p e s m args below meth c B K H locs ls hH hS hl => lv_sipush B.1 B.2.1 hd hv (kk p e s m args below meth c B K H locs ls hH hS hl)
theorem J_lconst {q : Fin 2} {z : Int} (hd : decode Y.2.1 pc = .ok (.lconst q, 1)) (hv : Int64.ofNat (q : Nat) = iL z) (kk : J l D b Y R post w k n (pc + 1) lv (.long (iL z) :: st)) : J l D b Y R post w k n pc lv (st) :=
  fun p e s m args below meth c B K H locs ls hH hS hl => lv_lconst B.1 B.2.1 hd hv (kk p e s m args below meth c B K H locs ls hH hS hl)
theorem J_null (hd : decode Y.2.1 pc = .ok (.aconst_null, 1)) (kk : J l D b Y R post w k n (pc + 1) lv (.null :: st)) : J l D b Y R post w k n pc lv (st) :=
  fun p e s m args below meth c B K H locs ls hH hS hl => lv_null B.1 B.2.1 hd (kk p e s m args below meth c B K H locs ls hH hS hl)
theorem J_iload_n {q : Fin 4} {i : Nat} {x : Int32} (hd : decode Y.2.1 pc = .ok (.iload_n q, 1)) (hi : (q : Nat) = i) (j : Nat) (hj : lv[j]? = some (i, .int x)) (kk : J l D b Y R post w k n (pc + 1) lv (.int x :: st)) : J l D b Y R post w k n pc lv (st) :=
  fun p e s m args below meth c B K H locs ls hH hS hl => lv_iload_n B.1 B.2.1 hd hi (lv_at hl j hj) (kk p e s m args below meth c B K H locs ls hH hS hl)
theorem J_iload {i : Nat} {x : Int32} (hd : decode Y.2.1 pc = .ok (.iload i, 2)) (j : Nat) (hj : lv[j]? = some (i, .int x)) (kk : J l D b Y R post w k n (pc + 2) lv (.int x :: st)) : J l D b Y R post w k n pc lv (st) :=
  fun p e s m args below meth c B K H locs ls hH hS hl => lv_iload B.1 B.2.1 hd (lv_at hl j hj) (kk p e s m args below meth c B K H locs ls hH hS hl)
theorem J_lload_n {q : Fin 4} {i : Nat} {x : Int64} (hd : decode Y.2.1 pc = .ok (.lload_n q, 1)) (hi : (q : Nat) = i) (j : Nat) (hj : lv[j]? = some (i, .long x)) (kk : J l D b Y R post w k n (pc + 1) lv (.long x :: st)) : J l D b Y R post w k n pc lv (st) :=
  fun p e s m args below meth c B K H locs ls hH hS hl => lv_lload_n B.1 B.2.1 hd hi (lv_at hl j hj) (kk p e s m args below meth c B K H locs ls hH hS hl)
theorem J_lload {i : Nat} {x : Int64} (hd : decode Y.2.1 pc = .ok (.lload i, 2)) (j : Nat) (hj : lv[j]? = some (i, .long x)) (kk : J l D b Y R post w k n (pc + 2) lv (.long x :: st)) : J l D b Y R post w k n pc lv (st) :=
  fun p e s m args below meth c B K H locs ls hH hS hl => lv_lload B.1 B.2.1 hd (lv_at hl j hj) (kk p e s m args below meth c B K H locs ls hH hS hl)
theorem J_aload_n {q : Fin 4} {i : Nat} {x : Nat} (hd : decode Y.2.1 pc = .ok (.aload_n q, 1)) (hi : (q : Nat) = i) (j : Nat) (hj : lv[j]? = some (i, .ref x)) (kk : J l D b Y R post w k n (pc + 1) lv (.ref x :: st)) : J l D b Y R post w k n pc lv (st) :=
  fun p e s m args below meth c B K H locs ls hH hS hl => lv_aload_n B.1 B.2.1 hd hi (lv_at hl j hj) (kk p e s m args below meth c B K H locs ls hH hS hl)
theorem J_aload {i : Nat} {x : Nat} (hd : decode Y.2.1 pc = .ok (.aload i, 2)) (j : Nat) (hj : lv[j]? = some (i, .ref x)) (kk : J l D b Y R post w k n (pc + 2) lv (.ref x :: st)) : J l D b Y R post w k n pc lv (st) :=
  fun p e s m args below meth c B K H locs ls hH hS hl => lv_aload B.1 B.2.1 hd (lv_at hl j hj) (kk p e s m args below meth c B K H locs ls hH hS hl)
theorem J_istore_n {q : Fin 4} {i : Nat} {x : Int32} {lv' : List (Nat × Value)} (hd : decode Y.2.1 pc = .ok (.istore_n q, 1)) (hi : (q : Nat) = i) (hn : i < Y.2.2.1) (hlv : (i, Value.int x) :: lv.filter (fun q => !(q.1 == i) && !(q.1 + 1 == i && q.2.category == 2)) = lv') (kk : J l D b Y R post w k n (pc + 1) lv' st) : J l D b Y R post w k n pc lv (.int x :: st) :=
  fun p e s m args below meth c B K H locs ls hH hS hl => lv_istore_n B.1 B.2.1 hd hi hl hn hlv (fun ls2 hl2 => kk p e s m args below meth c B K H locs ls2 hH hS hl2)
theorem J_istore {i : Nat} {x : Int32} {lv' : List (Nat × Value)} (hd : decode Y.2.1 pc = .ok (.istore i, 2)) (hn : i < Y.2.2.1) (hlv : (i, Value.int x) :: lv.filter (fun q => !(q.1 == i) && !(q.1 + 1 == i && q.2.category == 2)) = lv') (kk : J l D b Y R post w k n (pc + 2) lv' st) : J l D b Y R post w k n pc lv (.int x :: st) :=
  fun p e s m args below meth c B K H locs ls hH hS hl => lv_istore B.1 B.2.1 hd hl hn hlv (fun ls2 hl2 => kk p e s m args below meth c B K H locs ls2 hH hS hl2)
theorem J_lstore_n {q : Fin 4} {i : Nat} {x : Int64} {lv' : List (Nat × Value)} (hd : decode Y.2.1 pc = .ok (.lstore_n q, 1)) (hi : (q : Nat) = i) (hn : i + 1 < Y.2.2.1) (hlv : (i, Value.long x) :: lv.filter (fun q => !(q.1 == i) && (!(q.1 == i + 1) && !(q.1 + 1 == i && q.2.category == 2))) = lv') (kk : J l D b Y R post w k n (pc + 1) lv' st) : J l D b Y R post w k n pc lv (.long x :: st) :=
  fun p e s m args below meth c B K H locs ls hH hS hl => lv_lstore_n B.1 B.2.1 hd hi hl hn hlv (fun ls2 hl2 => kk p e s m args below meth c B K H locs ls2 hH hS hl2)
theorem J_lstore {i : Nat} {x : Int64} {lv' : List (Nat × Value)} (hd : decode Y.2.1 pc = .ok (.lstore i, 2)) (hn : i + 1 < Y.2.2.1) (hlv : (i, Value.long x) :: lv.filter (fun q => !(q.1 == i) && (!(q.1 == i + 1) && !(q.1 + 1 == i && q.2.category == 2))) = lv') (kk : J l D b Y R post w k n (pc + 2) lv' st) : J l D b Y R post w k n pc lv (.long x :: st) :=
  fun p e s m args below meth c B K H locs ls hH hS hl => lv_lstore B.1 B.2.1 hd hl hn hlv (fun ls2 hl2 => kk p e s m args below meth c B K H locs ls2 hH hS hl2)
theorem J_astore_n {q : Fin 4} {i : Nat} {x : Nat} {lv' : List (Nat × Value)} (hd : decode Y.2.1 pc = .ok (.astore_n q, 1)) (hi : (q : Nat) = i) (hn : i < Y.2.2.1) (hlv : (i, Value.ref x) :: lv.filter (fun q => !(q.1 == i) && !(q.1 + 1 == i && q.2.category == 2)) = lv') (kk : J l D b Y R post w k n (pc + 1) lv' st) : J l D b Y R post w k n pc lv (.ref x :: st) :=
  fun p e s m args below meth c B K H locs ls hH hS hl => lv_astore_n B.1 B.2.1 hd hi hl hn hlv (fun ls2 hl2 => kk p e s m args below meth c B K H locs ls2 hH hS hl2)
theorem J_astore {i : Nat} {x : Nat} {lv' : List (Nat × Value)} (hd : decode Y.2.1 pc = .ok (.astore i, 2)) (hn : i < Y.2.2.1) (hlv : (i, Value.ref x) :: lv.filter (fun q => !(q.1 == i) && !(q.1 + 1 == i && q.2.category == 2)) = lv') (kk : J l D b Y R post w k n (pc + 2) lv' st) : J l D b Y R post w k n pc lv (.ref x :: st) :=
  fun p e s m args below meth c B K H locs ls hH hS hl => lv_astore B.1 B.2.1 hd hl hn hlv (fun ls2 hl2 => kk p e s m args below meth c B K H locs ls2 hH hS hl2)
theorem J_iinc {i j : Nat} {z a : Int} {lv' : List (Nat × Value)} (hd : decode Y.2.1 pc = .ok (.iinc i z, 3)) (hj : lv[j]? = some (i, .int (iI a))) (hn : i < Y.2.2.1) (hlv : (i, Value.int (iI (a + z))) :: lv.filter (fun q => !(q.1 == i) && !(q.1 + 1 == i && q.2.category == 2)) = lv') (kk : J l D b Y R post w k n (pc + 3) lv' st) : J l D b Y R post w k n pc lv st :=
  fun p e s m args below meth c B K H locs ls hH hS hl => lv_iinc B.1 B.2.1 hd hl hj (iI_add a z) hn hlv (fun ls2 hl2 => kk p e s m args below meth c B K H locs ls2 hH hS hl2)
theorem J_iadd {x y : Int} (hd : decode Y.2.1 pc = .ok (.iadd, 1)) (kk : J l D b Y R post w k n (pc + 1) lv (.int (iI (x + y)) :: st)) : J l D b Y R post w k n pc lv (.int (iI y) :: .int (iI x) :: st) :=
  fun p e s m args below meth c B K H locs ls hH hS hl => lv_iadd B.1 B.2.1 hd (by rw [iI_add]; exact kk p e s m args below meth c B K H locs ls hH hS hl)
theorem J_isub {x y : Int} (hd : decode Y.2.1 pc = .ok (.isub, 1)) (kk : J l D b Y R post w k n (pc + 1) lv (.int (iI (x - y)) :: st)) : J l D b Y R post w k n pc lv (.int (iI y) :: .int (iI x) :: st) :=
  fun p e s m args below meth c B K H locs ls hH hS hl => lv_isub B.1 B.2.1 hd (by rw [iI_sub]; exact kk p e s m args below meth c B K H locs ls hH hS hl)
theorem J_imul {x y : Int} (hd : decode Y.2.1 pc = .ok (.imul, 1)) (kk : J l D b Y R post w k n (pc + 1) lv (.int (iI (x * y)) :: st)) : J l D b Y R post w k n pc lv (.int (iI y) :: .int (iI x) :: st) :=
  fun p e s m args below meth c B K H locs ls hH hS hl => lv_imul B.1 B.2.1 hd (by rw [iI_mul]; exact kk p e s m args below meth c B K H locs ls hH hS hl)
theorem J_idiv {x y : Int} (hd : decode Y.2.1 pc = .ok (.idiv, 1)) (hx : 0 ≤ x ∧ x ≤ 2147483647) (hy : 0 < y ∧ y ≤ 2147483647) (kk : J l D b Y R post w k n (pc + 1) lv (.int (iI (x / y)) :: st)) : J l D b Y R post w k n pc lv (.int (iI y) :: .int (iI x) :: st) :=
  fun p e s m args below meth c B K H locs ls hH hS hl => lv_idiv B.1 B.2.1 hd (fun h => absurd ((iI_eq (b := 0) (by omega) (by omega)).mp h) (by omega)) (by rw [iI_div hx hy]; exact kk p e s m args below meth c B K H locs ls hH hS hl)
theorem J_irem {x y : Int} (hd : decode Y.2.1 pc = .ok (.irem, 1)) (hx : 0 ≤ x ∧ x ≤ 2147483647) (hy : 0 < y ∧ y ≤ 2147483647) (kk : J l D b Y R post w k n (pc + 1) lv (.int (iI (x % y)) :: st)) : J l D b Y R post w k n pc lv (.int (iI y) :: .int (iI x) :: st) :=
  fun p e s m args below meth c B K H locs ls hH hS hl => lv_irem B.1 B.2.1 hd (fun h => absurd ((iI_eq (b := 0) (by omega) (by omega)).mp h) (by omega)) (by rw [iI_rem hx hy]; exact kk p e s m args below meth c B K H locs ls hH hS hl)
theorem J_ladd {x y : Int} (hd : decode Y.2.1 pc = .ok (.ladd, 1)) (kk : J l D b Y R post w k n (pc + 1) lv (.long (iL (x + y)) :: st)) : J l D b Y R post w k n pc lv (.long (iL y) :: .long (iL x) :: st) :=
  fun p e s m args below meth c B K H locs ls hH hS hl => lv_ladd B.1 B.2.1 hd (by rw [iL_add]; exact kk p e s m args below meth c B K H locs ls hH hS hl)
theorem J_lsub {x y : Int} (hd : decode Y.2.1 pc = .ok (.lsub, 1)) (kk : J l D b Y R post w k n (pc + 1) lv (.long (iL (x - y)) :: st)) : J l D b Y R post w k n pc lv (.long (iL y) :: .long (iL x) :: st) :=
  fun p e s m args below meth c B K H locs ls hH hS hl => lv_lsub B.1 B.2.1 hd (by rw [iL_sub]; exact kk p e s m args below meth c B K H locs ls hH hS hl)
theorem J_lmul {x y : Int} (hd : decode Y.2.1 pc = .ok (.lmul, 1)) (kk : J l D b Y R post w k n (pc + 1) lv (.long (iL (x * y)) :: st)) : J l D b Y R post w k n pc lv (.long (iL y) :: .long (iL x) :: st) :=
  fun p e s m args below meth c B K H locs ls hH hS hl => lv_lmul B.1 B.2.1 hd (by rw [iL_mul]; exact kk p e s m args below meth c B K H locs ls hH hS hl)
theorem J_ldiv {x y : Int} (hd : decode Y.2.1 pc = .ok (.ldiv, 1)) (hx : 0 ≤ x ∧ x ≤ 9223372036854775807) (hy : 0 < y ∧ y ≤ 9223372036854775807) (kk : J l D b Y R post w k n (pc + 1) lv (.long (iL (x / y)) :: st)) : J l D b Y R post w k n pc lv (.long (iL y) :: .long (iL x) :: st) :=
  fun p e s m args below meth c B K H locs ls hH hS hl => lv_ldiv B.1 B.2.1 hd (fun h => absurd ((iL_eq (b := 0) (by omega) (by omega)).mp h) (by omega)) (by rw [iL_div hx hy]; exact kk p e s m args below meth c B K H locs ls hH hS hl)
theorem J_lrem {x y : Int} (hd : decode Y.2.1 pc = .ok (.lrem, 1)) (hx : 0 ≤ x ∧ x ≤ 9223372036854775807) (hy : 0 < y ∧ y ≤ 9223372036854775807) (kk : J l D b Y R post w k n (pc + 1) lv (.long (iL (x % y)) :: st)) : J l D b Y R post w k n pc lv (.long (iL y) :: .long (iL x) :: st) :=
  fun p e s m args below meth c B K H locs ls hH hS hl => lv_lrem B.1 B.2.1 hd (fun h => absurd ((iL_eq (b := 0) (by omega) (by omega)).mp h) (by omega)) (by rw [iL_rem hx hy]; exact kk p e s m args below meth c B K H locs ls hH hS hl)
theorem J_iand {x y z : Int32} (hd : decode Y.2.1 pc = .ok (.iand, 1)) (hz : x &&& y = z) (kk : J l D b Y R post w k n (pc + 1) lv (.int z :: st)) : J l D b Y R post w k n pc lv (.int y :: .int x :: st) :=
  fun p e s m args below meth c B K H locs ls hH hS hl => lv_iand B.1 B.2.1 hd (by rw [hz]; exact kk p e s m args below meth c B K H locs ls hH hS hl)
theorem J_ior {x y z : Int32} (hd : decode Y.2.1 pc = .ok (.ior, 1)) (hz : x ||| y = z) (kk : J l D b Y R post w k n (pc + 1) lv (.int z :: st)) : J l D b Y R post w k n pc lv (.int y :: .int x :: st) :=
  fun p e s m args below meth c B K H locs ls hH hS hl => lv_ior B.1 B.2.1 hd (by rw [hz]; exact kk p e s m args below meth c B K H locs ls hH hS hl)
theorem J_ixor {x y z : Int32} (hd : decode Y.2.1 pc = .ok (.ixor, 1)) (hz : x ^^^ y = z) (kk : J l D b Y R post w k n (pc + 1) lv (.int z :: st)) : J l D b Y R post w k n pc lv (.int y :: .int x :: st) :=
  fun p e s m args below meth c B K H locs ls hH hS hl => lv_ixor B.1 B.2.1 hd (by rw [hz]; exact kk p e s m args below meth c B K H locs ls hH hS hl)
theorem J_land {x y z : Int64} (hd : decode Y.2.1 pc = .ok (.land, 1)) (hz : x &&& y = z) (kk : J l D b Y R post w k n (pc + 1) lv (.long z :: st)) : J l D b Y R post w k n pc lv (.long y :: .long x :: st) :=
  fun p e s m args below meth c B K H locs ls hH hS hl => lv_land B.1 B.2.1 hd (by rw [hz]; exact kk p e s m args below meth c B K H locs ls hH hS hl)
theorem J_lor {x y z : Int64} (hd : decode Y.2.1 pc = .ok (.lor, 1)) (hz : x ||| y = z) (kk : J l D b Y R post w k n (pc + 1) lv (.long z :: st)) : J l D b Y R post w k n pc lv (.long y :: .long x :: st) :=
  fun p e s m args below meth c B K H locs ls hH hS hl => lv_lor B.1 B.2.1 hd (by rw [hz]; exact kk p e s m args below meth c B K H locs ls hH hS hl)
theorem J_lxor {x y z : Int64} (hd : decode Y.2.1 pc = .ok (.lxor, 1)) (hz : x ^^^ y = z) (kk : J l D b Y R post w k n (pc + 1) lv (.long z :: st)) : J l D b Y R post w k n pc lv (.long y :: .long x :: st) :=
  fun p e s m args below meth c B K H locs ls hH hS hl => lv_lxor B.1 B.2.1 hd (by rw [hz]; exact kk p e s m args below meth c B K H locs ls hH hS hl)
theorem J_ishl {x y z : Int32} (hd : decode Y.2.1 pc = .ok (.ishl, 1)) (hz : x <<< (y &&& 31) = z) (kk : J l D b Y R post w k n (pc + 1) lv (.int z :: st)) : J l D b Y R post w k n pc lv (.int y :: .int x :: st) :=
  fun p e s m args below meth c B K H locs ls hH hS hl => lv_ishl B.1 B.2.1 hd (by rw [hz]; exact kk p e s m args below meth c B K H locs ls hH hS hl)
theorem J_ishr {x y z : Int32} (hd : decode Y.2.1 pc = .ok (.ishr, 1)) (hz : x >>> (y &&& 31) = z) (kk : J l D b Y R post w k n (pc + 1) lv (.int z :: st)) : J l D b Y R post w k n pc lv (.int y :: .int x :: st) :=
  fun p e s m args below meth c B K H locs ls hH hS hl => lv_ishr B.1 B.2.1 hd (by rw [hz]; exact kk p e s m args below meth c B K H locs ls hH hS hl)
theorem J_iushr {x y z : Int32} (hd : decode Y.2.1 pc = .ok (.iushr, 1)) (hz : (x.toUInt32 >>> (y.toUInt32 &&& Int32.toUInt32 31)).toInt32 = z) (kk : J l D b Y R post w k n (pc + 1) lv (.int z :: st)) : J l D b Y R post w k n pc lv (.int y :: .int x :: st) :=
  fun p e s m args below meth c B K H locs ls hH hS hl => lv_iushr B.1 B.2.1 hd hz (kk p e s m args below meth c B K H locs ls hH hS hl)
theorem J_lshl {x z : Int64} {y : Int32} (hd : decode Y.2.1 pc = .ok (.lshl, 1)) (hz : x <<< (y.toInt64 &&& 63) = z) (kk : J l D b Y R post w k n (pc + 1) lv (.long z :: st)) : J l D b Y R post w k n pc lv (.int y :: .long x :: st) :=
  fun p e s m args below meth c B K H locs ls hH hS hl => lv_lshl B.1 B.2.1 hd hz (kk p e s m args below meth c B K H locs ls hH hS hl)
theorem J_lshr {x z : Int64} {y : Int32} (hd : decode Y.2.1 pc = .ok (.lshr, 1)) (hz : x >>> (y.toInt64 &&& 63) = z) (kk : J l D b Y R post w k n (pc + 1) lv (.long z :: st)) : J l D b Y R post w k n pc lv (.int y :: .long x :: st) :=
  fun p e s m args below meth c B K H locs ls hH hS hl => lv_lshr B.1 B.2.1 hd hz (kk p e s m args below meth c B K H locs ls hH hS hl)
theorem iI_long {z : Int} (h : -2147483648 ≤ z ∧ z ≤ 2147483647) : (iI z).toInt64 = iL z := by
  apply Int64.toInt_inj.mp
  rw [Int32.toInt_toInt64, iI_toInt h, iL_toInt (by omega)]
theorem J_i2l {x : Int} (hd : decode Y.2.1 pc = .ok (.i2l, 1)) (hx : -2147483648 ≤ x ∧ x ≤ 2147483647) (kk : J l D b Y R post w k n (pc + 1) lv (.long (iL x) :: st)) : J l D b Y R post w k n pc lv (.int (iI x) :: st) :=
  fun p e s m args below meth c B K H locs ls hH hS hl => lv_i2l B.1 B.2.1 hd (iI_long hx) (kk p e s m args below meth c B K H locs ls hH hS hl)
theorem iI_short {z : Int} (h : -32768 ≤ z ∧ z ≤ 32767) : (iI z).toInt16.toInt32 = iI z := by
  apply Int32.toInt_inj.mp
  rw [Int16.toInt_toInt32, Int32.toInt_toInt16, iI_toInt (by omega)]
  exact Int.bmod_eq_of_le (by omega) (by omega)
theorem J_i2s {x : Int} (hd : decode Y.2.1 pc = .ok (.i2s, 1)) (hx : -32768 ≤ x ∧ x ≤ 32767) (kk : J l D b Y R post w k n (pc + 1) lv (.int (iI x) :: st)) : J l D b Y R post w k n pc lv (.int (iI x) :: st) :=
  fun p e s m args below meth c B K H locs ls hH hS hl => lv_i2s B.1 B.2.1 hd (iI_short hx) (kk p e s m args below meth c B K H locs ls hH hS hl)
theorem J_dup {v : Value} (hd : decode Y.2.1 pc = .ok (.dup, 1)) (hv : v.category = 1) (kk : J l D b Y R post w k n (pc + 1) lv (v :: v :: st)) : J l D b Y R post w k n pc lv (v :: st) :=
  fun p e s m args below meth c B K H locs ls hH hS hl => lv_dup B.1 B.2.1 hd hv (kk p e s m args below meth c B K H locs ls hH hS hl)
theorem J_pop {v : Value} (hd : decode Y.2.1 pc = .ok (.pop, 1)) (hv : v.category = 1) (kk : J l D b Y R post w k n (pc + 1) lv (st)) : J l D b Y R post w k n pc lv (v :: st) :=
  fun p e s m args below meth c B K H locs ls hH hS hl => lv_pop B.1 B.2.1 hd hv (kk p e s m args below meth c B K H locs ls hH hS hl)
theorem J_dup_x1 {v u : Value} (hd : decode Y.2.1 pc = .ok (.dup_x1, 1)) (hv : v.category = 1) (hu : u.category = 1) (kk : J l D b Y R post w k n (pc + 1) lv (v :: u :: v :: st)) : J l D b Y R post w k n pc lv (v :: u :: st) :=
  fun p e s m args below meth c B K H locs ls hH hS hl => lv_dup_x1 B.1 B.2.1 hd hv hu (kk p e s m args below meth c B K H locs ls hH hS hl)
theorem J_dup2 {v u : Value} (hd : decode Y.2.1 pc = .ok (.dup2, 1)) (hv : v.category = 1) (hu : u.category = 1) (kk : J l D b Y R post w k n (pc + 1) lv (v :: u :: v :: u :: st)) : J l D b Y R post w k n pc lv (v :: u :: st) :=
  fun p e s m args below meth c B K H locs ls hH hS hl => lv_dup2_11 B.1 B.2.1 hd hv hu (kk p e s m args below meth c B K H locs ls hH hS hl)
theorem J_goto {off : Int} {tgt : Nat} (hd : decode Y.2.1 pc = .ok (.goto off, 3)) (ht : (pc : Int) + off = (tgt : Int)) (kk : J l D b Y R post w k n tgt lv st) : J l D b Y R post w k n pc lv st :=
  fun p e s m args below meth c B K H locs ls hH hS hl => lv_goto B.1 B.2.1 hd ht (kk p e s m args below meth c B K H locs ls hH hS hl)
theorem J_if_eq {x : Int} {off : Int} {tgt : Nat} (hd : decode Y.2.1 pc = .ok (.ifCond .eq off, 3)) (ht : (pc : Int) + off = (tgt : Int)) (hx : -2147483648 ≤ x ∧ x ≤ 2147483647) (kt : x = 0 → J l D b Y R post w k n tgt lv st) (kf : x ≠ 0 → J l D b Y R post w k n (pc + 3) lv st) : J l D b Y R post w k n pc lv (.int (iI x) :: st) := by
  intro p e s m args below meth c B K H locs ls hH hS hl
  have hy0 : iI x = iI 0 ↔ x = 0 := iI_eq hx (by omega)
  have hy1 : iI x < iI 0 ↔ x < 0 := iI_lt hx (by omega)
  have hy2 : iI x ≤ iI 0 ↔ x ≤ 0 := iI_le hx (by omega)
  have hy3 : iI 0 < iI x ↔ 0 < x := iI_lt (by omega) hx
  have hy4 : iI 0 ≤ iI x ↔ 0 ≤ x := iI_le (by omega) hx
  refine lv_if_eq (x := iI x) B.1 B.2.1 hd ht (fun h => kt ?_ p e s m args below meth c B K H locs ls hH hS hl) (fun h => kf ?_ p e s m args below meth c B K H locs ls hH hS hl)
  all_goals (try rw [iI_0] at h); (try simp only [hy0, hy1, hy2, hy3, hy4, ne_eq, Int32.not_lt, Int32.not_le, ge_iff_le, gt_iff_lt, Classical.not_not] at h); (try simp only [ge_iff_le, gt_iff_lt, ne_eq]); (first | exact h | omega)
theorem J_icmp_eq {x y : Int} {off : Int} {tgt : Nat} (hd : decode Y.2.1 pc = .ok (.if_icmp .eq off, 3)) (ht : (pc : Int) + off = (tgt : Int)) (hx : -2147483648 ≤ x ∧ x ≤ 2147483647) (hy : -2147483648 ≤ y ∧ y ≤ 2147483647) (kt : x = y → J l D b Y R post w k n tgt lv st) (kf : x ≠ y → J l D b Y R post w k n (pc + 3) lv st) : J l D b Y R post w k n pc lv (.int (iI y) :: .int (iI x) :: st) := by
  intro p e s m args below meth c B K H locs ls hH hS hl
  have hy0 : iI x = iI y ↔ x = y := iI_eq hx (by omega)
  have hy1 : iI x < iI y ↔ x < y := iI_lt hx (by omega)
  have hy2 : iI x ≤ iI y ↔ x ≤ y := iI_le hx (by omega)
  have hy3 : iI y < iI x ↔ y < x := iI_lt (by omega) hx
  have hy4 : iI y ≤ iI x ↔ y ≤ x := iI_le (by omega) hx
  refine lv_icmp_eq (x := iI x) (y := iI y) B.1 B.2.1 hd ht (fun h => kt ?_ p e s m args below meth c B K H locs ls hH hS hl) (fun h => kf ?_ p e s m args below meth c B K H locs ls hH hS hl)
  all_goals (try rw [iI_0] at h); (try simp only [hy0, hy1, hy2, hy3, hy4, ne_eq, Int32.not_lt, Int32.not_le, ge_iff_le, gt_iff_lt, Classical.not_not] at h); (try simp only [ge_iff_le, gt_iff_lt, ne_eq]); (first | exact h | omega)
theorem J_if_ne {x : Int} {off : Int} {tgt : Nat} (hd : decode Y.2.1 pc = .ok (.ifCond .ne off, 3)) (ht : (pc : Int) + off = (tgt : Int)) (hx : -2147483648 ≤ x ∧ x ≤ 2147483647) (kt : x ≠ 0 → J l D b Y R post w k n tgt lv st) (kf : x = 0 → J l D b Y R post w k n (pc + 3) lv st) : J l D b Y R post w k n pc lv (.int (iI x) :: st) := by
  intro p e s m args below meth c B K H locs ls hH hS hl
  have hy0 : iI x = iI 0 ↔ x = 0 := iI_eq hx (by omega)
  have hy1 : iI x < iI 0 ↔ x < 0 := iI_lt hx (by omega)
  have hy2 : iI x ≤ iI 0 ↔ x ≤ 0 := iI_le hx (by omega)
  have hy3 : iI 0 < iI x ↔ 0 < x := iI_lt (by omega) hx
  have hy4 : iI 0 ≤ iI x ↔ 0 ≤ x := iI_le (by omega) hx
  refine lv_if_ne (x := iI x) B.1 B.2.1 hd ht (fun h => kt ?_ p e s m args below meth c B K H locs ls hH hS hl) (fun h => kf ?_ p e s m args below meth c B K H locs ls hH hS hl)
  all_goals (try rw [iI_0] at h); (try simp only [hy0, hy1, hy2, hy3, hy4, ne_eq, Int32.not_lt, Int32.not_le, ge_iff_le, gt_iff_lt, Classical.not_not] at h); (try simp only [ge_iff_le, gt_iff_lt, ne_eq]); (first | exact h | omega)
theorem J_icmp_ne {x y : Int} {off : Int} {tgt : Nat} (hd : decode Y.2.1 pc = .ok (.if_icmp .ne off, 3)) (ht : (pc : Int) + off = (tgt : Int)) (hx : -2147483648 ≤ x ∧ x ≤ 2147483647) (hy : -2147483648 ≤ y ∧ y ≤ 2147483647) (kt : x ≠ y → J l D b Y R post w k n tgt lv st) (kf : x = y → J l D b Y R post w k n (pc + 3) lv st) : J l D b Y R post w k n pc lv (.int (iI y) :: .int (iI x) :: st) := by
  intro p e s m args below meth c B K H locs ls hH hS hl
  have hy0 : iI x = iI y ↔ x = y := iI_eq hx (by omega)
  have hy1 : iI x < iI y ↔ x < y := iI_lt hx (by omega)
  have hy2 : iI x ≤ iI y ↔ x ≤ y := iI_le hx (by omega)
  have hy3 : iI y < iI x ↔ y < x := iI_lt (by omega) hx
  have hy4 : iI y ≤ iI x ↔ y ≤ x := iI_le (by omega) hx
  refine lv_icmp_ne (x := iI x) (y := iI y) B.1 B.2.1 hd ht (fun h => kt ?_ p e s m args below meth c B K H locs ls hH hS hl) (fun h => kf ?_ p e s m args below meth c B K H locs ls hH hS hl)
  all_goals (try rw [iI_0] at h); (try simp only [hy0, hy1, hy2, hy3, hy4, ne_eq, Int32.not_lt, Int32.not_le, ge_iff_le, gt_iff_lt, Classical.not_not] at h); (try simp only [ge_iff_le, gt_iff_lt, ne_eq]); (first | exact h | omega)
theorem J_if_lt {x : Int} {off : Int} {tgt : Nat} (hd : decode Y.2.1 pc = .ok (.ifCond .lt off, 3)) (ht : (pc : Int) + off = (tgt : Int)) (hx : -2147483648 ≤ x ∧ x ≤ 2147483647) (kt : x < 0 → J l D b Y R post w k n tgt lv st) (kf : x ≥ 0 → J l D b Y R post w k n (pc + 3) lv st) : J l D b Y R post w k n pc lv (.int (iI x) :: st) := by
  intro p e s m args below meth c B K H locs ls hH hS hl
  have hy0 : iI x = iI 0 ↔ x = 0 := iI_eq hx (by omega)
  have hy1 : iI x < iI 0 ↔ x < 0 := iI_lt hx (by omega)
  have hy2 : iI x ≤ iI 0 ↔ x ≤ 0 := iI_le hx (by omega)
  have hy3 : iI 0 < iI x ↔ 0 < x := iI_lt (by omega) hx
  have hy4 : iI 0 ≤ iI x ↔ 0 ≤ x := iI_le (by omega) hx
  refine lv_if_lt (x := iI x) B.1 B.2.1 hd ht (fun h => kt ?_ p e s m args below meth c B K H locs ls hH hS hl) (fun h => kf ?_ p e s m args below meth c B K H locs ls hH hS hl)
  all_goals (try rw [iI_0] at h); (try simp only [hy0, hy1, hy2, hy3, hy4, ne_eq, Int32.not_lt, Int32.not_le, ge_iff_le, gt_iff_lt, Classical.not_not] at h); (try simp only [ge_iff_le, gt_iff_lt, ne_eq]); (first | exact h | omega)
theorem J_icmp_lt {x y : Int} {off : Int} {tgt : Nat} (hd : decode Y.2.1 pc = .ok (.if_icmp .lt off, 3)) (ht : (pc : Int) + off = (tgt : Int)) (hx : -2147483648 ≤ x ∧ x ≤ 2147483647) (hy : -2147483648 ≤ y ∧ y ≤ 2147483647) (kt : x < y → J l D b Y R post w k n tgt lv st) (kf : x ≥ y → J l D b Y R post w k n (pc + 3) lv st) : J l D b Y R post w k n pc lv (.int (iI y) :: .int (iI x) :: st) := by
  intro p e s m args below meth c B K H locs ls hH hS hl
  have hy0 : iI x = iI y ↔ x = y := iI_eq hx (by omega)
  have hy1 : iI x < iI y ↔ x < y := iI_lt hx (by omega)
  have hy2 : iI x ≤ iI y ↔ x ≤ y := iI_le hx (by omega)
  have hy3 : iI y < iI x ↔ y < x := iI_lt (by omega) hx
  have hy4 : iI y ≤ iI x ↔ y ≤ x := iI_le (by omega) hx
  refine lv_icmp_lt (x := iI x) (y := iI y) B.1 B.2.1 hd ht (fun h => kt ?_ p e s m args below meth c B K H locs ls hH hS hl) (fun h => kf ?_ p e s m args below meth c B K H locs ls hH hS hl)
  all_goals (try rw [iI_0] at h); (try simp only [hy0, hy1, hy2, hy3, hy4, ne_eq, Int32.not_lt, Int32.not_le, ge_iff_le, gt_iff_lt, Classical.not_not] at h); (try simp only [ge_iff_le, gt_iff_lt, ne_eq]); (first | exact h | omega)
theorem J_if_ge {x : Int} {off : Int} {tgt : Nat} (hd : decode Y.2.1 pc = .ok (.ifCond .ge off, 3)) (ht : (pc : Int) + off = (tgt : Int)) (hx : -2147483648 ≤ x ∧ x ≤ 2147483647) (kt : x ≥ 0 → J l D b Y R post w k n tgt lv st) (kf : x < 0 → J l D b Y R post w k n (pc + 3) lv st) : J l D b Y R post w k n pc lv (.int (iI x) :: st) := by
  intro p e s m args below meth c B K H locs ls hH hS hl
  have hy0 : iI x = iI 0 ↔ x = 0 := iI_eq hx (by omega)
  have hy1 : iI x < iI 0 ↔ x < 0 := iI_lt hx (by omega)
  have hy2 : iI x ≤ iI 0 ↔ x ≤ 0 := iI_le hx (by omega)
  have hy3 : iI 0 < iI x ↔ 0 < x := iI_lt (by omega) hx
  have hy4 : iI 0 ≤ iI x ↔ 0 ≤ x := iI_le (by omega) hx
  refine lv_if_ge (x := iI x) B.1 B.2.1 hd ht (fun h => kt ?_ p e s m args below meth c B K H locs ls hH hS hl) (fun h => kf ?_ p e s m args below meth c B K H locs ls hH hS hl)
  all_goals (try rw [iI_0] at h); (try simp only [hy0, hy1, hy2, hy3, hy4, ne_eq, Int32.not_lt, Int32.not_le, ge_iff_le, gt_iff_lt, Classical.not_not] at h); (try simp only [ge_iff_le, gt_iff_lt, ne_eq]); (first | exact h | omega)
theorem J_icmp_ge {x y : Int} {off : Int} {tgt : Nat} (hd : decode Y.2.1 pc = .ok (.if_icmp .ge off, 3)) (ht : (pc : Int) + off = (tgt : Int)) (hx : -2147483648 ≤ x ∧ x ≤ 2147483647) (hy : -2147483648 ≤ y ∧ y ≤ 2147483647) (kt : x ≥ y → J l D b Y R post w k n tgt lv st) (kf : x < y → J l D b Y R post w k n (pc + 3) lv st) : J l D b Y R post w k n pc lv (.int (iI y) :: .int (iI x) :: st) := by
  intro p e s m args below meth c B K H locs ls hH hS hl
  have hy0 : iI x = iI y ↔ x = y := iI_eq hx (by omega)
  have hy1 : iI x < iI y ↔ x < y := iI_lt hx (by omega)
  have hy2 : iI x ≤ iI y ↔ x ≤ y := iI_le hx (by omega)
  have hy3 : iI y < iI x ↔ y < x := iI_lt (by omega) hx
  have hy4 : iI y ≤ iI x ↔ y ≤ x := iI_le (by omega) hx
  refine lv_icmp_ge (x := iI x) (y := iI y) B.1 B.2.1 hd ht (fun h => kt ?_ p e s m args below meth c B K H locs ls hH hS hl) (fun h => kf ?_ p e s m args below meth c B K H locs ls hH hS hl)
  all_goals (try rw [iI_0] at h); (try simp only [hy0, hy1, hy2, hy3, hy4, ne_eq, Int32.not_lt, Int32.not_le, ge_iff_le, gt_iff_lt, Classical.not_not] at h); (try simp only [ge_iff_le, gt_iff_lt, ne_eq]); (first | exact h | omega)
theorem J_if_gt {x : Int} {off : Int} {tgt : Nat} (hd : decode Y.2.1 pc = .ok (.ifCond .gt off, 3)) (ht : (pc : Int) + off = (tgt : Int)) (hx : -2147483648 ≤ x ∧ x ≤ 2147483647) (kt : x > 0 → J l D b Y R post w k n tgt lv st) (kf : x ≤ 0 → J l D b Y R post w k n (pc + 3) lv st) : J l D b Y R post w k n pc lv (.int (iI x) :: st) := by
  intro p e s m args below meth c B K H locs ls hH hS hl
  have hy0 : iI x = iI 0 ↔ x = 0 := iI_eq hx (by omega)
  have hy1 : iI x < iI 0 ↔ x < 0 := iI_lt hx (by omega)
  have hy2 : iI x ≤ iI 0 ↔ x ≤ 0 := iI_le hx (by omega)
  have hy3 : iI 0 < iI x ↔ 0 < x := iI_lt (by omega) hx
  have hy4 : iI 0 ≤ iI x ↔ 0 ≤ x := iI_le (by omega) hx
  refine lv_if_gt (x := iI x) B.1 B.2.1 hd ht (fun h => kt ?_ p e s m args below meth c B K H locs ls hH hS hl) (fun h => kf ?_ p e s m args below meth c B K H locs ls hH hS hl)
  all_goals (try rw [iI_0] at h); (try simp only [hy0, hy1, hy2, hy3, hy4, ne_eq, Int32.not_lt, Int32.not_le, ge_iff_le, gt_iff_lt, Classical.not_not] at h); (try simp only [ge_iff_le, gt_iff_lt, ne_eq]); (first | exact h | omega)
theorem J_icmp_gt {x y : Int} {off : Int} {tgt : Nat} (hd : decode Y.2.1 pc = .ok (.if_icmp .gt off, 3)) (ht : (pc : Int) + off = (tgt : Int)) (hx : -2147483648 ≤ x ∧ x ≤ 2147483647) (hy : -2147483648 ≤ y ∧ y ≤ 2147483647) (kt : x > y → J l D b Y R post w k n tgt lv st) (kf : x ≤ y → J l D b Y R post w k n (pc + 3) lv st) : J l D b Y R post w k n pc lv (.int (iI y) :: .int (iI x) :: st) := by
  intro p e s m args below meth c B K H locs ls hH hS hl
  have hy0 : iI x = iI y ↔ x = y := iI_eq hx (by omega)
  have hy1 : iI x < iI y ↔ x < y := iI_lt hx (by omega)
  have hy2 : iI x ≤ iI y ↔ x ≤ y := iI_le hx (by omega)
  have hy3 : iI y < iI x ↔ y < x := iI_lt (by omega) hx
  have hy4 : iI y ≤ iI x ↔ y ≤ x := iI_le (by omega) hx
  refine lv_icmp_gt (x := iI x) (y := iI y) B.1 B.2.1 hd ht (fun h => kt ?_ p e s m args below meth c B K H locs ls hH hS hl) (fun h => kf ?_ p e s m args below meth c B K H locs ls hH hS hl)
  all_goals (try rw [iI_0] at h); (try simp only [hy0, hy1, hy2, hy3, hy4, ne_eq, Int32.not_lt, Int32.not_le, ge_iff_le, gt_iff_lt, Classical.not_not] at h); (try simp only [ge_iff_le, gt_iff_lt, ne_eq]); (first | exact h | omega)
theorem J_if_le {x : Int} {off : Int} {tgt : Nat} (hd : decode Y.2.1 pc = .ok (.ifCond .le off, 3)) (ht : (pc : Int) + off = (tgt : Int)) (hx : -2147483648 ≤ x ∧ x ≤ 2147483647) (kt : x ≤ 0 → J l D b Y R post w k n tgt lv st) (kf : x > 0 → J l D b Y R post w k n (pc + 3) lv st) : J l D b Y R post w k n pc lv (.int (iI x) :: st) := by
  intro p e s m args below meth c B K H locs ls hH hS hl
  have hy0 : iI x = iI 0 ↔ x = 0 := iI_eq hx (by omega)
  have hy1 : iI x < iI 0 ↔ x < 0 := iI_lt hx (by omega)
  have hy2 : iI x ≤ iI 0 ↔ x ≤ 0 := iI_le hx (by omega)
  have hy3 : iI 0 < iI x ↔ 0 < x := iI_lt (by omega) hx
  have hy4 : iI 0 ≤ iI x ↔ 0 ≤ x := iI_le (by omega) hx
  refine lv_if_le (x := iI x) B.1 B.2.1 hd ht (fun h => kt ?_ p e s m args below meth c B K H locs ls hH hS hl) (fun h => kf ?_ p e s m args below meth c B K H locs ls hH hS hl)
  all_goals (try rw [iI_0] at h); (try simp only [hy0, hy1, hy2, hy3, hy4, ne_eq, Int32.not_lt, Int32.not_le, ge_iff_le, gt_iff_lt, Classical.not_not] at h); (try simp only [ge_iff_le, gt_iff_lt, ne_eq]); (first | exact h | omega)
theorem J_icmp_le {x y : Int} {off : Int} {tgt : Nat} (hd : decode Y.2.1 pc = .ok (.if_icmp .le off, 3)) (ht : (pc : Int) + off = (tgt : Int)) (hx : -2147483648 ≤ x ∧ x ≤ 2147483647) (hy : -2147483648 ≤ y ∧ y ≤ 2147483647) (kt : x ≤ y → J l D b Y R post w k n tgt lv st) (kf : x > y → J l D b Y R post w k n (pc + 3) lv st) : J l D b Y R post w k n pc lv (.int (iI y) :: .int (iI x) :: st) := by
  intro p e s m args below meth c B K H locs ls hH hS hl
  have hy0 : iI x = iI y ↔ x = y := iI_eq hx (by omega)
  have hy1 : iI x < iI y ↔ x < y := iI_lt hx (by omega)
  have hy2 : iI x ≤ iI y ↔ x ≤ y := iI_le hx (by omega)
  have hy3 : iI y < iI x ↔ y < x := iI_lt (by omega) hx
  have hy4 : iI y ≤ iI x ↔ y ≤ x := iI_le (by omega) hx
  refine lv_icmp_le (x := iI x) (y := iI y) B.1 B.2.1 hd ht (fun h => kt ?_ p e s m args below meth c B K H locs ls hH hS hl) (fun h => kf ?_ p e s m args below meth c B K H locs ls hH hS hl)
  all_goals (try rw [iI_0] at h); (try simp only [hy0, hy1, hy2, hy3, hy4, ne_eq, Int32.not_lt, Int32.not_le, ge_iff_le, gt_iff_lt, Classical.not_not] at h); (try simp only [ge_iff_le, gt_iff_lt, ne_eq]); (first | exact h | omega)
theorem J_ifB_eq {q : Bool} {off : Int} {tgt : Nat} (hd : decode Y.2.1 pc = .ok (.ifCond .eq off, 3)) (ht : (pc : Int) + off = (tgt : Int)) (kt : q = false → J l D b Y R post w k n tgt lv st) (kf : q = true → J l D b Y R post w k n (pc + 3) lv st) : J l D b Y R post w k n pc lv (.int (iI (bz q)) :: st) :=
  J_if_eq hd ht (by have := bz_le q; omega) (fun h => kt (by revert h; cases q <;> simp [bz])) (fun h => kf (by revert h; cases q <;> simp [bz]))
theorem J_ifB_ne {q : Bool} {off : Int} {tgt : Nat} (hd : decode Y.2.1 pc = .ok (.ifCond .ne off, 3)) (ht : (pc : Int) + off = (tgt : Int)) (kt : q = true → J l D b Y R post w k n tgt lv st) (kf : q = false → J l D b Y R post w k n (pc + 3) lv st) : J l D b Y R post w k n pc lv (.int (iI (bz q)) :: st) :=
  J_if_ne hd ht (by have := bz_le q; omega) (fun h => kt (by revert h; cases q <;> simp [bz])) (fun h => kf (by revert h; cases q <;> simp [bz]))
theorem lg_iL {x y : Int} (hx : -9223372036854775808 ≤ x ∧ x ≤ 9223372036854775807) (hy : -9223372036854775808 ≤ y ∧ y ≤ 9223372036854775807) : lg_cmp (iL x) (iL y) = iI (if y < x then 1 else if x = y then 0 else -1) := by
  unfold lg_cmp
  simp only [iL_lt hy hx, iL_eq hx hy, gt_iff_lt]
  split
  · rfl
  · split <;> rfl
theorem J_lcmp {x y : Int} (hd : decode Y.2.1 pc = .ok (.lcmp, 1)) (hx : -9223372036854775808 ≤ x ∧ x ≤ 9223372036854775807) (hy : -9223372036854775808 ≤ y ∧ y ≤ 9223372036854775807) (kk : J l D b Y R post w k n (pc + 1) lv (.int (iI (if y < x then 1 else if x = y then 0 else -1)) :: st)) : J l D b Y R post w k n pc lv (.long (iL y) :: .long (iL x) :: st) :=
  fun p e s m args below meth c B K H locs ls hH hS hl => W.lcmp B.1 B.2.1 hd (by rw [lg_iL hx hy]; exact kk p e s m args below meth c B K H locs ls hH hS hl)
theorem J_lcmp_eq {x y : Int} {off : Int} {tgt : Nat} (hd : decode Y.2.1 pc = .ok (.lcmp, 1)) (hd2 : decode Y.2.1 (pc + 1) = .ok (.ifCond .eq off, 3)) (ht : ((pc + 1 : Nat) : Int) + off = (tgt : Int)) (hx : -9223372036854775808 ≤ x ∧ x ≤ 9223372036854775807) (hy : -9223372036854775808 ≤ y ∧ y ≤ 9223372036854775807) (kt : x = y → J l D b Y R post w k n tgt lv st) (kf : x ≠ y → J l D b Y R post w k n (pc + 4) lv st) : J l D b Y R post w k n pc lv (.long (iL y) :: .long (iL x) :: st) := by
  refine J_lcmp hd hx hy (J_if_eq hd2 ht (by split <;> (try split) <;> omega) (fun h => kt ?_) (fun h => kf ?_))
  all_goals (split at h <;> (try split at h) <;> first | omega | (simp at h; done))
theorem J_lcmp_ne {x y : Int} {off : Int} {tgt : Nat} (hd : decode Y.2.1 pc = .ok (.lcmp, 1)) (hd2 : decode Y.2.1 (pc + 1) = .ok (.ifCond .ne off, 3)) (ht : ((pc + 1 : Nat) : Int) + off = (tgt : Int)) (hx : -9223372036854775808 ≤ x ∧ x ≤ 9223372036854775807) (hy : -9223372036854775808 ≤ y ∧ y ≤ 9223372036854775807) (kt : x ≠ y → J l D b Y R post w k n tgt lv st) (kf : x = y → J l D b Y R post w k n (pc + 4) lv st) : J l D b Y R post w k n pc lv (.long (iL y) :: .long (iL x) :: st) := by
  refine J_lcmp hd hx hy (J_if_ne hd2 ht (by split <;> (try split) <;> omega) (fun h => kt ?_) (fun h => kf ?_))
  all_goals (split at h <;> (try split at h) <;> first | omega | (simp at h; done))
theorem J_lcmp_lt {x y : Int} {off : Int} {tgt : Nat} (hd : decode Y.2.1 pc = .ok (.lcmp, 1)) (hd2 : decode Y.2.1 (pc + 1) = .ok (.ifCond .lt off, 3)) (ht : ((pc + 1 : Nat) : Int) + off = (tgt : Int)) (hx : -9223372036854775808 ≤ x ∧ x ≤ 9223372036854775807) (hy : -9223372036854775808 ≤ y ∧ y ≤ 9223372036854775807) (kt : x < y → J l D b Y R post w k n tgt lv st) (kf : x ≥ y → J l D b Y R post w k n (pc + 4) lv st) : J l D b Y R post w k n pc lv (.long (iL y) :: .long (iL x) :: st) := by
  refine J_lcmp hd hx hy (J_if_lt hd2 ht (by split <;> (try split) <;> omega) (fun h => kt ?_) (fun h => kf ?_))
  all_goals (split at h <;> (try split at h) <;> first | omega | (simp at h; done))
theorem J_lcmp_ge {x y : Int} {off : Int} {tgt : Nat} (hd : decode Y.2.1 pc = .ok (.lcmp, 1)) (hd2 : decode Y.2.1 (pc + 1) = .ok (.ifCond .ge off, 3)) (ht : ((pc + 1 : Nat) : Int) + off = (tgt : Int)) (hx : -9223372036854775808 ≤ x ∧ x ≤ 9223372036854775807) (hy : -9223372036854775808 ≤ y ∧ y ≤ 9223372036854775807) (kt : x ≥ y → J l D b Y R post w k n tgt lv st) (kf : x < y → J l D b Y R post w k n (pc + 4) lv st) : J l D b Y R post w k n pc lv (.long (iL y) :: .long (iL x) :: st) := by
  refine J_lcmp hd hx hy (J_if_ge hd2 ht (by split <;> (try split) <;> omega) (fun h => kt ?_) (fun h => kf ?_))
  all_goals (split at h <;> (try split at h) <;> first | omega | (simp at h; done))
theorem J_lcmp_gt {x y : Int} {off : Int} {tgt : Nat} (hd : decode Y.2.1 pc = .ok (.lcmp, 1)) (hd2 : decode Y.2.1 (pc + 1) = .ok (.ifCond .gt off, 3)) (ht : ((pc + 1 : Nat) : Int) + off = (tgt : Int)) (hx : -9223372036854775808 ≤ x ∧ x ≤ 9223372036854775807) (hy : -9223372036854775808 ≤ y ∧ y ≤ 9223372036854775807) (kt : x > y → J l D b Y R post w k n tgt lv st) (kf : x ≤ y → J l D b Y R post w k n (pc + 4) lv st) : J l D b Y R post w k n pc lv (.long (iL y) :: .long (iL x) :: st) := by
  refine J_lcmp hd hx hy (J_if_gt hd2 ht (by split <;> (try split) <;> omega) (fun h => kt ?_) (fun h => kf ?_))
  all_goals (split at h <;> (try split at h) <;> first | omega | (simp at h; done))
theorem J_lcmp_le {x y : Int} {off : Int} {tgt : Nat} (hd : decode Y.2.1 pc = .ok (.lcmp, 1)) (hd2 : decode Y.2.1 (pc + 1) = .ok (.ifCond .le off, 3)) (ht : ((pc + 1 : Nat) : Int) + off = (tgt : Int)) (hx : -9223372036854775808 ≤ x ∧ x ≤ 9223372036854775807) (hy : -9223372036854775808 ≤ y ∧ y ≤ 9223372036854775807) (kt : x ≤ y → J l D b Y R post w k n tgt lv st) (kf : x > y → J l D b Y R post w k n (pc + 4) lv st) : J l D b Y R post w k n pc lv (.long (iL y) :: .long (iL x) :: st) := by
  refine J_lcmp hd hx hy (J_if_le hd2 ht (by split <;> (try split) <;> omega) (fun h => kt ?_) (fun h => kf ?_))
  all_goals (split at h <;> (try split at h) <;> first | omega | (simp at h; done))
end JS
