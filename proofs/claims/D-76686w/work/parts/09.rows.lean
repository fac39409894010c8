set_option linter.unusedVariables false
set_option maxRecDepth 100000
section JR
variable {l : Launch} {d : wD} {X : jX} {D : Nat} {K : jK} {Kx : jKx} {M : jM} {pc : Nat} {σ : wS} {L L2 : List (Nat × Value)} {st : List Value}
theorem jG.ex (G : jG l d X M) : X.1.tables.exec = Jvm.exec := G.1.1
theorem jG.cd (G : jG l d X M) : X.2.2.2.2.2.2.2.1.code = M.2.1 := G.1.2.1
theorem jG.ml (G : jG l d X M) : X.2.2.2.2.2.2.2.1.maxLocals = M.2.2.1 := G.1.2.2.1
theorem jG.own (G : jG l d X M) : X.2.2.1.vm.findClass M.1.cls = some X.2.2.2.1.cls := G.1.2.2.2.1
theorem jG.ws (G : jG l d X M) : ∀ w ∈ lw_all, w.before X.2.2.2.2.1 X.2.2.1 = true := G.1.2.2.2.2
theorem jG.rt (G : jG l d X M) : X.2.2.2.2.2.2.1.sig.returnType = M.2.2.2.1 := G.2.1
theorem jG.lk (G : jG l d X M) : X.2.2.2.2.2.2.1.locks = false := G.2.2.1
theorem jG.nt (G : jG l d X M) : l.stackTraces = false := G.2.2.2.1
theorem jG.tb (G : jG l d X M) : X.2.2.2.2.2.2.2.1.exceptionTable.toList = tableOf M.2.2.2.2 := G.2.2.2.2.1
theorem jG.nm (G : jG l d X M) : X.2.2.2.2.2.2.1.name = M.1.name := G.2.2.2.2.2.1
theorem jG.sz (G : jG l d X M) : dB d ≤ X.2.2.1.heap.size := G.2.2.2.2.2.2.1
theorem jG.nn (G : jG l d X M) : wd_N d (xE X) X.2.2.1.heap := G.2.2.2.2.2.2.2.1
theorem jG.kk (G : jG l d X M) : wd_K d X.2.2.1 X.2.2.1.heap := G.2.2.2.2.2.2.2.2
theorem jG.va (G : jG l d X M) : va_K d.1 vwCl (wd_tys d.2.1) X.2.2.1 := G.kk.1.1
theorem j_iconst {n : Int} {v : Int32} (hd : decode M.2.1 pc = .ok (.iconst n, 1)) (hv : Int32.ofInt n = v) (k : J l d X D K Kx M (pc + 1) σ L (.int v :: st)) : J l d X D K Kx M pc σ L (st) := fun G ha hb hE H locs ls hW hS hl => lv_iconst G.ex G.cd hd hv (k G ha hb hE H locs ls hW hS hl)
theorem j_bipush {n : Int} {v : Int32} (hd : decode M.2.1 pc = .ok (.bipush n, 2)) (hv : (Int8.ofInt n).toInt32 = v) (k : J l d X D K Kx M (pc + 2) σ L (.int v :: st)) : J l d X D K Kx M pc σ L (st) := fun G ha hb hE H locs ls hW hS hl => lv_bipush G.ex G.cd hd hv (k G ha hb hE H locs ls hW hS hl)
theorem j_sipush {n : Int} {v : Int32} (hd : decode M.2.1 pc = .ok (.sipush n, 3)) (hv : (Int16.ofInt n).toInt32 = v) (k : J l d X D K Kx M (pc + 3) σ L (.int v :: st)) : J l d X D K Kx M pc σ L (st) := fun G ha hb hE H locs ls hW hS hl => lv_sipush G.ex G.cd hd hv (k G ha hb hE H locs ls hW hS hl)
theorem j_lconst {n : Fin 2} {v : Int64} (hd : decode M.2.1 pc = .ok (.lconst n, 1)) (hv : Int64.ofNat (n : Nat) = v) (k : J l d X D K Kx M (pc + 1) σ L (.long v :: st)) : J l d X D K Kx M pc σ L (st) := fun G ha hb hE H locs ls hW hS hl => lv_lconst G.ex G.cd hd hv (k G ha hb hE H locs ls hW hS hl)
theorem j_null  (hd : decode M.2.1 pc = .ok (.aconst_null, 1))  (k : J l d X D K Kx M (pc + 1) σ L (.null :: st)) : J l d X D K Kx M pc σ L (st) := fun G ha hb hE H locs ls hW hS hl => lv_null G.ex G.cd hd (k G ha hb hE H locs ls hW hS hl)
theorem j_ldc {idx : Nat} {v : Int32} (hd : decode M.2.1 pc = .ok (.ldc idx, 2)) (hq : Cond.constant M.1.cls idx v ∈ lw_all) (k : J l d X D K Kx M (pc + 2) σ L (.int v :: st)) : J l d X D K Kx M pc σ L (st) := fun G ha hb hE H locs ls hW hS hl => lv_ldc G.ex G.cd G.own (G.ws _ hq) hd (k G ha hb hE H locs ls hW hS hl)
theorem j_ldcw {idx : Nat} {v : Int32} (hd : decode M.2.1 pc = .ok (.ldc_w idx, 3)) (hq : Cond.constant M.1.cls idx v ∈ lw_all) (k : J l d X D K Kx M (pc + 3) σ L (.int v :: st)) : J l d X D K Kx M pc σ L (st) := fun G ha hb hE H locs ls hW hS hl => lv_ldcw G.ex G.cd G.own (G.ws _ hq) hd (k G ha hb hE H locs ls hW hS hl)
theorem j_ldc2 {idx : Nat} {v : Int64} (hd : decode M.2.1 pc = .ok (.ldc2_w idx, 3)) (hq : Cond.constantLong M.1.cls idx v ∈ lw_all) (k : J l d X D K Kx M (pc + 3) σ L (.long v :: st)) : J l d X D K Kx M pc σ L (st) := fun G ha hb hE H locs ls hW hS hl => lv_ldc2 G.ex G.cd G.own (G.ws _ hq) hd (k G ha hb hE H locs ls hW hS hl)
theorem j_iload_n {k : Fin 4} {i kk : Nat} {x : Int32} (hd : decode M.2.1 pc = .ok (.iload_n k, 1)) (hi : (k : Nat) = i) (hk : L[kk]? = some (i, .int x)) (k : J l d X D K Kx M (pc + 1) σ L (.int x :: st)) : J l d X D K Kx M pc σ L (st) := fun G ha hb hE H locs ls hW hS hl => lv_iload_n G.ex G.cd hd hi (lv_at hl kk hk) (k G ha hb hE H locs ls hW hS hl)
theorem j_iload {i kk : Nat} {x : Int32} (hd : decode M.2.1 pc = .ok (.iload i, 2)) (hk : L[kk]? = some (i, .int x)) (k : J l d X D K Kx M (pc + 2) σ L (.int x :: st)) : J l d X D K Kx M pc σ L (st) := fun G ha hb hE H locs ls hW hS hl => lv_iload G.ex G.cd hd (lv_at hl kk hk) (k G ha hb hE H locs ls hW hS hl)
theorem j_istore_n {k : Fin 4} {i : Nat} {x : Int32} (hd : decode M.2.1 pc = .ok (.istore_n k, 1)) (hi : (k : Nat) = i) (hn : i < M.2.2.1) (hL : (i, Value.int x) :: L.filter (fun q => !(q.1 == i) && !(q.1 + 1 == i && q.2.category == 2)) = L2) (k : J l d X D K Kx M (pc + 1) σ L2 st) : J l d X D K Kx M pc σ L (.int x :: st) := fun G ha hb hE H locs ls hW hS hl => lv_istore_n G.ex G.cd hd hi hl hn hL (fun ls hl => k G ha hb hE H locs ls hW hS hl)
theorem j_istore {i : Nat} {x : Int32} (hd : decode M.2.1 pc = .ok (.istore i, 2)) (hn : i < M.2.2.1) (hL : (i, Value.int x) :: L.filter (fun q => !(q.1 == i) && !(q.1 + 1 == i && q.2.category == 2)) = L2) (k : J l d X D K Kx M (pc + 2) σ L2 st) : J l d X D K Kx M pc σ L (.int x :: st) := fun G ha hb hE H locs ls hW hS hl => lv_istore G.ex G.cd hd hl hn hL (fun ls hl => k G ha hb hE H locs ls hW hS hl)
theorem j_lload_n {k : Fin 4} {i kk : Nat} {x : Int64} (hd : decode M.2.1 pc = .ok (.lload_n k, 1)) (hi : (k : Nat) = i) (hk : L[kk]? = some (i, .long x)) (k : J l d X D K Kx M (pc + 1) σ L (.long x :: st)) : J l d X D K Kx M pc σ L (st) := fun G ha hb hE H locs ls hW hS hl => lv_lload_n G.ex G.cd hd hi (lv_at hl kk hk) (k G ha hb hE H locs ls hW hS hl)
theorem j_lload {i kk : Nat} {x : Int64} (hd : decode M.2.1 pc = .ok (.lload i, 2)) (hk : L[kk]? = some (i, .long x)) (k : J l d X D K Kx M (pc + 2) σ L (.long x :: st)) : J l d X D K Kx M pc σ L (st) := fun G ha hb hE H locs ls hW hS hl => lv_lload G.ex G.cd hd (lv_at hl kk hk) (k G ha hb hE H locs ls hW hS hl)
theorem j_lstore_n {k : Fin 4} {i : Nat} {x : Int64} (hd : decode M.2.1 pc = .ok (.lstore_n k, 1)) (hi : (k : Nat) = i) (hn : i + 1 < M.2.2.1) (hL : (i, Value.long x) :: L.filter (fun q => !(q.1 == i) && (!(q.1 == i + 1) && !(q.1 + 1 == i && q.2.category == 2))) = L2) (k : J l d X D K Kx M (pc + 1) σ L2 st) : J l d X D K Kx M pc σ L (.long x :: st) := fun G ha hb hE H locs ls hW hS hl => lv_lstore_n G.ex G.cd hd hi hl hn hL (fun ls hl => k G ha hb hE H locs ls hW hS hl)
theorem j_lstore {i : Nat} {x : Int64} (hd : decode M.2.1 pc = .ok (.lstore i, 2)) (hn : i + 1 < M.2.2.1) (hL : (i, Value.long x) :: L.filter (fun q => !(q.1 == i) && (!(q.1 == i + 1) && !(q.1 + 1 == i && q.2.category == 2))) = L2) (k : J l d X D K Kx M (pc + 2) σ L2 st) : J l d X D K Kx M pc σ L (.long x :: st) := fun G ha hb hE H locs ls hW hS hl => lv_lstore G.ex G.cd hd hl hn hL (fun ls hl => k G ha hb hE H locs ls hW hS hl)
theorem j_aload_n {k : Fin 4} {i kk : Nat} {x : Nat} (hd : decode M.2.1 pc = .ok (.aload_n k, 1)) (hi : (k : Nat) = i) (hk : L[kk]? = some (i, .ref x)) (k : J l d X D K Kx M (pc + 1) σ L (.ref x :: st)) : J l d X D K Kx M pc σ L (st) := fun G ha hb hE H locs ls hW hS hl => lv_aload_n G.ex G.cd hd hi (lv_at hl kk hk) (k G ha hb hE H locs ls hW hS hl)
theorem j_aload {i kk : Nat} {x : Nat} (hd : decode M.2.1 pc = .ok (.aload i, 2)) (hk : L[kk]? = some (i, .ref x)) (k : J l d X D K Kx M (pc + 2) σ L (.ref x :: st)) : J l d X D K Kx M pc σ L (st) := fun G ha hb hE H locs ls hW hS hl => lv_aload G.ex G.cd hd (lv_at hl kk hk) (k G ha hb hE H locs ls hW hS hl)
theorem j_astore_n {k : Fin 4} {i : Nat} {x : Nat} (hd : decode M.2.1 pc = .ok (.astore_n k, 1)) (hi : (k : Nat) = i) (hn : i < M.2.2.1) (hL : (i, Value.ref x) :: L.filter (fun q => !(q.1 == i) && !(q.1 + 1 == i && q.2.category == 2)) = L2) (k : J l d X D K Kx M (pc + 1) σ L2 st) : J l d X D K Kx M pc σ L (.ref x :: st) := fun G ha hb hE H locs ls hW hS hl => lv_astore_n G.ex G.cd hd hi hl hn hL (fun ls hl => k G ha hb hE H locs ls hW hS hl)
theorem j_astore {i : Nat} {x : Nat} (hd : decode M.2.1 pc = .ok (.astore i, 2)) (hn : i < M.2.2.1) (hL : (i, Value.ref x) :: L.filter (fun q => !(q.1 == i) && !(q.1 + 1 == i && q.2.category == 2)) = L2) (k : J l d X D K Kx M (pc + 2) σ L2 st) : J l d X D K Kx M pc σ L (.ref x :: st) := fun G ha hb hE H locs ls hW hS hl => lv_astore G.ex G.cd hd hl hn hL (fun ls hl => k G ha hb hE H locs ls hW hS hl)
theorem j_aload_nm {k : Fin 4} {i kk : Nat} {r : Option Nat} (hd : decode M.2.1 pc = .ok (.aload_n k, 1)) (hi : (k : Nat) = i) (hk : L[kk]? = some (i, va_rf r)) (k : J l d X D K Kx M (pc + 1) σ L (va_rf r :: st)) : J l d X D K Kx M pc σ L st := by
  cases r with
  | none => exact fun G ha hb hE H locs ls hW hS hl => lv_aload_nN G.ex G.cd hd hi (lv_at hl kk hk) (k G ha hb hE H locs ls hW hS hl)
  | some x => exact j_aload_n hd hi hk k
theorem j_aloadm {i kk : Nat} {r : Option Nat} (hd : decode M.2.1 pc = .ok (.aload i, 2)) (hk : L[kk]? = some (i, va_rf r)) (k : J l d X D K Kx M (pc + 2) σ L (va_rf r :: st)) : J l d X D K Kx M pc σ L st := by
  cases r with
  | none => exact fun G ha hb hE H locs ls hW hS hl => lv_aloadN G.ex G.cd hd (lv_at hl kk hk) (k G ha hb hE H locs ls hW hS hl)
  | some x => exact j_aload hd hk k
theorem j_astore_nm {k : Fin 4} {i : Nat} {r : Option Nat} (hd : decode M.2.1 pc = .ok (.astore_n k, 1)) (hi : (k : Nat) = i) (hn : i < M.2.2.1) (hL : (i, va_rf r) :: L.filter (fun q => !(q.1 == i) && !(q.1 + 1 == i && q.2.category == 2)) = L2) (k : J l d X D K Kx M (pc + 1) σ L2 st) : J l d X D K Kx M pc σ L (va_rf r :: st) := by
  cases r with
  | none => exact fun G ha hb hE H locs ls hW hS hl => lv_astore_nN G.ex G.cd hd hi hl hn hL (fun ls hl => k G ha hb hE H locs ls hW hS hl)
  | some x => exact j_astore_n hd hi hn hL k
theorem j_astorem {i : Nat} {r : Option Nat} (hd : decode M.2.1 pc = .ok (.astore i, 2)) (hn : i < M.2.2.1) (hL : (i, va_rf r) :: L.filter (fun q => !(q.1 == i) && !(q.1 + 1 == i && q.2.category == 2)) = L2) (k : J l d X D K Kx M (pc + 2) σ L2 st) : J l d X D K Kx M pc σ L (va_rf r :: st) := by
  cases r with
  | none => exact fun G ha hb hE H locs ls hW hS hl => lv_astoreN G.ex G.cd hd hl hn hL (fun ls hl => k G ha hb hE H locs ls hW hS hl)
  | some x => exact j_astore hd hn hL k
theorem j_iinc {i kk : Nat} {n : Int} {x v : Int32} (hd : decode M.2.1 pc = .ok (.iinc i n, 3)) (hk : L[kk]? = some (i, .int x)) (hv : x + Int32.ofInt n = v) (hn : i < M.2.2.1) (hL : (i, Value.int v) :: L.filter (fun q => !(q.1 == i) && !(q.1 + 1 == i && q.2.category == 2)) = L2) (k : J l d X D K Kx M (pc + 3) σ L2 st) : J l d X D K Kx M pc σ L st := fun G ha hb hE H locs ls hW hS hl => lv_iinc G.ex G.cd hd hl hk hv hn hL (fun ls hl => k G ha hb hE H locs ls hW hS hl)
theorem j_iadd {x y : Int32} (hd : decode M.2.1 pc = .ok (.iadd, 1))  (k : J l d X D K Kx M (pc + 1) σ L (.int (x + y) :: st)) : J l d X D K Kx M pc σ L (.int y :: .int x :: st) := fun G ha hb hE H locs ls hW hS hl => lv_iadd G.ex G.cd hd (k G ha hb hE H locs ls hW hS hl)
theorem j_isub {x y : Int32} (hd : decode M.2.1 pc = .ok (.isub, 1))  (k : J l d X D K Kx M (pc + 1) σ L (.int (x - y) :: st)) : J l d X D K Kx M pc σ L (.int y :: .int x :: st) := fun G ha hb hE H locs ls hW hS hl => lv_isub G.ex G.cd hd (k G ha hb hE H locs ls hW hS hl)
theorem j_imul {x y : Int32} (hd : decode M.2.1 pc = .ok (.imul, 1))  (k : J l d X D K Kx M (pc + 1) σ L (.int (x * y) :: st)) : J l d X D K Kx M pc σ L (.int y :: .int x :: st) := fun G ha hb hE H locs ls hW hS hl => lv_imul G.ex G.cd hd (k G ha hb hE H locs ls hW hS hl)
theorem j_iand {x y : Int32} (hd : decode M.2.1 pc = .ok (.iand, 1))  (k : J l d X D K Kx M (pc + 1) σ L (.int (x &&& y) :: st)) : J l d X D K Kx M pc σ L (.int y :: .int x :: st) := fun G ha hb hE H locs ls hW hS hl => lv_iand G.ex G.cd hd (k G ha hb hE H locs ls hW hS hl)
theorem j_ior {x y : Int32} (hd : decode M.2.1 pc = .ok (.ior, 1))  (k : J l d X D K Kx M (pc + 1) σ L (.int (x ||| y) :: st)) : J l d X D K Kx M pc σ L (.int y :: .int x :: st) := fun G ha hb hE H locs ls hW hS hl => lv_ior G.ex G.cd hd (k G ha hb hE H locs ls hW hS hl)
theorem j_ixor {x y : Int32} (hd : decode M.2.1 pc = .ok (.ixor, 1))  (k : J l d X D K Kx M (pc + 1) σ L (.int (x ^^^ y) :: st)) : J l d X D K Kx M pc σ L (.int y :: .int x :: st) := fun G ha hb hE H locs ls hW hS hl => lv_ixor G.ex G.cd hd (k G ha hb hE H locs ls hW hS hl)
theorem j_ishl {x y : Int32} (hd : decode M.2.1 pc = .ok (.ishl, 1))  (k : J l d X D K Kx M (pc + 1) σ L (.int (x <<< (y &&& 31)) :: st)) : J l d X D K Kx M pc σ L (.int y :: .int x :: st) := fun G ha hb hE H locs ls hW hS hl => lv_ishl G.ex G.cd hd (k G ha hb hE H locs ls hW hS hl)
theorem j_ishr {x y : Int32} (hd : decode M.2.1 pc = .ok (.ishr, 1))  (k : J l d X D K Kx M (pc + 1) σ L (.int (x >>> (y &&& 31)) :: st)) : J l d X D K Kx M pc σ L (.int y :: .int x :: st) := fun G ha hb hE H locs ls hW hS hl => lv_ishr G.ex G.cd hd (k G ha hb hE H locs ls hW hS hl)
theorem j_idiv {x y : Int32} (hd : decode M.2.1 pc = .ok (.idiv, 1)) (hne : ¬ y = 0) (k : J l d X D K Kx M (pc + 1) σ L (.int (x / y) :: st)) : J l d X D K Kx M pc σ L (.int y :: .int x :: st) := fun G ha hb hE H locs ls hW hS hl => lv_idiv G.ex G.cd hd hne (k G ha hb hE H locs ls hW hS hl)
theorem j_irem {x y : Int32} (hd : decode M.2.1 pc = .ok (.irem, 1)) (hne : ¬ y = 0) (k : J l d X D K Kx M (pc + 1) σ L (.int (x - x / y * y) :: st)) : J l d X D K Kx M pc σ L (.int y :: .int x :: st) := fun G ha hb hE H locs ls hW hS hl => lv_irem G.ex G.cd hd hne (k G ha hb hE H locs ls hW hS hl)
theorem j_iushr {x y : Int32} (hd : decode M.2.1 pc = .ok (.iushr, 1))  (k : J l d X D K Kx M (pc + 1) σ L (.int (x.toUInt32 >>> (y.toUInt32 &&& Int32.toUInt32 31)).toInt32 :: st)) : J l d X D K Kx M pc σ L (.int y :: .int x :: st) := fun G ha hb hE H locs ls hW hS hl => lv_iushr G.ex G.cd hd rfl (k G ha hb hE H locs ls hW hS hl)
theorem j_ineg {x : Int32} (hd : decode M.2.1 pc = .ok (.ineg, 1))  (k : J l d X D K Kx M (pc + 1) σ L (.int (-x) :: st)) : J l d X D K Kx M pc σ L (.int x :: st) := fun G ha hb hE H locs ls hW hS hl => lv_ineg G.ex G.cd hd (k G ha hb hE H locs ls hW hS hl)
theorem j_ladd {x y : Int64} (hd : decode M.2.1 pc = .ok (.ladd, 1))  (k : J l d X D K Kx M (pc + 1) σ L (.long (x + y) :: st)) : J l d X D K Kx M pc σ L (.long y :: .long x :: st) := fun G ha hb hE H locs ls hW hS hl => lv_ladd G.ex G.cd hd (k G ha hb hE H locs ls hW hS hl)
theorem j_lsub {x y : Int64} (hd : decode M.2.1 pc = .ok (.lsub, 1))  (k : J l d X D K Kx M (pc + 1) σ L (.long (x - y) :: st)) : J l d X D K Kx M pc σ L (.long y :: .long x :: st) := fun G ha hb hE H locs ls hW hS hl => lv_lsub G.ex G.cd hd (k G ha hb hE H locs ls hW hS hl)
theorem j_lmul {x y : Int64} (hd : decode M.2.1 pc = .ok (.lmul, 1))  (k : J l d X D K Kx M (pc + 1) σ L (.long (x * y) :: st)) : J l d X D K Kx M pc σ L (.long y :: .long x :: st) := fun G ha hb hE H locs ls hW hS hl => lv_lmul G.ex G.cd hd (k G ha hb hE H locs ls hW hS hl)
theorem j_land {x y : Int64} (hd : decode M.2.1 pc = .ok (.land, 1))  (k : J l d X D K Kx M (pc + 1) σ L (.long (x &&& y) :: st)) : J l d X D K Kx M pc σ L (.long y :: .long x :: st) := fun G ha hb hE H locs ls hW hS hl => lv_land G.ex G.cd hd (k G ha hb hE H locs ls hW hS hl)
theorem j_lor {x y : Int64} (hd : decode M.2.1 pc = .ok (.lor, 1))  (k : J l d X D K Kx M (pc + 1) σ L (.long (x ||| y) :: st)) : J l d X D K Kx M pc σ L (.long y :: .long x :: st) := fun G ha hb hE H locs ls hW hS hl => lv_lor G.ex G.cd hd (k G ha hb hE H locs ls hW hS hl)
theorem j_lxor {x y : Int64} (hd : decode M.2.1 pc = .ok (.lxor, 1))  (k : J l d X D K Kx M (pc + 1) σ L (.long (x ^^^ y) :: st)) : J l d X D K Kx M pc σ L (.long y :: .long x :: st) := fun G ha hb hE H locs ls hW hS hl => lv_lxor G.ex G.cd hd (k G ha hb hE H locs ls hW hS hl)
theorem j_ldiv {x y : Int64} (hd : decode M.2.1 pc = .ok (.ldiv, 1)) (hne : ¬ y = 0) (k : J l d X D K Kx M (pc + 1) σ L (.long (x / y) :: st)) : J l d X D K Kx M pc σ L (.long y :: .long x :: st) := fun G ha hb hE H locs ls hW hS hl => lv_ldiv G.ex G.cd hd hne (k G ha hb hE H locs ls hW hS hl)
theorem j_lneg {x : Int64} (hd : decode M.2.1 pc = .ok (.lneg, 1))  (k : J l d X D K Kx M (pc + 1) σ L (.long (-x) :: st)) : J l d X D K Kx M pc σ L (.long x :: st) := fun G ha hb hE H locs ls hW hS hl => lv_lneg G.ex G.cd hd (k G ha hb hE H locs ls hW hS hl)
theorem j_lshl {x : Int64} {y : Int32} (hd : decode M.2.1 pc = .ok (.lshl, 1))  (k : J l d X D K Kx M (pc + 1) σ L (.long (x <<< (y.toInt64 &&& 63)) :: st)) : J l d X D K Kx M pc σ L (.int y :: .long x :: st) := fun G ha hb hE H locs ls hW hS hl => lv_lshl G.ex G.cd hd rfl (k G ha hb hE H locs ls hW hS hl)
theorem j_lshr {x : Int64} {y : Int32} (hd : decode M.2.1 pc = .ok (.lshr, 1))  (k : J l d X D K Kx M (pc + 1) σ L (.long (x >>> (y.toInt64 &&& 63)) :: st)) : J l d X D K Kx M pc σ L (.int y :: .long x :: st) := fun G ha hb hE H locs ls hW hS hl => lv_lshr G.ex G.cd hd rfl (k G ha hb hE H locs ls hW hS hl)
theorem j_lushr {x : Int64} {y : Int32} (hd : decode M.2.1 pc = .ok (.lushr, 1))  (k : J l d X D K Kx M (pc + 1) σ L (.long (x.toUInt64 >>> (y.toInt64.toUInt64 &&& Int64.toUInt64 63)).toInt64 :: st)) : J l d X D K Kx M pc σ L (.int y :: .long x :: st) := fun G ha hb hE H locs ls hW hS hl => lv_lushr G.ex G.cd hd rfl (k G ha hb hE H locs ls hW hS hl)
theorem j_lcmp {x y : Int64} (hd : decode M.2.1 pc = .ok (.lcmp, 1))  (k : J l d X D K Kx M (pc + 1) σ L (.int (lg_cmp x y) :: st)) : J l d X D K Kx M pc σ L (.long y :: .long x :: st) := fun G ha hb hE H locs ls hW hS hl => W.lcmp G.ex G.cd hd (k G ha hb hE H locs ls hW hS hl)
theorem j_i2l {x : Int32} (hd : decode M.2.1 pc = .ok (.i2l, 1))  (k : J l d X D K Kx M (pc + 1) σ L (.long x.toInt64 :: st)) : J l d X D K Kx M pc σ L (.int x :: st) := fun G ha hb hE H locs ls hW hS hl => lv_i2l G.ex G.cd hd rfl (k G ha hb hE H locs ls hW hS hl)
theorem j_l2i {x : Int64} (hd : decode M.2.1 pc = .ok (.l2i, 1))  (k : J l d X D K Kx M (pc + 1) σ L (.int x.toInt32 :: st)) : J l d X D K Kx M pc σ L (.long x :: st) := fun G ha hb hE H locs ls hW hS hl => lv_l2i G.ex G.cd hd rfl (k G ha hb hE H locs ls hW hS hl)
theorem j_i2b {x : Int32} (hd : decode M.2.1 pc = .ok (.i2b, 1))  (k : J l d X D K Kx M (pc + 1) σ L (.int x.toInt8.toInt32 :: st)) : J l d X D K Kx M pc σ L (.int x :: st) := fun G ha hb hE H locs ls hW hS hl => lv_i2b G.ex G.cd hd rfl (k G ha hb hE H locs ls hW hS hl)
theorem j_i2s {x : Int32} (hd : decode M.2.1 pc = .ok (.i2s, 1))  (k : J l d X D K Kx M (pc + 1) σ L (.int x.toInt16.toInt32 :: st)) : J l d X D K Kx M pc σ L (.int x :: st) := fun G ha hb hE H locs ls hW hS hl => lv_i2s G.ex G.cd hd rfl (k G ha hb hE H locs ls hW hS hl)
theorem j_i2c {x : Int32} (hd : decode M.2.1 pc = .ok (.i2c, 1))  (k : J l d X D K Kx M (pc + 1) σ L (.int (x.toUInt32 % 65536).toInt32 :: st)) : J l d X D K Kx M pc σ L (.int x :: st) := fun G ha hb hE H locs ls hW hS hl => lv_i2c G.ex G.cd hd rfl (k G ha hb hE H locs ls hW hS hl)
theorem j_dup {v : Value} (hd : decode M.2.1 pc = .ok (.dup, 1)) (hv : v.category = 1) (k : J l d X D K Kx M (pc + 1) σ L (v :: v :: st)) : J l d X D K Kx M pc σ L (v :: st) := fun G ha hb hE H locs ls hW hS hl => lv_dup G.ex G.cd hd hv (k G ha hb hE H locs ls hW hS hl)
theorem j_pop {v : Value} (hd : decode M.2.1 pc = .ok (.pop, 1)) (hv : v.category = 1) (k : J l d X D K Kx M (pc + 1) σ L (st)) : J l d X D K Kx M pc σ L (v :: st) := fun G ha hb hE H locs ls hW hS hl => lv_pop G.ex G.cd hd hv (k G ha hb hE H locs ls hW hS hl)
theorem j_dup_x1 {v w : Value} (hd : decode M.2.1 pc = .ok (.dup_x1, 1)) (hv : v.category = 1) (hw : w.category = 1) (k : J l d X D K Kx M (pc + 1) σ L (v :: w :: v :: st)) : J l d X D K Kx M pc σ L (v :: w :: st) := fun G ha hb hE H locs ls hW hS hl => lv_dup_x1 G.ex G.cd hd hv hw (k G ha hb hE H locs ls hW hS hl)
theorem j_dup_x2 {v w z : Value} (hd : decode M.2.1 pc = .ok (.dup_x2, 1)) (hv : v.category = 1) (hw : w.category = 1) (hz : z.category = 1) (k : J l d X D K Kx M (pc + 1) σ L (v :: w :: z :: v :: st)) : J l d X D K Kx M pc σ L (v :: w :: z :: st) := fun G ha hb hE H locs ls hW hS hl => lv_dup_x2 G.ex G.cd hd hv hw hz (k G ha hb hE H locs ls hW hS hl)
theorem j_dup2_11 {v w : Value} (hd : decode M.2.1 pc = .ok (.dup2, 1)) (hv : v.category = 1) (hw : w.category = 1) (k : J l d X D K Kx M (pc + 1) σ L (v :: w :: v :: w :: st)) : J l d X D K Kx M pc σ L (v :: w :: st) := fun G ha hb hE H locs ls hW hS hl => lv_dup2_11 G.ex G.cd hd hv hw (k G ha hb hE H locs ls hW hS hl)
theorem j_dup2_2 {v : Value} (hd : decode M.2.1 pc = .ok (.dup2, 1)) (hv : v.category = 2) (k : J l d X D K Kx M (pc + 1) σ L (v :: v :: st)) : J l d X D K Kx M pc σ L (v :: st) := fun G ha hb hE H locs ls hW hS hl => lv_dup2_2 G.ex G.cd hd hv (k G ha hb hE H locs ls hW hS hl)
theorem j_pop2_2 {v : Value} (hd : decode M.2.1 pc = .ok (.pop2, 1)) (hv : v.category = 2) (k : J l d X D K Kx M (pc + 1) σ L (st)) : J l d X D K Kx M pc σ L (v :: st) := fun G ha hb hE H locs ls hW hS hl => lv_pop2_2 G.ex G.cd hd hv (k G ha hb hE H locs ls hW hS hl)
theorem j_dup2_x1_2 {v w : Value} (hd : decode M.2.1 pc = .ok (.dup2_x1, 1)) (hv : v.category = 2) (hw : w.category = 1) (k : J l d X D K Kx M (pc + 1) σ L (v :: w :: v :: st)) : J l d X D K Kx M pc σ L (v :: w :: st) := fun G ha hb hE H locs ls hW hS hl => lv_dup2_x1_2 G.ex G.cd hd hv hw (k G ha hb hE H locs ls hW hS hl)
theorem j_dup2_x2_2 {v w z : Value} (hd : decode M.2.1 pc = .ok (.dup2_x2, 1)) (hv : v.category = 2) (hw : w.category = 1) (hz : z.category = 1) (k : J l d X D K Kx M (pc + 1) σ L (v :: w :: z :: v :: st)) : J l d X D K Kx M pc σ L (v :: w :: z :: st) := fun G ha hb hE H locs ls hW hS hl => lv_dup2_x2_2 G.ex G.cd hd hv hw hz (k G ha hb hE H locs ls hW hS hl)
theorem j_if_eq {x : Int32} {off : Int} {tgt : Nat} (hd : decode M.2.1 pc = .ok (.ifCond .eq off, 3)) (ht : (pc : Int) + off = (tgt : Int)) (kt : x = 0 → J l d X D K Kx M tgt σ L st) (kf : ¬ (x = 0) → J l d X D K Kx M (pc + 3) σ L st) : J l d X D K Kx M pc σ L (.int x :: st) := fun G ha hb hE H locs ls hW hS hl => lv_if_eq G.ex G.cd hd ht (fun c => kt c G ha hb hE H locs ls hW hS hl) (fun c => kf c G ha hb hE H locs ls hW hS hl)
theorem j_icmp_eq {x y : Int32} {off : Int} {tgt : Nat} (hd : decode M.2.1 pc = .ok (.if_icmp .eq off, 3)) (ht : (pc : Int) + off = (tgt : Int)) (kt : x = y → J l d X D K Kx M tgt σ L st) (kf : ¬ (x = y) → J l d X D K Kx M (pc + 3) σ L st) : J l d X D K Kx M pc σ L (.int y :: .int x :: st) := fun G ha hb hE H locs ls hW hS hl => lv_icmp_eq G.ex G.cd hd ht (fun c => kt c G ha hb hE H locs ls hW hS hl) (fun c => kf c G ha hb hE H locs ls hW hS hl)
theorem j_if_ne {x : Int32} {off : Int} {tgt : Nat} (hd : decode M.2.1 pc = .ok (.ifCond .ne off, 3)) (ht : (pc : Int) + off = (tgt : Int)) (kt : ¬ x = 0 → J l d X D K Kx M tgt σ L st) (kf : x = 0 → J l d X D K Kx M (pc + 3) σ L st) : J l d X D K Kx M pc σ L (.int x :: st) := fun G ha hb hE H locs ls hW hS hl => lv_if_ne G.ex G.cd hd ht (fun c => kt c G ha hb hE H locs ls hW hS hl) (fun c => kf c G ha hb hE H locs ls hW hS hl)
theorem j_icmp_ne {x y : Int32} {off : Int} {tgt : Nat} (hd : decode M.2.1 pc = .ok (.if_icmp .ne off, 3)) (ht : (pc : Int) + off = (tgt : Int)) (kt : ¬ x = y → J l d X D K Kx M tgt σ L st) (kf : x = y → J l d X D K Kx M (pc + 3) σ L st) : J l d X D K Kx M pc σ L (.int y :: .int x :: st) := fun G ha hb hE H locs ls hW hS hl => lv_icmp_ne G.ex G.cd hd ht (fun c => kt c G ha hb hE H locs ls hW hS hl) (fun c => kf c G ha hb hE H locs ls hW hS hl)
theorem j_if_lt {x : Int32} {off : Int} {tgt : Nat} (hd : decode M.2.1 pc = .ok (.ifCond .lt off, 3)) (ht : (pc : Int) + off = (tgt : Int)) (kt : x < 0 → J l d X D K Kx M tgt σ L st) (kf : ¬ (x < 0) → J l d X D K Kx M (pc + 3) σ L st) : J l d X D K Kx M pc σ L (.int x :: st) := fun G ha hb hE H locs ls hW hS hl => lv_if_lt G.ex G.cd hd ht (fun c => kt c G ha hb hE H locs ls hW hS hl) (fun c => kf c G ha hb hE H locs ls hW hS hl)
theorem j_icmp_lt {x y : Int32} {off : Int} {tgt : Nat} (hd : decode M.2.1 pc = .ok (.if_icmp .lt off, 3)) (ht : (pc : Int) + off = (tgt : Int)) (kt : x < y → J l d X D K Kx M tgt σ L st) (kf : ¬ (x < y) → J l d X D K Kx M (pc + 3) σ L st) : J l d X D K Kx M pc σ L (.int y :: .int x :: st) := fun G ha hb hE H locs ls hW hS hl => lv_icmp_lt G.ex G.cd hd ht (fun c => kt c G ha hb hE H locs ls hW hS hl) (fun c => kf c G ha hb hE H locs ls hW hS hl)
theorem j_if_ge {x : Int32} {off : Int} {tgt : Nat} (hd : decode M.2.1 pc = .ok (.ifCond .ge off, 3)) (ht : (pc : Int) + off = (tgt : Int)) (kt : 0 ≤ x → J l d X D K Kx M tgt σ L st) (kf : ¬ (0 ≤ x) → J l d X D K Kx M (pc + 3) σ L st) : J l d X D K Kx M pc σ L (.int x :: st) := fun G ha hb hE H locs ls hW hS hl => lv_if_ge G.ex G.cd hd ht (fun c => kt c G ha hb hE H locs ls hW hS hl) (fun c => kf c G ha hb hE H locs ls hW hS hl)
theorem j_icmp_ge {x y : Int32} {off : Int} {tgt : Nat} (hd : decode M.2.1 pc = .ok (.if_icmp .ge off, 3)) (ht : (pc : Int) + off = (tgt : Int)) (kt : y ≤ x → J l d X D K Kx M tgt σ L st) (kf : ¬ (y ≤ x) → J l d X D K Kx M (pc + 3) σ L st) : J l d X D K Kx M pc σ L (.int y :: .int x :: st) := fun G ha hb hE H locs ls hW hS hl => lv_icmp_ge G.ex G.cd hd ht (fun c => kt c G ha hb hE H locs ls hW hS hl) (fun c => kf c G ha hb hE H locs ls hW hS hl)
theorem j_if_gt {x : Int32} {off : Int} {tgt : Nat} (hd : decode M.2.1 pc = .ok (.ifCond .gt off, 3)) (ht : (pc : Int) + off = (tgt : Int)) (kt : 0 < x → J l d X D K Kx M tgt σ L st) (kf : ¬ (0 < x) → J l d X D K Kx M (pc + 3) σ L st) : J l d X D K Kx M pc σ L (.int x :: st) := fun G ha hb hE H locs ls hW hS hl => lv_if_gt G.ex G.cd hd ht (fun c => kt c G ha hb hE H locs ls hW hS hl) (fun c => kf c G ha hb hE H locs ls hW hS hl)
theorem j_icmp_gt {x y : Int32} {off : Int} {tgt : Nat} (hd : decode M.2.1 pc = .ok (.if_icmp .gt off, 3)) (ht : (pc : Int) + off = (tgt : Int)) (kt : y < x → J l d X D K Kx M tgt σ L st) (kf : ¬ (y < x) → J l d X D K Kx M (pc + 3) σ L st) : J l d X D K Kx M pc σ L (.int y :: .int x :: st) := fun G ha hb hE H locs ls hW hS hl => lv_icmp_gt G.ex G.cd hd ht (fun c => kt c G ha hb hE H locs ls hW hS hl) (fun c => kf c G ha hb hE H locs ls hW hS hl)
theorem j_if_le {x : Int32} {off : Int} {tgt : Nat} (hd : decode M.2.1 pc = .ok (.ifCond .le off, 3)) (ht : (pc : Int) + off = (tgt : Int)) (kt : x ≤ 0 → J l d X D K Kx M tgt σ L st) (kf : ¬ (x ≤ 0) → J l d X D K Kx M (pc + 3) σ L st) : J l d X D K Kx M pc σ L (.int x :: st) := fun G ha hb hE H locs ls hW hS hl => lv_if_le G.ex G.cd hd ht (fun c => kt c G ha hb hE H locs ls hW hS hl) (fun c => kf c G ha hb hE H locs ls hW hS hl)
theorem j_icmp_le {x y : Int32} {off : Int} {tgt : Nat} (hd : decode M.2.1 pc = .ok (.if_icmp .le off, 3)) (ht : (pc : Int) + off = (tgt : Int)) (kt : x ≤ y → J l d X D K Kx M tgt σ L st) (kf : ¬ (x ≤ y) → J l d X D K Kx M (pc + 3) σ L st) : J l d X D K Kx M pc σ L (.int y :: .int x :: st) := fun G ha hb hE H locs ls hW hS hl => lv_icmp_le G.ex G.cd hd ht (fun c => kt c G ha hb hE H locs ls hW hS hl) (fun c => kf c G ha hb hE H locs ls hW hS hl)
theorem j_goto {off : Int} {tgt : Nat} (hd : decode M.2.1 pc = .ok (.goto off, 3)) (ht : (pc : Int) + off = (tgt : Int)) (k : J l d X D K Kx M tgt σ L st) : J l d X D K Kx M pc σ L st := fun G ha hb hE H locs ls hW hS hl => lv_goto G.ex G.cd hd ht (k G ha hb hE H locs ls hW hS hl)
theorem j_ifnull {r : Option Nat} {off : Int} {tgt : Nat} (hd : decode M.2.1 pc = .ok (.ifnull off, 3)) (ht : (pc : Int) + off = (tgt : Int)) (kt : r = none → J l d X D K Kx M tgt σ L st) (kf : ∀ x, r = some x → J l d X D K Kx M (pc + 3) σ L st) : J l d X D K Kx M pc σ L (va_rf r :: st) := by
  cases r with
  | none => exact fun G ha hb hE H locs ls hW hS hl => lv_ifnullN G.ex G.cd hd ht (kt rfl G ha hb hE H locs ls hW hS hl)
  | some x => exact fun G ha hb hE H locs ls hW hS hl => lv_ifnull G.ex G.cd hd (kf x rfl G ha hb hE H locs ls hW hS hl)
theorem j_ifnonnull {r : Option Nat} {off : Int} {tgt : Nat} (hd : decode M.2.1 pc = .ok (.ifnonnull off, 3)) (ht : (pc : Int) + off = (tgt : Int)) (kt : ∀ x, r = some x → J l d X D K Kx M tgt σ L st) (kf : r = none → J l d X D K Kx M (pc + 3) σ L st) : J l d X D K Kx M pc σ L (va_rf r :: st) := by
  cases r with
  | none => exact fun G ha hb hE H locs ls hW hS hl => lv_ifnonnullN G.ex G.cd hd (kf rfl G ha hb hE H locs ls hW hS hl)
  | some x => exact fun G ha hb hE H locs ls hW hS hl => lv_ifnonnull G.ex G.cd hd ht (kt x rfl G ha hb hE H locs ls hW hS hl)
theorem j_lookup {dflt : Int} {ps : Array (Int × Int)} {len : Nat} {x : Int32} {off : Int} {tgt : Nat} (hd : decode M.2.1 pc = .ok (.lookupswitch dflt ps, len)) (hp : (ps.toList.zip (ps.toList.drop 1)).all (fun (a, next) => a.1 < next.1) = true) (ho : Op.lookupswitch.offset ps.toList dflt x.toInt = off) (ht : (pc : Int) + off = (tgt : Int)) (k : J l d X D K Kx M tgt σ L st) : J l d X D K Kx M pc σ L (.int x :: st) := fun G ha hb hE H locs ls hW hS hl => lv_lookup G.ex G.cd hd hp ho ht (k G ha hb hE H locs ls hW hS hl)
theorem j_tableOut {dflt lo hi : Int} {offs : Array Int} {len : Nat} {x : Int32} {tgt : Nat} (hd : decode M.2.1 pc = .ok (.tableswitch dflt lo hi offs, len)) (h : x.toInt < lo ∨ hi < x.toInt) (ht : (pc : Int) + dflt = (tgt : Int)) (k : J l d X D K Kx M tgt σ L st) : J l d X D K Kx M pc σ L (.int x :: st) := fun G ha hb hE H locs ls hW hS hl => lv_tableOut G.ex G.cd hd h ht (k G ha hb hE H locs ls hW hS hl)
theorem j_tableIn {dflt lo hi : Int} {offs : Array Int} {len : Nat} {x : Int32} {off : Int} {tgt : Nat} (hd : decode M.2.1 pc = .ok (.tableswitch dflt lo hi offs, len)) (h1 : ¬ x.toInt < lo) (h2 : ¬ hi < x.toInt) (ho : offs[(x.toInt - lo).toNat]? = some off) (ht : (pc : Int) + off = (tgt : Int)) (k : J l d X D K Kx M tgt σ L st) : J l d X D K Kx M pc σ L (.int x :: st) := fun G ha hb hE H locs ls hW hS hl => lv_tableIn G.ex G.cd hd h1 h2 ho ht (k G ha hb hE H locs ls hW hS hl)
theorem j_sub (ks : List Nat) (h : lv_pick L ks = L2) (k : J l d X D K Kx M pc σ L2 st) : J l d X D K Kx M pc σ L st := fun G ha hb hE H locs ls hW hS hl => k G ha hb hE H locs ls hW hS (lv_sub hl ks h)
theorem j_iret {v : Int32} {ft : FieldType} (hd : decode M.2.1 pc = .ok (.ireturn, 1)) (hr : M.2.2.2.1 = some ft) (hn : narrow ft (.int v) = .int v) (k : K (some (.int v)) σ) : J l d X D K Kx M pc σ L [.int v] := fun G ha hb hE H locs ls hW hS hl => vx_ret (W.widen (Nat.sub_le _ _) (Nat.sub_le _ _) (W.zret (hlocks := G.lk) G.ex G.cd (G.rt.trans hr) hn (fun t ht hWm => ⟨⟨some (.int v), σ, rfl, hE, k, by rw [ht]; exact hW⟩, hS.F ht⟩) hS.2.2 hd))
theorem j_lret {v : Int64} (hd : decode M.2.1 pc = .ok (.lreturn, 1)) (hr : M.2.2.2.1 = some .long) (k : K (some (.long v)) σ) : J l d X D K Kx M pc σ L [.long v] := fun G ha hb hE H locs ls hW hS hl => vx_ret (W.widen (Nat.sub_le _ _) (Nat.sub_le _ _) (W.lret (hlocks := G.lk) G.ex G.cd (G.rt.trans hr) (fun t ht hWm => ⟨⟨some (.long v), σ, rfl, hE, k, by rw [ht]; exact hW⟩, hS.F ht⟩) hS.2.2 hd))
theorem j_vret (hd : decode M.2.1 pc = .ok (.return_, 1)) (hr : M.2.2.2.1 = none) (k : K none σ) : J l d X D K Kx M pc σ L [] := fun G ha hb hE H locs ls hW hS hl => vx_ret (W.widen (Nat.sub_le _ _) (Nat.sub_le _ _) (W.vret (hlocks := G.lk) G.ex G.cd (G.rt.trans hr) (fun t ht hWm => ⟨⟨none, σ, rfl, hE, k, by rw [ht]; exact hW⟩, hS.F ht⟩) hS.2.2 hd))
theorem j_aret {r : Option Nat} {rt : FieldType} (hd : decode M.2.1 pc = .ok (.areturn, 1)) (hr : M.2.2.2.1 = some rt) (hrt : (∃ n, rt = .object n) ∨ ∃ t, rt = .array t) (k : K (some (va_rf r)) σ) : J l d X D K Kx M pc σ L [va_rf r] := fun G ha hb hE H locs ls hW hS hl => vx_ret (W.widen (Nat.sub_le _ _) (Nat.sub_le _ _) (W.aret (v := va_rf r) (hlocks := G.lk) G.ex G.cd (G.rt.trans hr) hrt (by cases r with | none => exact Or.inl rfl | some x => exact Or.inr ⟨x, rfl⟩) (fun t ht hWm => ⟨⟨some (va_rf r), σ, rfl, hE, k, by rw [ht]; exact hW⟩, hS.F ht⟩) hS.2.2 hd))
theorem j_aretr {x : Nat} {rt : FieldType} (hd : decode M.2.1 pc = .ok (.areturn, 1)) (hr : M.2.2.2.1 = some rt) (hrt : (∃ n, rt = .object n) ∨ ∃ t, rt = .array t) (k : K (some (.ref x)) σ) : J l d X D K Kx M pc σ L [.ref x] := j_aret (r := some x) hd hr hrt k
theorem wd_obj {H : Heap} {a0 c : Nat} {r : vw_C} (hW : wd_H d σ H) (hC : oC σ a0 = c + 1) (h1 : vwCl[c]? = some r) : va_P d.1 vwCl [(a0, .inr (c, (List.range r.2.2).map (wd_f σ c a0)))] H := by
  intro k q hk
  have hz : k < 1 := (List.getElem?_eq_some_iff.mp hk).1
  rw [show k = 0 by omega] at hk
  cases hk
  obtain ⟨-, r', e1, e2⟩ := hW.2.1 a0 c hC
  cases h1.symm.trans e1
  exact ⟨_, h1, e2.to (fun j hj => by simp [vp_V, hj])⟩
theorem wd_recv {s : State} {H : Heap} {a0 c : Nat} {r : vw_C} (hK : va_K d.1 vwCl (wd_tys d.2.1) s) (hW : wd_H d σ H) (hC : oC σ a0 = c + 1) (h1 : vwCl[c]? = some r) : ∃ cell : Cell, H[a0]? = some cell ∧ cell.vm.isStatics = false ∧ s.vm.findClass r.1 = some cell.cls :=
  va_recv hK (wd_obj hW hC h1) h1 (q0 := 0) rfl
theorem wd_same {s : State} {args : Array Value} {O n t ref : String} (hs : ref = O ∨ (Cond.sameField ref O n t).before args s = true) : ∀ x, s.fieldFound? O n t = some x → s.fieldFound? ref n t = some x := by
  intro x hx
  rcases hs with rfl | h
  · exact hx
  · exact u_same h x hx
theorem j_getv {c k g kd idx a0 : Nat} {O n t ref : String} {fin : Bool} {ft : FieldType} {v : Value} (hd : decode M.2.1 pc = .ok (.getfield idx, 3)) (hf : fd c k g kd O n t fin ft) (hq : Cond.fieldLink M.1.cls idx ref n t ∈ lw_all) (hs : ref = O ∨ Cond.sameField ref O n t ∈ lw_all) (hC : oC σ a0 = c + 1) (hv : wd_v σ (g, kd) a0 = v) (kk : J l d X D K Kx M (pc + 3) σ L (v :: st)) : J l d X D K Kx M pc σ L (.ref a0 :: st) := by
  intro G ha hb hE H locs ls hW hS hl
  obtain ⟨C, T, N, ty, ⟨h1, h2, h3, h4, h5⟩, hk, hT, hg, -⟩ := hf
  refine va_get (D := d.1) (ci := c) (C := C) (T := T) (N := N) (ref := ref) G.ex G.cd G.ws h2 G.own G.va (wd_obj hW hC h1) 0 rfl h1 k hk (by rw [hT]; exact G.ws _ hq) (by rw [hT]; exact wd_same (hs.imp id (G.ws _))) (v := v) ?_ hd (kk G ha hb hE H locs ls hW hS hl)
  have : wd_f σ c a0 k = v := by rw [← hv, ← hg]; rfl
  simp [hk, this]
theorem j_geti {c k g idx a0 : Nat} {O n t ref : String} {fin : Bool} {ft : FieldType} (hd : decode M.2.1 pc = .ok (.getfield idx, 3)) (hf : fd c k g 0 O n t fin ft) (hq : Cond.fieldLink M.1.cls idx ref n t ∈ lw_all) (hs : ref = O ∨ Cond.sameField ref O n t ∈ lw_all) (hC : oC σ a0 = c + 1) (kk : J l d X D K Kx M (pc + 3) σ L (.int (oI σ g a0) :: st)) : J l d X D K Kx M pc σ L (.ref a0 :: st) := j_getv hd hf hq hs hC rfl kk
theorem j_getj {c k g idx a0 : Nat} {O n t ref : String} {fin : Bool} {ft : FieldType} (hd : decode M.2.1 pc = .ok (.getfield idx, 3)) (hf : fd c k g 1 O n t fin ft) (hq : Cond.fieldLink M.1.cls idx ref n t ∈ lw_all) (hs : ref = O ∨ Cond.sameField ref O n t ∈ lw_all) (hC : oC σ a0 = c + 1) (kk : J l d X D K Kx M (pc + 3) σ L (.long (oJ σ g a0) :: st)) : J l d X D K Kx M pc σ L (.ref a0 :: st) := j_getv hd hf hq hs hC rfl kk
theorem j_getr {c k g idx a0 : Nat} {O n t ref : String} {fin : Bool} {ft : FieldType} (hd : decode M.2.1 pc = .ok (.getfield idx, 3)) (hf : fd c k g 2 O n t fin ft) (hq : Cond.fieldLink M.1.cls idx ref n t ∈ lw_all) (hs : ref = O ∨ Cond.sameField ref O n t ∈ lw_all) (hC : oC σ a0 = c + 1) (kk : J l d X D K Kx M (pc + 3) σ L (va_rf (oR σ g a0) :: st)) : J l d X D K Kx M pc σ L (.ref a0 :: st) := j_getv hd hf hq hs hC rfl kk
theorem j_geta {c k g idx a0 N0 : Nat} {O n t ref : String} {fin : Bool} {ft : FieldType} (hd : decode M.2.1 pc = .ok (.getfield idx, 3)) (hf : fd c k g 3 O n t fin ft) (hq : Cond.fieldLink M.1.cls idx ref n t ∈ lw_all) (hs : ref = O ∨ Cond.sameField ref O n t ∈ lw_all) (hC : oC σ a0 = c + 1) (hN : aN σ g a0 = some N0) (kk : J l d X D K Kx M (pc + 3) σ L (.ref (aD σ g a0) :: st)) : J l d X D K Kx M pc σ L (.ref a0 :: st) := j_getv hd hf hq hs hC (by show (match aN σ g a0 with | none => Value.null | some _ => .ref (aD σ g a0)) = _; rw [hN]) kk
/-- a field written; the world behind it by what the caller shows of it -/
theorem j_putv {c k g kd idx a0 : Nat} {O n t ref : String} {fin : Bool} {ft : FieldType} {v : Value} {σ' : wS} (hd : decode M.2.1 pc = .ok (.putfield idx, 3)) (hf : fd c k g kd O n t fin ft) (hq : Cond.fieldLink M.1.cls idx ref n t ∈ lw_all) (hs : ref = O ∨ Cond.sameField ref O n t ∈ lw_all) (hC : oC σ a0 = c + 1) (hfin : fin = false ∨ (M.1.name = "<init>" ∧ O = M.1.cls)) (hn : narrow ft v = v) (hfit : fits ft v = true) (hx : Ext σ σ') (hcn : σ'.2.2.2.2.2.2.2.2.2 = σ.2.2.2.2.2.2.2.2.2)
    (hm : ∀ (H H' : Heap) (r : vw_C), wd_N d σ' H' → vwCl[c]? = some r → (∀ x y, x < r.2.2 → y < r.2.2 → (wd_gk c x).1 = (wd_gk c y).1 → x = y) → k < r.2.2 → wd_gk c k = (g, kd) → wd_H d σ H → (∀ q, q ≠ a0 → H'[q]? = H[q]?) → t_OB a0 (d.1.1 c) r.2.2 (d.1.2 c) H' (updV (wd_f σ c a0) k v) → wd_H d σ' H')
    (kk : J l d X D K Kx M (pc + 3) σ' L st) : J l d X D K Kx M pc σ L (v :: .ref a0 :: st) := by
  intro G ha hb hE H locs ls hW hS hl
  obtain ⟨C, T, N, ty, ⟨h1, h2, h3, h4, h5⟩, hk, hT, hg, hty⟩ := hf
  have hap := va_apart (own := M.1.cls) G.ws h2 ty h3 h4 G.va h1
  obtain ⟨hB, r, hr, cell, q1, q2, q3, q4⟩ := hW.2.1 a0 c hC
  cases h1.symm.trans hr
  obtain ⟨hS1, hfc, kC, hkC, hkind⟩ := G.va.1 c _ h1
  obtain ⟨cf, kf, fi, f, hi, hsl⟩ := hS1 k hk
  dsimp only at hi hsl
  have hlay := G.ws _ (h2 _ (u_in_lay hk))
  have hst := (u_facts hfc hkC (u_lays G.ws h2 hk) hi).1
  have hd0 : parseFieldDescriptor (T k).2.2.1 = some ft := by rw [h3 k hk, hty]
  have hsame : X.2.2.1.fieldFound? ref n t = some (cf, kf, fi, f) := wd_same (hs.imp id (G.ws _)) _ (by have := hi; rw [hT] at this; exact this)
  have fin' : ∀ H' : Heap, H'[a0]? = some (cell.setSlot f.slot v) → H'.size = H.size → (∀ q, q ≠ a0 → H'[q]? = H[q]?) → W X.1 l X.2.1 (xR X D) X.2.2.1 X.2.2.2.1 X.2.2.2.2.1 X.2.2.2.2.2.1 X.2.2.2.2.2.2.1 X.2.2.2.2.2.2.2.1 H' (locs ++ [⟨a0, f.slot⟩]) (xa X σ) (xb X σ) (vx_MQ X.2.2.2.2.2.1 (wd_Q d (xE X) K) (wd_X d (xE X) Kx) X.2.2.2.2.1 X.2.2.1 (rC (xE X)) (rS (xE X)) (wd_A d)) (F0 X.2.2.2.1 (pc + 3) ls st) := by
    intro H' e1 e2 e3
    have eC : rC σ' = rC σ := congrArg (fun x => x.2.1) hcn
    have eS : rS σ' = rS σ := congrArg (fun x => x.2.2) hcn
    have hN' : wd_N d σ' H' := hW.1.put e2 e3 q1 e1 (by simp [Cell.setSlot]) hcn
    rw [hsl] at e1 ⊢
    have h9 := kk G (by rw [eC]; exact ha) (by rw [eS]; exact hb) (hE.trans hx) H' (locs ++ [⟨a0, (d.1.2 c) k⟩]) ls (hm H H' _ hN' h1 (fun x y hx hy => h5.1 x hx y hy) hk hg hW e3 ⟨_, e1, q2, q3, t_set q4 hap hk v⟩) (hS.put e2 e3 hB) hl
    unfold xa xb at h9 ⊢
    rw [eC, eS] at h9
    exact h9
  rcases hfin with hfin | ⟨hin, hO⟩
  · unfold u_lay at hlay
    rw [if_neg (by rw [hT, hfin]; simp)] at hlay
    have h6 := u_store hfc hkC hkind hlay hi hd0 hn hfit
    exact W.putK G.ex G.cd (f := f) ⟨G.own, G.ws _ hq, ⟨_, _, _, hsame⟩, hst⟩ (by rw [q2]; exact h6) q1 q3 (by rw [hsl]; exact k2_hasslot (q4 k hk)) rfl rfl hd fin'
  · cases hfb : fin with
    | false =>
      unfold u_lay at hlay
      rw [if_neg (by rw [hT, hfb]; simp)] at hlay
      have h6 := u_store hfc hkC hkind hlay hi hd0 hn hfit
      exact W.putK G.ex G.cd (f := f) ⟨G.own, G.ws _ hq, ⟨_, _, _, hsame⟩, hst⟩ (by rw [q2]; exact h6) q1 q3 (by rw [hsl]; exact k2_hasslot (q4 k hk)) rfl rfl hd fin'
    | true =>
      unfold u_lay at hlay
      rw [if_pos (by rw [hT, hfb])] at hlay
      have hcf : X.2.2.2.1.cls = cf := by
        obtain ⟨_, _, c', _, _, _, -, -, hf', -, -, -, hown2, -⟩ := Cond.laysFinal_spec hlay
        have e1 : c' = cf := by have := hi.symm.trans hf'; simp at this; exact this.1.symm
        have e2 : (T k).1 = M.1.cls := by rw [hT]; exact hO
        rw [e2] at hown2
        rw [← e1]; exact Option.some.inj (G.own.symm.trans hown2)
      have h6 := u_fits hfc hkC hkind (Or.inr hlay) hi hd0 hn hfit
      exact W.putFinK G.ex G.cd G.own (G.ws _ hq) hsame hst hcf (by rw [G.nm]; exact hin) (by rw [q2]; exact h6) q1 q3 (by rw [hsl]; exact k2_hasslot (q4 k hk)) rfl rfl hd fin'
theorem wd_updI {c k g a0 : Nat} {v : Int32} {r : vw_C} (hi : ∀ x y, x < r.2.2 → y < r.2.2 → (wd_gk c x).1 = (wd_gk c y).1 → x = y) (hk : k < r.2.2) (hg : wd_gk c k = (g, 0)) : ∀ j, j < r.2.2 → updV (wd_f σ c a0) k (.int v) j = wd_f (sI σ g a0 v) c a0 j := by
  intro j hj
  by_cases hjk : j = k
  · subst hjk
    simp [updV, wd_f, wd_v, hg, sI, oI, u2]
  · have hne : (wd_gk c j).1 ≠ g := fun e => hjk (hi j k hj hk (by rw [e, hg]))
    simp only [updV, hjk, if_false, wd_f, wd_v]
    have e : oI (sI σ g a0 v) (wd_gk c j).1 a0 = oI σ (wd_gk c j).1 a0 := u2_g hne
    rw [e]
    rfl
theorem wd_updJ {c k g a0 : Nat} {v : Int64} {r : vw_C} (hi : ∀ x y, x < r.2.2 → y < r.2.2 → (wd_gk c x).1 = (wd_gk c y).1 → x = y) (hk : k < r.2.2) (hg : wd_gk c k = (g, 1)) : ∀ j, j < r.2.2 → updV (wd_f σ c a0) k (.long v) j = wd_f (sJ σ g a0 v) c a0 j := by
  intro j hj
  by_cases hjk : j = k
  · subst hjk
    simp [updV, wd_f, wd_v, hg, sJ, oJ, u2]
  · have hne : (wd_gk c j).1 ≠ g := fun e => hjk (hi j k hj hk (by rw [e, hg]))
    simp only [updV, hjk, if_false, wd_f, wd_v]
    have e : oJ (sJ σ g a0 v) (wd_gk c j).1 a0 = oJ σ (wd_gk c j).1 a0 := u2_g hne
    rw [e]
    rfl
theorem wd_updR {c k g a0 : Nat} {v : Option Nat} {r : vw_C} (hi : ∀ x y, x < r.2.2 → y < r.2.2 → (wd_gk c x).1 = (wd_gk c y).1 → x = y) (hk : k < r.2.2) (hg : wd_gk c k = (g, 2)) : ∀ j, j < r.2.2 → updV (wd_f σ c a0) k (va_rf v) j = wd_f (sR σ g a0 v) c a0 j := by
  intro j hj
  by_cases hjk : j = k
  · subst hjk
    simp [updV, wd_f, wd_v, hg, sR, oR, u2]
  · have hne : (wd_gk c j).1 ≠ g := fun e => hjk (hi j k hj hk (by rw [e, hg]))
    simp only [updV, hjk, if_false, wd_f, wd_v]
    have e : oR (sR σ g a0 v) (wd_gk c j).1 a0 = oR σ (wd_gk c j).1 a0 := u2_g hne
    rw [e]
    rfl
theorem j_puti {c k g idx a0 : Nat} {O n t ref : String} {fin : Bool} {ft : FieldType} {v : Int32} (hd : decode M.2.1 pc = .ok (.putfield idx, 3)) (hf : fd c k g 0 O n t fin ft) (hq : Cond.fieldLink M.1.cls idx ref n t ∈ lw_all) (hs : ref = O ∨ Cond.sameField ref O n t ∈ lw_all) (hC : oC σ a0 = c + 1) (hfin : fin = false ∨ (M.1.name = "<init>" ∧ O = M.1.cls)) (hn : narrow ft (.int v) = .int v) (hfit : fits ft (.int v) = true) (kk : J l d X D K Kx M (pc + 3) (sI σ g a0 v) L st) : J l d X D K Kx M pc σ L (.int v :: .ref a0 :: st) :=
  j_putv (σ' := (sI σ g a0 v)) hd hf hq hs hC hfin hn hfit (show Ext σ (sI σ g a0 v) from Ext.refl σ) rfl (fun H H' r hn h1 hi hk hg hW ho hO => wd_putO hn hW hC h1 ho (hO.to (wd_updI hi hk hg)) rfl rfl (fun c' a' h => by funext j; simp only [wd_f, wd_v]; rw [show oI (sI σ g a0 v) (wd_gk c' j).1 a' = oI σ (wd_gk c' j).1 a' from u2_a h]; rfl)) kk
theorem j_putj {c k g idx a0 : Nat} {O n t ref : String} {fin : Bool} {ft : FieldType} {v : Int64} (hd : decode M.2.1 pc = .ok (.putfield idx, 3)) (hf : fd c k g 1 O n t fin ft) (hq : Cond.fieldLink M.1.cls idx ref n t ∈ lw_all) (hs : ref = O ∨ Cond.sameField ref O n t ∈ lw_all) (hC : oC σ a0 = c + 1) (hfin : fin = false ∨ (M.1.name = "<init>" ∧ O = M.1.cls)) (hn : narrow ft (.long v) = .long v) (hfit : fits ft (.long v) = true) (kk : J l d X D K Kx M (pc + 3) (sJ σ g a0 v) L st) : J l d X D K Kx M pc σ L (.long v :: .ref a0 :: st) :=
  j_putv (σ' := (sJ σ g a0 v)) hd hf hq hs hC hfin hn hfit (show Ext σ (sJ σ g a0 v) from Ext.refl σ) rfl (fun H H' r hn h1 hi hk hg hW ho hO => wd_putO hn hW hC h1 ho (hO.to (wd_updJ hi hk hg)) rfl rfl (fun c' a' h => by funext j; simp only [wd_f, wd_v]; rw [show oJ (sJ σ g a0 v) (wd_gk c' j).1 a' = oJ σ (wd_gk c' j).1 a' from u2_a h]; rfl)) kk
theorem j_putr {c k g idx a0 : Nat} {O n t ref : String} {fin : Bool} {ft : FieldType} {v : Option Nat} (hd : decode M.2.1 pc = .ok (.putfield idx, 3)) (hf : fd c k g 2 O n t fin ft) (hq : Cond.fieldLink M.1.cls idx ref n t ∈ lw_all) (hs : ref = O ∨ Cond.sameField ref O n t ∈ lw_all) (hC : oC σ a0 = c + 1) (hfin : fin = false ∨ (M.1.name = "<init>" ∧ O = M.1.cls)) (hn : narrow ft (va_rf v) = va_rf v) (hfit : fits ft (va_rf v) = true) (kk : J l d X D K Kx M (pc + 3) (sR σ g a0 v) L st) : J l d X D K Kx M pc σ L (va_rf v :: .ref a0 :: st) :=
  j_putv (σ' := (sR σ g a0 v)) hd hf hq hs hC hfin hn hfit (show Ext σ (sR σ g a0 v) from Ext.refl σ) rfl (fun H H' r hn h1 hi hk hg hW ho hO => wd_putO hn hW hC h1 ho (hO.to (wd_updR hi hk hg)) rfl rfl (fun c' a' h => by funext j; simp only [wd_f, wd_v]; rw [show oR (sR σ g a0 v) (wd_gk c' j).1 a' = oR σ (wd_gk c' j).1 a' from u2_a h]; rfl)) kk
theorem j_putrr {c k g idx a0 x : Nat} {O n t ref : String} {fin : Bool} {ft : FieldType} (hd : decode M.2.1 pc = .ok (.putfield idx, 3)) (hf : fd c k g 2 O n t fin ft) (hq : Cond.fieldLink M.1.cls idx ref n t ∈ lw_all) (hs : ref = O ∨ Cond.sameField ref O n t ∈ lw_all) (hC : oC σ a0 = c + 1) (hfin : fin = false ∨ (M.1.name = "<init>" ∧ O = M.1.cls)) (hn : narrow ft (.ref x) = .ref x) (hfit : fits ft (.ref x) = true) (kk : J l d X D K Kx M (pc + 3) (sR σ g a0 (some x)) L st) : J l d X D K Kx M pc σ L (.ref x :: .ref a0 :: st) := j_putr (v := some x) hd hf hq hs hC hfin hn hfit kk
theorem j_putrn {c k g idx a0 : Nat} {O n t ref : String} {fin : Bool} {ft : FieldType} (hd : decode M.2.1 pc = .ok (.putfield idx, 3)) (hf : fd c k g 2 O n t fin ft) (hq : Cond.fieldLink M.1.cls idx ref n t ∈ lw_all) (hs : ref = O ∨ Cond.sameField ref O n t ∈ lw_all) (hC : oC σ a0 = c + 1) (hfin : fin = false ∨ (M.1.name = "<init>" ∧ O = M.1.cls)) (hn : narrow ft .null = .null) (hfit : fits ft .null = true) (kk : J l d X D K Kx M (pc + 3) (sR σ g a0 none) L st) : J l d X D K Kx M pc σ L (.null :: .ref a0 :: st) := j_putr (v := none) hd hf hq hs hC hfin hn hfit kk
/-- a floating array becomes a field's -/
theorem mvA_N {g a0 f q g' a' : Nat} (h : ¬ (g' = g ∧ a' = a0)) (h2 : ¬ (g' = f ∧ a' = q)) : aN (mvA σ g a0 f q) g' a' = aN σ g' a' := by
  show u2 (u2 (aN σ) f q none) g a0 (aN σ f q) g' a' = _
  unfold u2
  by_cases e1 : g' = g
  · subst e1
    rw [if_pos rfl, if_neg (fun e => h ⟨rfl, e⟩)]
    by_cases e2 : g' = f
    · subst e2; rw [if_pos rfl, if_neg (fun e => h2 ⟨rfl, e⟩)]
    · rw [if_neg e2]
  · rw [if_neg e1]
    by_cases e2 : g' = f
    · subst e2; rw [if_pos rfl, if_neg (fun e => h2 ⟨rfl, e⟩)]
    · rw [if_neg e2]
theorem mvA_E {α : Type} {F : Nat → Nat → α} {g a0 g' a' : Nat} {v : α} (h : ¬ (g' = g ∧ a' = a0)) : u2 F g a0 v g' a' = F g' a' := by
  unfold u2
  by_cases e1 : g' = g
  · rw [if_pos e1, if_neg (fun e => h ⟨e1, e⟩)]
  · rw [if_neg e1]
theorem mvA_arr {g a0 f q g' a' n : Nat} (h : ¬ (g' = g ∧ a' = a0)) : wd_arr (mvA σ g a0 f q) g' a' n = wd_arr σ g' a' n ∧ aD (mvA σ g a0 f q) g' a' = aD σ g' a' := by
  have e1 : aI (mvA σ g a0 f q) g' a' = aI σ g' a' := mvA_E h
  have e2 : aJ (mvA σ g a0 f q) g' a' = aJ σ g' a' := mvA_E h
  have e3 : aR (mvA σ g a0 f q) g' a' = aR σ g' a' := mvA_E h
  exact ⟨by simp only [wd_arr, e1, e2, e3], mvA_E h⟩
theorem j_puta {c k g idx a0 f q N0 : Nat} {O n t ref : String} {fin : Bool} {ft : FieldType} (hd : decode M.2.1 pc = .ok (.putfield idx, 3)) (hf : fd c k g 3 O n t fin ft) (hq : Cond.fieldLink M.1.cls idx ref n t ∈ lw_all) (hs : ref = O ∨ Cond.sameField ref O n t ∈ lw_all) (hC : oC σ a0 = c + 1) (hfin : fin = false ∨ (M.1.name = "<init>" ∧ O = M.1.cls)) (hn : ∀ x, narrow ft (.ref x) = .ref x) (hfit : ∀ x, fits ft (.ref x) = true) (hN : aN σ f q = some N0) (hgf : g / 10000 = f / 10000) (hfl : f % 10000 = 0) (hno : aN σ g a0 = none) (kk : J l d X D K Kx M (pc + 3) (mvA σ g a0 f q) L st) : J l d X D K Kx M pc σ L (.ref (aD σ f q) :: .ref a0 :: st) := by
  have hfg : ∀ c j, (wd_gk c j).1 ≠ f := wd_nofloat hfl
  refine j_putv hd hf hq hs hC hfin (hn _) (hfit _) (Ext.mvA hfl hno) rfl (fun H H' r hnn h1 hi hk hg hW ho hO => ?_) kk
  have hgf' : g ≠ f := by have := hfg c k; rw [hg] at this; exact this
  have eC : oC (mvA σ g a0 f q) = oC σ := rfl
  have eN0 : aN (mvA σ g a0 f q) g a0 = some N0 := by show u2 _ g a0 (aN σ f q) g a0 = _; rw [u2_s, hN]
  have eD0 : aD (mvA σ g a0 f q) g a0 = aD σ f q := u2_s
  have eNf : aN (mvA σ g a0 f q) f q = none := by
    show u2 (u2 (aN σ) f q none) g a0 (aN σ f q) f q = none
    rw [u2_g (Ne.symm hgf'), u2_s]
  have eF : ∀ c' a', a' ≠ a0 → wd_f (mvA σ g a0 f q) c' a' = wd_f σ c' a' := by
    intro c' a' h
    funext j
    have n1 : ¬ ((wd_gk c' j).1 = g ∧ a' = a0) := fun z => h z.2
    have n2 : ¬ ((wd_gk c' j).1 = f ∧ a' = q) := fun z => hfg c' j z.1
    simp only [wd_f, wd_v]
    rw [mvA_N n1 n2, (mvA_arr (n := 0) n1).2]
    rfl
  refine ⟨hnn, fun x c' hx => ?_, fun g' x n' hx => ?_, fun g1 a1 n1 g2 a2 n2 h3 h4 h5 => ?_⟩
  · by_cases hxa : x = a0
    · subst hxa
      have : c' = c := by have h0 : oC σ x = c' + 1 := hx; omega
      subst this
      refine ⟨(hW.2.1 x c' hC).1, r, h1, hO.to (fun j hj => ?_)⟩
      by_cases hjk : j = k
      · subst hjk
        simp only [updV, if_true, wd_f, hg, wd_v]
        rw [eN0, eD0]
      · have hne : (wd_gk c' j).1 ≠ g := fun e => hjk (hi j k hj hk (by rw [e, hg]))
        have n1 : ¬ ((wd_gk c' j).1 = g ∧ x = x) := fun z => hne z.1
        have n2 : ¬ ((wd_gk c' j).1 = f ∧ x = q) := fun z => hfg c' j z.1
        simp only [updV, hjk, if_false, wd_f, wd_v]
        rw [mvA_N n1 n2, (mvA_arr (n := 0) n1).2]
        rfl
    · obtain ⟨h0, r', h2, h3⟩ := hW.2.1 x c' hx
      exact ⟨h0, r', h2, by rw [eF c' x hxa]; exact h3.kept (ho x hxa)⟩
  · by_cases hga : g' = g ∧ x = a0
    · obtain ⟨rfl, rfl⟩ := hga
      have : n' = N0 := Option.some.inj (hx.symm.trans eN0)
      subst this
      obtain ⟨h0, h2, h3⟩ := hW.2.2.1 f q n' hN
      rw [eD0]
      refine ⟨h0, ?_, h3⟩
      have hne : aD σ f q ≠ x := fun e => by rw [e] at h3; omega
      rw [ho _ hne, h2, hgf]
      have e1 : aI (mvA σ g' x f q) g' x = aI σ f q := u2_s
      have e2 : aJ (mvA σ g' x f q) g' x = aJ σ f q := u2_s
      have e3 : aR (mvA σ g' x f q) g' x = aR σ f q := u2_s
      simp only [wd_arr, e1, e2, e3, hgf]
    · by_cases hfq : g' = f ∧ x = q
      · obtain ⟨rfl, rfl⟩ := hfq
        rw [eNf] at hx
        cases hx
      · rw [mvA_N hga hfq] at hx
        obtain ⟨h0, h2, h3⟩ := hW.2.2.1 g' x n' hx
        rw [(mvA_arr (n := n') hga).1, (mvA_arr (n := n') hga).2]
        have hne : aD σ g' x ≠ a0 := fun e => by rw [e] at h3; omega
        exact ⟨h0, by rw [ho _ hne]; exact h2, h3⟩
  · have back : ∀ g1 a1 n1, aN (mvA σ g a0 f q) g1 a1 = some n1 → (g1 = g ∧ a1 = a0 ∧ aD (mvA σ g a0 f q) g1 a1 = aD σ f q) ∨ (¬ (g1 = g ∧ a1 = a0) ∧ ¬ (g1 = f ∧ a1 = q) ∧ aN σ g1 a1 = some n1 ∧ aD (mvA σ g a0 f q) g1 a1 = aD σ g1 a1) := by
      intro g1 a1 n1 h
      by_cases hga : g1 = g ∧ a1 = a0
      · obtain ⟨rfl, rfl⟩ := hga
        exact Or.inl ⟨rfl, rfl, eD0⟩
      · by_cases hfq : g1 = f ∧ a1 = q
        · obtain ⟨rfl, rfl⟩ := hfq
          rw [eNf] at h
          cases h
        · exact Or.inr ⟨hga, hfq, by rw [← mvA_N hga hfq]; exact h, (mvA_arr (n := 0) hga).2⟩
    rcases back g1 a1 n1 h3 with ⟨e1, e2, e3⟩ | ⟨e1, e2, e3, e4⟩ <;> rcases back g2 a2 n2 h4 with ⟨k1, k2, k3⟩ | ⟨k1, k2, k3, k4⟩
    · exact ⟨e1.trans k1.symm, e2.trans k2.symm⟩
    · rw [e3, k4] at h5
      have := hW.2.2.2 f q N0 g2 a2 n2 hN k3 h5
      exact absurd ⟨this.1.symm, this.2.symm⟩ k2
    · rw [e4, k3] at h5
      have := hW.2.2.2 g1 a1 n1 f q N0 e3 hN h5
      exact absurd this e2
    · rw [e4, k4] at h5
      exact hW.2.2.2 g1 a1 n1 g2 a2 n2 e3 k3 h5

end JR
