set_option linter.unusedVariables false
theorem vz_ofF {l : Launch} {y : MethodName} {ws ws' : List Cond} {rm : Room} {Pc : Array Value → State → Prop} {Qc : Array Value → State → Outcome → State → Prop} {XC : String → Addr → State → State → Prop} {mc ms : Nat} {free : Addr → Prop} {cc : ByteArray} {maxL : Nat} {ret : Option FieldType}
    (hy : plainFor y = true) (hw : ws = Cond.code y cc maxL ret :: ws')
    (body : ∀ p e s m args below meth c s₁, BodyLoose p l y (headSpec ws rm) cc maxL ret e s m args below meth c s₁ → c.maxLocals = maxL → (∀ x ∈ c.exceptionTable.toList, False) → Pc args s →
      W p l e (headSpec ws rm).room s m args below meth c s.heap [] 0 0 (vx_MQ below Qc XC args s mc ms free) (entryFrame m args maxL)) : vx_Met l y ws rm Pc Qc XC mc ms free := by
  refine MetFree.of_bodySF (code := cc) (maxLocals := maxL) (ret := ret) hy ?_ ?_
  · intro args s m h hn
    obtain ⟨meth, c, h1, h2, h3, h4, h5, h6, -, -⟩ := Cond.code_spec hn (atoms_spec (ws := ws) h _ (by rw [hw]; exact List.mem_cons_self))
    exact ⟨meth, c, h1, h2, h3, h4, h5, h6⟩
  · intro p e s m args below meth c s₁ B hml hP _
    have hh0 : s₁.heap = s.heap := by rw [B.state]; rfl
    have ht : ∀ x ∈ c.exceptionTable.toList, False := by
      obtain ⟨meth9, c9, h1, h2, -, -, -, -, h7, -⟩ := Cond.code_spec B.named (atoms_spec (ws := ws) B.pre _ (by rw [hw]; exact List.mem_cons_self))
      cases Option.some.inj (h1.symm.trans B.method)
      cases Option.some.inj (h2.symm.trans (Stand.of_body B).code)
      intro x hx
      rw [Array.isEmpty_iff.mp h7] at hx
      cases hx
    obtain ⟨t, a1, o, b1, b2, b3⟩ := body p e s m args below meth c s₁ B hml ht hP s₁ hh0 (Stand.of_body B)
    exact ⟨t, o, a1, b1, b2, b3⟩
section LIT
variable {l : Launch} {d : wD} {X : jX} {D : Nat} {K : jK} {Kx : jKx} {M : jM} {pc : Nat} {σ : wS} {L L2 : List (Nat × Value)} {st : List Value}
theorem j_litV {idx i : Nat} (hd : decode M.2.1 pc = .ok (.getfield idx, 3)) (hq : Cond.fieldLink M.1.cls idx "java/lang/String" "value" "[B" ∈ lw_all) (hi : i < 15) (kk : J l d X D K Kx M (pc + 3) σ L (.ref (d.2.2.2.1 i) :: st)) : J l d X D K Kx M pc σ L (.ref (d.2.2.1 i) :: st) :=
  fun G ha hb hE H locs ls hW hS hl => vk_getf G.ex G.cd (G.kk.2.2.2.2.1.1 i hi).2.2.1 hS G.own (G.ws _ hq) (fun _ h => h) hd (kk G ha hb hE H locs ls hW hS hl)
theorem j_litC {idx i : Nat} (hd : decode M.2.1 pc = .ok (.getfield idx, 3)) (hq : Cond.fieldLink M.1.cls idx "java/lang/String" "coder" "B" ∈ lw_all) (hi : i < 15) (kk : J l d X D K Kx M (pc + 3) σ L (.int (0 : Int32) :: st)) : J l d X D K Kx M pc σ L (.ref (d.2.2.1 i) :: st) :=
  fun G ha hb hE H locs ls hW hS hl => vk_getf G.ex G.cd (G.kk.2.2.2.2.1.1 i hi).2.1 hS G.own (G.ws _ hq) (fun _ h => h) hd (kk G ha hb hE H locs ls hW hS hl)
theorem j_litH {idx i : Nat} (hd : decode M.2.1 pc = .ok (.getfield idx, 3)) (hq : Cond.fieldLink M.1.cls idx "java/lang/String" "hash" "I" ∈ lw_all) (hi : i < 15) (kk : J l d X D K Kx M (pc + 3) σ L (.int (wd_hsh.getD i 0) :: st)) : J l d X D K Kx M pc σ L (.ref (d.2.2.1 i) :: st) :=
  fun G ha hb hE H locs ls hW hS hl => vk_getf G.ex G.cd (G.kk.2.2.2.2.2.1 i hi) hS G.own (G.ws _ hq) (fun _ h => h) hd (kk G ha hb hE H locs ls hW hS hl)
theorem j_litL {i : Nat} (hd : decode M.2.1 pc = .ok (.arraylength, 1)) (hi : i < 15) (kk : J l d X D K Kx M (pc + 1) σ L (.int (Int32.ofNat (wd_len.getD i 0)) :: st)) : J l d X D K Kx M pc σ L (.ref (d.2.2.2.1 i) :: st) :=
  fun G ha hb hE H locs ls hW hS hl => va_tlen G.ex G.cd (G.kk.2.2.2.2.1.1 i hi).2.2.2 hS rfl hd (kk G ha hb hE H locs ls hW hS hl)
theorem j_litB {i : Nat} {k : Int32} (hd : decode M.2.1 pc = .ok (.baload, 1)) (hi : i < 15) (hin : vp_in k (wd_len.getD i 0)) (kk : J l d X D K Kx M (pc + 1) σ L (.int ((wd_byt.getD i []).getD k.toNatClampNeg 0) :: st)) : J l d X D K Kx M pc σ L (.int k :: .ref (d.2.2.2.1 i) :: st) :=
  fun G ha hb hE H locs ls hW hS hl => va_tb G.ex G.cd (G.kk.2.2.2.2.1.1 i hi).2.2.2 hS hin rfl hd (kk G ha hb hE H locs ls hW hS hl)
theorem j_getC {idx : Nat} (hd : decode M.2.1 pc = .ok (.getstatic idx, 3)) (hq : Cond.fieldLink M.1.cls idx "java/lang/String" "COMPACT_STRINGS" "Z" ∈ lw_all) (kk : J l d X D K Kx M (pc + 3) σ L (.int (1 : Int32) :: st)) : J l d X D K Kx M pc σ L st :=
  fun G ha hb hE H locs ls hW hS hl => va_gets G.ex G.cd G.kk.2.2.2.2.2.2.1.1 hS G.own (G.ws _ hq) (fun _ h => h) hd (kk G ha hb hE H locs ls hW hS hl)
theorem j_getF {idx : Nat} (hd : decode M.2.1 pc = .ok (.getstatic idx, 3)) (hq : Cond.fieldLink M.1.cls idx "jdk/internal/util/Preconditions" "SIOOBE_FORMATTER" "Ljava/util/function/BiFunction;" ∈ lw_all) (kk : ∀ z : Option Nat, J l d X D K Kx M (pc + 3) σ L (va_rf z :: st)) : J l d X D K Kx M pc σ L st := by
  intro G ha hb hE H locs ls hW hS hl
  rcases G.kk.2.2.2.2.2.2.1.2 with h | ⟨t, h⟩
  · exact va_gets G.ex G.cd h hS G.own (G.ws _ hq) (fun _ h => h) hd (kk none G ha hb hE H locs ls hW hS hl)
  · exact va_gets G.ex G.cd h hS G.own (G.ws _ hq) (fun _ h => h) hd (kk (some t) G ha hb hE H locs ls hW hS hl)
theorem j_same {i j : Nat} {off : Int} {tgt : Nat} (hd : decode M.2.1 pc = .ok (.if_acmp .ne off, 3)) (ht : (pc : Int) + off = (tgt : Int)) (hij : i = j) (kk : J l d X D K Kx M (pc + 3) σ L st) : J l d X D K Kx M pc σ L (.ref (d.2.2.1 j) :: .ref (d.2.2.1 i) :: st) := by
  subst hij
  exact fun G ha hb hE H locs ls hW hS hl => lv_acmp_ne (rx := some (d.2.2.1 i)) (ry := some (d.2.2.1 i)) G.ex G.cd hd ht (fun c => absurd rfl c) (fun _ => kk G ha hb hE H locs ls hW hS hl)
theorem j_callL {idx i D' maxL n : Nat} {y : MethodName} {bytes : ByteArray} {ret : Option FieldType} {st0 : List Value} {K' : jK} {Kx' : jKx} (As rest : List Value) (hd : decode M.2.1 pc = .ok (.invokevirtual idx, 3)) (hT : GoodIn lw_all (wsV M.1.cls idx y.cls y (ws_ y bytes maxL ret))) (hy : yok y n) (hn : As.length = n) (hmax : maxL ≤ 45) (hst : st0 = As.reverse ++ .ref (d.2.2.1 i) :: rest) (hrest : (rest.map fun v => v.category).sum ≤ 8) (hi : i < 15) (hrv : y.cls = "java/lang/String") (hD : D' + 1 ≤ D)
    (hwp : WP l d (ws_ y bytes maxL ret) D' y σ (.ref (d.2.2.1 i) :: As) K' Kx') (kk : ∀ (v : Option Value) (σ' : wS), Ext σ σ' → K' v σ' → J l d X D K Kx M (pc + 3) σ' L (v.toList ++ rest)) (kx : ∀ (E : String) (q : Nat) (σ' : wS), Ext σ σ' → Kx' E q σ' → JX l d X D K Kx M pc σ' L E q) : J l d X D K Kx M pc σ L st0 := by
  intro G ha hb hE H locs ls hW hS hl
  exact j_after G hS hl hE (vx_runV (As := As) (rest := rest) ⟨G.ex, G.cd, G.ml, G.own, G.ws⟩ (hwp G.nt) (cwV n G.ws hT rfl rfl rfl ⟨rfl, hy⟩ (wd_room hD hmax)) ⟨wd_blind, by rw [hrv]; exact vk_recv G.kk.2.2.2.2.1 hi hS, wd_Pc G hW hS⟩ rfl hn hl.1 hst (lv_room hrest) hd ⟨xr_1 ha (Nat.le_refl _), xr_2 hb (Nat.le_refl _)⟩) kk kx
theorem lk_ne {a o df k : Int} {r : List (Int × Int)} (h : a ≠ k) (g : Op.lookupswitch.offset r df k = df) : Op.lookupswitch.offset ((a, o) :: r) df k = df := by rw [Op.lookupswitch.offset_cons, if_neg h]; exact g
theorem ts_k {x k : Int32} {z : Int} (h : ¬ x = k) (e : k.toInt = z) : z ≠ x.toInt := fun q => h (Int32.toInt_inj.mp (q.symm.trans e.symm))
theorem ldcwString {p : Program} {l : Launch} {e : Env} {R : Room} {s : State} {m : MethodId} {args : Array Value} {below : List Frame} {meth : Method} {c : Code} {T : State} {locs : List Loc} {cells slots : Nat}
    (X : Stand p l e R s m args below meth c T locs cells slots) (hexec : p.tables.exec = Jvm.exec) {own text : String} {index : Nat} {a : Addr} (hown : s.vm.findClass own = some m.cls)
    (hconst : (Cond.stringRef own index text).before args s = true) (hev : (Term.string own index).eval args s none [] s = some (.ref a)) {g : JFrame} (hg : g.method = m) (hdg : decode c.code g.pc = .ok (.ldc_w index, 3)) :
    ∀ target, Steps p.tables e below (T.setTop { g with pc := g.pc + 3, stack := .ref a :: g.stack }) target → Steps p.tables e below (T.setTop g) target := by
  obtain ⟨k, cf, i, a', hk, hcf, hcp, -, hr, hev'⟩ := Cond.stringRef_spec hown hconst
  cases hev.symm.trans hev'
  obtain ⟨k', hk', he⟩ := X.warmed.alike.2.2 _ _ hk
  have hr' : k'.resolved[index]? = some (some (.string a)) := by
    rcases X.warmed.entry hk hk' index with h | ⟨h, -⟩
    · rw [h]; exact hr
    · rw [hr] at h; cases h
  intro target hrest
  subst hg
  jvm_step X.here [hexec, hdg, Op.ldc_w.wp_string (e := e) (s := T) (f := g) X.here.top hk' (by rw [he]; exact hcf) hcp hr']
  exact hrest
theorem j_ldcSw {idx i : Nat} {tx : String} (hd : decode M.2.1 pc = .ok (.ldc_w idx, 3)) (hq : (M.1.cls, idx, tx, i) ∈ wd_lits) (kk : J l d X D K Kx M (pc + 3) σ L (.ref (d.2.2.1 i) :: st)) : J l d X D K Kx M pc σ L st := by
  intro G ha hb hE H locs ls hW hS hl T hT X9
  obtain ⟨t, a1, b1⟩ := kk G ha hb hE H locs ls hW hS hl T hT X9
  have hZ := G.kk.2.2.2.1 _ hq
  exact ⟨t, ldcwString X9 G.ex G.own (text := tx) (a := d.2.2.1 i) hZ.1 hZ.2 (g := F0 X.2.2.2.1 pc ls st) rfl (by rw [G.cd]; exact hd) t a1, b1⟩
theorem wp_ofF {y : MethodName} {cc : ByteArray} {nL : Nat} {ret : Option FieldType} {as : List Value} (hy : plainFor y = true) (hL : (lg_sl as).length ≤ nL) (hA : lv_args 0 as = L)
    (k : ∀ X : jX, J l d X D K Kx (y, cc, nL, ret, []) 0 σ L []) : WP l d (ws_ y cc nL ret) D y σ as K Kx := by
  intro hnt
  refine vz_ofF (cc := cc) (maxL := nL) (ret := ret) hy rfl ?_
  intro p e s m args below meth c s₁ B hml hex hv
  obtain ⟨rfl, hB0, hKK, hWW⟩ := hv
  have hts := atoms_spec (ws := ws_ y cc nL ret) B.pre
  have hl := lv_entry as (n := nL) hL
  rw [lg_entry_eq]
  rw [hA] at hl
  have htb : c.exceptionTable.toList = [] := by
    cases hx : c.exceptionTable.toList with
    | nil => rfl
    | cons z zs => exact (hex z (by rw [hx]; exact List.mem_cons_self)).elim
  have h9 := k (p, e, s, m, as.toArray, below, meth, c, σ) ⟨⟨B.exec, B.bytes, hml, findClass_of_methodNamed B.named, fun w h => hts w (List.mem_cons_of_mem _ h)⟩, B.returns, B.notSynchronized, hnt, htb, (name_of_methodNamed B.named B.method).1, hB0, hWW.1, hKK⟩ (Nat.le_refl _) (Nat.le_refl _) (Ext.refl σ) s.heap [] _ hWW va_S.rf hl
  have ea : xa (p, e, s, m, as.toArray, below, meth, c, σ) σ = 0 := Nat.sub_self _
  have eb : xb (p, e, s, m, as.toArray, below, meth, c, σ) σ = 0 := Nat.sub_self _
  rw [ea, eb] at h9
  exact h9
theorem pf_mx : plainFor ⟨"java/lang/Math", "multiplyExact", "(II)I"⟩ = true := by decide +kernel
theorem pf_ax : plainFor ⟨"java/lang/Math", "addExact", "(II)I"⟩ = true := by decide +kernel
end LIT
