set_option linter.unusedVariables false
set_option maxRecDepth 100000
section JR3
variable {l : Launch} {d : wD} {X : jX} {D : Nat} {K : jK} {Kx : jKx} {M : jM} {pc : Nat} {σ : wS} {L L2 : List (Nat × Value)} {st : List Value}
variable {idx D' n : Nat} {st0 : List Value} {K' : jK} {Kx' : jKx}
/-! calls by a table of classes: number, method, its words, whether it is an interface's default -/
abbrev jE : Type := Nat × MethodName × List Cond × Bool
def noX : jKx := fun _ _ _ => False
def VW (tbl : List jE) (l : Launch) (d : wD) (D : Nat) (σ : wS) (r : Nat) (as : List Value) (K : jK) (Kx : jKx) : Prop :=
  ∃ e ∈ tbl, oC σ r = e.1 + 1 ∧ WP l d e.2.2.1 D e.2.1 σ (.ref r :: as) K (if e.2.2.2 then noX else Kx)
theorem VW.of {tbl : List jE} {r : Nat} {as : List Value} (i : Nat) {e : jE} (hi : tbl[i]? = some e) (hC : oC σ r = e.1 + 1) (h : WP l d e.2.2.1 D e.2.1 σ (.ref r :: as) K (if e.2.2.2 then noX else Kx)) : VW tbl l d D σ r as K Kx :=
  ⟨e, List.mem_of_getElem? hi, hC, h⟩
theorem met_of {y : MethodName} {ws : List Cond} {rm : Room} {Pc : Array Value → State → Prop} {Qc : Array Value → State → Outcome → State → Prop} {mc ms : Nat} {free : Addr → Prop} (h : vx_Met l y ws rm Pc Qc (wd_X d σ noX) mc ms free) : Met l y ws rm Pc Qc mc ms free := by
  intro p e ha hc hkk s m args below hf happ hP hQ
  obtain ⟨t, o, h1, h2, h3, h4⟩ := h p e ha hc hkk s m args below hf happ hP hQ
  refine ⟨t, o, h1, h2, h3, ?_⟩
  rcases h4 with h4 | ⟨q, g0, E, ce, Lq, ⟨⟨σ', ge, g2, g3⟩, gF⟩, g4⟩
  · exact h4
  · exact g2.elim
def tokC (e : jE) (k : String → ByteArray → Nat → Option FieldType → Prop) : Prop := ∃ (C : String) (T : u_T) (N : Nat) (ty : Nat → FieldType) (bytes : ByteArray) (maxL : Nat) (ret : Option FieldType), cd e.1 C T N ty ∧ e.2.2.1 = ws_ e.2.1 bytes maxL ret ∧ maxL ≤ 45 ∧ Cond.code e.2.1 bytes maxL ret ∈ lw_all ∧ Cond.initialized e.2.1.cls ∈ lw_all ∧ Cond.instanceMethod e.2.1 ∈ lw_all ∧ k C bytes maxL ret
def tokV (x : MethodName) (owner : String) (e : jE) : Prop := tokC e fun C _ _ _ => (e.2.2.2 = false ∧ (Cond.selects C x e.2.1 ∈ lw_all ∨ Cond.selects C ⟨owner, x.name, x.desc⟩ e.2.1 ∈ lw_all)) ∨ (e.2.2.2 = true ∧ (C, x, e.2.1) ∈ wd_vdefs)
def tokF (x : MethodName) (e : jE) : Prop := tokC e fun C _ _ _ => (e.2.2.2 = false ∧ Cond.selects C x e.2.1 ∈ lw_all ∧ (C, x, e.2.1) ∈ wd_faces) ∨ (e.2.2.2 = true ∧ (C, x, e.2.1) ∈ wd_idefs ∧ (C, x.cls) ∈ wd_casts)
/-- a word of the tables, or one of the start's -/
def wOk (w : Cond) : Prop := w ∈ lw_all ∨ w ∈ wd_nlk
theorem wOk.use {w : Cond} (h : wOk w) (G : jG l d X M) : w.before X.2.2.2.2.1 X.2.2.1 = true := by
  rcases h with h | h
  · exact G.ws _ h
  · have := wd_nlk_ok w h
    simp only [Bool.and_eq_true] at this
    exact va_Nw.use this.1 (G.kk.2.1.2.2.2 w h)
theorem sel_up {s : State} {args : Array Value} {C owner n dd xc : String} {y : MethodName} (how : owner ≠ "java/lang/invoke/MethodHandle" ∧ owner ≠ "java/lang/invoke/VarHandle") (h : (Cond.selects C ⟨owner, n, dd⟩ y).before args s = true) (hs : (Cond.sameMethod xc owner n dd).before args s = true) : (Cond.selects C ⟨xc, n, dd⟩ y).before args s = true := by
  obtain ⟨_, _, r, _, _, _, hf, hn1⟩ := Cond.sameMethod_found hs
  have h2 := State.methodFound?_of_named hn1 how
  simp only [Cond.before, Cond.holds, Cond.value] at h ⊢
  rw [hf]
  rw [h2] at h
  exact h
def dOk (x : MethodName) : Prop := x ∈ wd_decl ∨ ∃ (b0 : ByteArray) (m0 : Nat) (r0 : Option FieldType), Cond.code x b0 m0 r0 ∈ lw_all ∧ Cond.instanceMethod x ∈ lw_all
theorem dOk.use {x : MethodName} (h : dOk x) (G : jG l d X M) : va_Decl X.2.2.1 x := by
  rcases h with h | ⟨b0, m0, r0, h1, h2⟩
  · exact va_Decl.abs (G.kk.2.1.2.2.1 x h)
  · exact va_Decl.of (G.ws _ h2) (G.ws _ h1)
theorem wd_isOf {H : Heap} {r c : Nat} {rv : vw_C} {T : State} (G : jG l d X M) (hW : wd_H d σ H) (hT : T.heap = H) (hC : oC σ r = c + 1) (hr : vwCl[c]? = some rv) : IsOf (d.1.1 c) T r := by
  obtain ⟨-, r', e1, cell, q1, q2, q3, -⟩ := hW.2.1 r c hC
  exact ⟨cell, by rw [hT]; exact q1, q2, by rw [q3]; rfl⟩
theorem j_callT (x : MethodName) (owner : String) (tbl : List jE) {r : Nat} (As rest : List Value) (hd : decode M.2.1 pc = .ok (.invokevirtual idx, 3)) (hlk : wOk (Cond.methodLink M.1.cls idx x)) (hsm : wOk (Cond.sameMethod x.cls owner x.name x.desc)) (hdc : dOk ⟨owner, x.name, x.desc⟩) (hdv : ⟨owner, x.name, x.desc⟩ ∈ wd_decl ∨ ∀ e ∈ tbl, e.2.2.2 = false) (hy : yok ⟨owner, x.name, x.desc⟩ n) (htbl : ∀ e ∈ tbl, tokV x owner e) (hn : As.length = n) (hst : st0 = As.reverse ++ .ref r :: rest) (hrest : (rest.map fun v => v.category).sum ≤ 8) (hD : D' + 1 ≤ D)
    (hwp : VW tbl l d D' σ r As K' Kx') (kk : ∀ (v : Option Value) (σ' : wS), Ext σ σ' → K' v σ' → J l d X D K Kx M (pc + 3) σ' L (v.toList ++ rest)) (kx : ∀ (E : String) (q : Nat) (σ' : wS), Ext σ σ' → Kx' E q σ' → JX l d X D K Kx M pc σ' L E q) : J l d X D K Kx M pc σ L st0 := by
  obtain ⟨e, he, hC, hwp⟩ := hwp
  obtain ⟨C, T, N, ty, bytes, maxL, ret, hcd, hws, hmax, w1, w2, w3, hk⟩ := htbl e he
  rw [hws] at hwp
  intro G ha hb hE H locs ls hW hS hl
  have hlen : ∀ sig, parseMethodDescriptor x.desc = some sig → n = sig.parameters.length := by
    intro sig h
    have h2 := hy.2.2
    rw [h] at h2
    exact (Option.some.inj h2).symm
  rcases hk with ⟨hdf, hsel⟩ | ⟨hdf, hvd⟩
  · rw [hdf] at hwp
    have hse : (Cond.selects C x e.2.1).before X.2.2.2.2.1 X.2.2.1 = true := by
      rcases hsel with h | h
      · exact G.ws _ h
      · exact sel_up ⟨hy.1, hy.2.1⟩ (G.ws _ h) (hsm.use G)
    exact j_after G hS hl hE (vx_runU (As := As) (rest := rest) (x := x) (owner := owner) (C := C) ⟨G.ex, G.cd, G.ml, G.own, G.ws⟩ (hwp G.nt) ⟨⟨rfl, rfl, (wd_room hD hmax).1, (wd_room hD hmax).2, pay_in G.ws (lw_meth w1), List.mem_cons_self⟩, G.ws _ w1, G.ws _ w2, ⟨hy.1, hy.2.1⟩, hlen, hlk.use G, hsm.use G, hdc.use G, hse, G.ws _ w3⟩ ⟨wd_blind, wd_recv G.va hW hC hcd.1, wd_Pc G hW hS⟩ rfl hn hl.1 hst (lv_room hrest) hd ⟨xr_1 ha (Nat.le_refl _), xr_2 hb (Nat.le_refl _)⟩) kk kx
  · rw [hdf] at hwp
    have hdecl : ⟨owner, x.name, x.desc⟩ ∈ wd_decl := by
      rcases hdv with h | h
      · exact h
      · exact absurd (h e he) (by rw [hdf]; decide)
    have hM := met_of (hwp G.nt)
    refine j_after G hS hl hE (K' := K') (Kx' := Kx') (aa := (Value.ref r :: As).toArray) (rest := rest) (fun T hT Y => ?_) kk kx
    have hK : Back l (xR X D) X.1 X.2.1 X.2.2.2.2.2.1 X.2.2.1 X.2.2.2.2.1 e.2.1 3 8 (PreOf (xR X D) (rC σ) (rS σ) (va_Pc (.ref r :: As) (wd_P d σ))) (PostOf (wd_Q d σ K') (rC σ) (rS σ) (wd_A d)) := back_of (bytes := bytes) (maxL := maxL) (ret := ret) hM wd_blind rfl rfl (wd_room hD hmax).1 (wd_room hD hmax).2 (pay_in G.ws (lw_meth w1)) List.mem_cons_self (fun a' U hWm => word_at hWm (Or.inl (by first | rfl | simp [Cond.onTables, Cond.keeps, Cond.steady])) (G.ws _ w2))
    obtain ⟨v, vm₁, ⟨U', l2, c2, s2⟩, hW₁, Y', ⟨g', mk, t, L', e1, e2, hq, g1, hL, g2, g3⟩, stp⟩ := Y.virtualBackUpD G.ex (own := M.1.cls) (C := C) (owner := owner) (x := x) (y := e.2.1) G.own (hlk.use G) (hsm.use G) (va_Nw.use (by simp [Cond.onTables, Cond.keeps, Cond.steady]) (G.kk.2.1.2.2.1 _ hdecl)) ⟨hy.1, hy.2.1⟩ (show (Cond.landsInDefault C x e.2.1).before X.2.2.2.2.1 X.2.2.1 = true from G.kk.2.1.1 _ (List.mem_append_right _ hvd)) (G.ws _ w3) hK (G.va.1 e.1 _ hcd.1).2.1 (wd_isOf G hW hT hC hcd.1) (g := F0 X.2.2.2.1 pc ls st0) rfl (hl.1.trans G.ml.symm) (Steps.refl _) (argsL := As) (rest := rest) (fun sig h => hn.trans (hlen sig h)) hst (lv_room hrest) (by rw [G.cd]; exact hd) (fun vm₁ hW₁ => ⟨xr_1 ha (Nat.le_refl _), xr_2 hb (Nat.le_refl _), wd_Pc G hW hS (T.setVm vm₁) hT hW₁⟩)
    dsimp only [Pt.U, Pt.locs, Pt.cells, Pt.slots] at Y' e1 e2 g1 g2 g3 stp
    subst g1; subst g2; subst g3
    exact Or.inl ⟨v, (T.setVm vm₁).calling g' mk (Value.ref r :: As).toArray, t, U', L', hT, Y', hL, e1, e2, hq, fun target h => stp.trans h⟩
theorem j_callF (x : MethodName) (tbl : List jE) {r cnt : Nat} (As rest : List Value) (hd : decode M.2.1 pc = .ok (.invokeinterface idx cnt, 5)) (hlk : Cond.methodLink M.1.cls idx x ∈ lw_all) (hdc : x ∈ wd_decl) (hy : yok x n) (htbl : ∀ e ∈ tbl, tokF x e) (hn : As.length = n) (hst : st0 = As.reverse ++ .ref r :: rest) (hrest : (rest.map fun v => v.category).sum ≤ 8) (hD : D' + 1 ≤ D)
    (hwp : VW tbl l d D' σ r As K' Kx') (kk : ∀ (v : Option Value) (σ' : wS), Ext σ σ' → K' v σ' → J l d X D K Kx M (pc + 5) σ' L (v.toList ++ rest)) (kx : ∀ (E : String) (q : Nat) (σ' : wS), Ext σ σ' → Kx' E q σ' → JX l d X D K Kx M pc σ' L E q) : J l d X D K Kx M pc σ L st0 := by
  obtain ⟨e, he, hC, hwp⟩ := hwp
  obtain ⟨C, T, N, ty, bytes, maxL, ret, hcd, hws, hmax, w1, w2, w3, hk⟩ := htbl e he
  rw [hws] at hwp
  intro G ha hb hE H locs ls hW hS hl
  have hlen : ∀ sig, parseMethodDescriptor x.desc = some sig → n = sig.parameters.length := by
    intro sig h
    have h2 := hy.2.2
    rw [h] at h2
    exact (Option.some.inj h2).symm
  rcases hk with ⟨hdf, hsel, hfc⟩ | ⟨hdf, hvd, hca⟩
  · rw [hdf] at hwp
    obtain ⟨f1, f2, f3, f4, f5⟩ := G.kk.1.2.2.2 _ hfc
    exact j_after5 G hS hl hE (vx_runF (As := As) (rest := rest) (x := x) (C := C) (G.va.1 e.1 _ hcd.1).2 ⟨G.ex, G.cd, G.ml, G.own, G.ws⟩ (hwp G.nt) ⟨⟨rfl, rfl, (wd_room hD hmax).1, (wd_room hD hmax).2, pay_in G.ws (lw_meth w1), List.mem_cons_self⟩, G.ws _ hlk, va_any rfl f1, va_any rfl f2, G.ws _ hsel, G.ws _ w3, va_any rfl f3, va_any rfl f4, va_any rfl f5, G.ws _ w2, G.ws _ w1, ⟨hy.1, hy.2.1⟩, hlen⟩ ⟨wd_blind, wd_recv G.va hW hC hcd.1, wd_Pc G hW hS⟩ rfl hn hl.1 hst (lv_room hrest) hd ⟨xr_1 ha (Nat.le_refl _), xr_2 hb (Nat.le_refl _)⟩) kk kx
  · rw [hdf] at hwp
    have hM := met_of (hwp G.nt)
    refine j_after5 G hS hl hE (K' := K') (Kx' := Kx') (aa := (Value.ref r :: As).toArray) (rest := rest) (fun T hT Y => ?_) kk kx
    have hK : Back l (xR X D) X.1 X.2.1 X.2.2.2.2.2.1 X.2.2.1 X.2.2.2.2.1 e.2.1 5 8 (PreOf (xR X D) (rC σ) (rS σ) (va_Pc (.ref r :: As) (wd_P d σ))) (PostOf (wd_Q d σ K') (rC σ) (rS σ) (wd_A d)) := back_of (bytes := bytes) (maxL := maxL) (ret := ret) hM wd_blind rfl rfl (wd_room hD hmax).1 (wd_room hD hmax).2 (pay_in G.ws (lw_meth w1)) List.mem_cons_self (fun a' U hWm => word_at hWm (Or.inl (by first | rfl | simp [Cond.onTables, Cond.keeps, Cond.steady])) (G.ws _ w2))
    obtain ⟨hfc, kB, hkB, -⟩ := (G.va.1 e.1 _ hcd.1).2
    obtain ⟨v, vm₁, ⟨U', l2, c2, s2⟩, hW₁, Y', ⟨g', mk, t, L', e1, e2, hq, g1, hL, g2, g3⟩, stp⟩ := Y.interfaceBackD G.ex (own := M.1.cls) (C := C) (xi := x) (y := e.2.1) G.own (G.ws _ hlk) (va_Nw.use (by simp [Cond.onTables, Cond.keeps, Cond.steady]) (G.kk.2.1.2.2.1 _ hdc)) (va_Nw.use (by simp [Cond.onTables, Cond.keeps, Cond.steady]) (G.kk.2.1.2.1 _ hvd).1) (show (Cond.landsInDefault C x e.2.1).before X.2.2.2.2.1 X.2.2.1 = true from G.kk.2.1.1 _ (List.mem_append_left _ hvd)) (G.ws _ w3) (va_Nw.use (by simp [Cond.onTables, Cond.keeps, Cond.steady]) (G.kk.2.1.2.1 _ hvd).2) (va_Nw.use (by simp [Cond.onTables, Cond.keeps, Cond.steady]) (G.kk.1.2.1 _ hca)) ⟨hy.1, hy.2.1⟩ hK hfc hkB (wd_isOf G hW hT hC hcd.1) (g := F0 X.2.2.2.1 pc ls st0) rfl (hl.1.trans G.ml.symm) (Steps.refl _) (argsL := As) (rest := rest) (fun sig h => hn.trans (hlen sig h)) hst (lv_room hrest) (by rw [G.cd]; exact hd) (fun vm₁ hW₁ => ⟨xr_1 ha (Nat.le_refl _), xr_2 hb (Nat.le_refl _), wd_Pc G hW hS (T.setVm vm₁) hT hW₁⟩)
    dsimp only [Pt.U, Pt.locs, Pt.cells, Pt.slots] at Y' e1 e2 g1 g2 g3 stp
    subst g1; subst g2; subst g3
    exact Or.inl ⟨v, (T.setVm vm₁).calling g' mk (Value.ref r :: As).toArray, t, U', L', hT, Y', hL, e1, e2, hq, fun target h => stp.trans h⟩
/-! System.arraycopy -/
theorem nn32 {z : Int32} (hz : ¬ z < 0) : z.toInt = (z.toNatClampNeg : Int) := by
  have hz0 : (0 : Int) ≤ z.toInt := by
    have := Int32.not_lt.mp hz
    simpa using Int32.le_iff_toInt_le.mp this
  show z.toInt = ((z.toInt.toNat : Nat) : Int)
  omega
theorem j_copyW {a b : Nat} {α : Type} (mk : α → Value) {H : Heap} {locs : List Loc} {ls : Array Slot} {Q : State → Prop} {s0 d0 : Nat} {c0 c1 : ClassId} {n0 n1 : Nat} {f g : Nat → α} {t0 t1 : FieldType} (G : jG l d X M) (hlk : Cond.methodLink M.1.cls idx arraycopyName ∈ lw_all) (hnat : Cond.native arraycopyName ∈ lw_all) (hsta : Cond.static arraycopyName ∈ lw_all) (hini : Cond.initialized "java/lang/System" ∈ lw_all)
    (hc0 : H[s0]? = some (arrV c0 n0 (fun j => mk (f j)))) (hc1 : H[d0]? = some (arrV c1 n1 (fun j => mk (g j)))) (h0 : ArrOfT X.2.2.1 c0 t0) (h9 : ArrOfT X.2.2.1 c1 t1) (hty : ((refKind t0 != refKind t1) || (!refKind t0 && t0 != t1)) = false)
    {sp dp n : Int32} (h1 : ¬ sp < 0) (h2 : ¬ dp < 0) (h3 : ¬ n < 0) (h4 : sp.toNatClampNeg + n.toNatClampNeg ≤ n0) (h5 : dp.toNatClampNeg + n.toNatClampNeg ≤ n1)
    (hel : ∀ (T : State) (vm' : Vm) (k1 : Class) (cm1 : ClassId), T.heap = H → X.2.2.1.vm.Alike vm' → X.2.2.1.vm.classes[c1]? = some k1 → k1.kind = .array cm1 t1 → ∀ i, i < n.toNatClampNeg → fits t1 (mk (f (sp.toNatClampNeg + i))) = true ∧ (T.setVm vm').takes cm1 (mk (f (sp.toNatClampNeg + i))))
    (hl : lv_has ls M.2.2.1 L) (hrest : (st.map fun v => v.category).sum ≤ 8) (hd : decode M.2.1 pc = .ok (.invokestatic idx, 3))
    (kk : ∀ (H1 : Heap) (L1 : List Loc), H1[d0]? = some (arrV c1 n1 (fun j => mk (va_cpy f g sp.toNatClampNeg dp.toNatClampNeg n.toNatClampNeg j))) → H1.size = H.size → (∀ q, q ≠ d0 → H1[q]? = H[q]?) → (∀ z ∈ L1, z.base = d0) → W X.1 l X.2.1 (xR X D) X.2.2.1 X.2.2.2.1 X.2.2.2.2.1 X.2.2.2.2.2.1 X.2.2.2.2.2.2.1 X.2.2.2.2.2.2.2.1 H1 (locs ++ L1) a b Q (F0 X.2.2.2.1 (pc + 3) ls st)) :
    W X.1 l X.2.1 (xR X D) X.2.2.1 X.2.2.2.1 X.2.2.2.2.1 X.2.2.2.2.2.1 X.2.2.2.2.2.2.1 X.2.2.2.2.2.2.2.1 H locs a b Q (F0 X.2.2.2.1 pc ls (.int n :: .int dp :: .ref d0 :: .int sp :: .ref s0 :: st)) := by
  intro T hT Y
  obtain ⟨-, k0, hk0, cm0, hkk0⟩ := h0 n0 (fun j => mk (f j))
  obtain ⟨-, k1, hk1, cm1, hkk1⟩ := h9 n1 (fun j => mk (g j))
  have hw : nativeFrameWords "java/lang/System" "arraycopy" 5 + 11 ≤ 1000 := by decide +kernel
  have hsz0 : (arrV c0 n0 (fun j => mk (f j))).slots.size = n0 := arrV_size _ _ _
  have hsz1 : (arrV c1 n1 (fun j => mk (g j))).slots.size = n1 := arrV_size _ _ _
  obtain ⟨vm', Y', step⟩ := Y.arraycopy G.ex G.own (G.ws _ hlk) (G.ws _ hnat) (G.ws _ hsta) (G.ws _ hini) (src := s0) (dst := d0) (srcPos := sp) (destPos := dp) (n := n) (by rw [hT]; exact hc0) (by rw [hT]; exact hc1)
    (fun _ h => by cases h) (fun _ h => by cases h) (fun h => by cases h) (fun h => by cases h) hk0 hk1 hkk0 hkk1 hty h1 h2 h3
    (by rw [nn32 h1, nn32 h3, hsz0]; omega) (by rw [nn32 h2, nn32 h3, hsz1]; omega)
    (fun vm₁ hal i hi => by
      have e : (arrV c0 n0 (fun j => mk (f j))).slots.getD (sp.toNatClampNeg + i) .null = mk (f (sp.toNatClampNeg + i)) := by
        rw [Array.getD_eq_getD_getElem?, arrV_read _ _ (by omega)]
        rfl
      rw [e]
      exact hel T vm₁ k1 cm1 hT hal hk1 hkk1 i hi)
    (g := F0 X.2.2.2.1 pc ls (.int n :: .int dp :: .ref d0 :: .int sp :: .ref s0 :: st)) rfl (by rw [G.ml]; exact hl.1) (rest := st) rfl (by rw [G.cd]; exact hd) (by show 1 ≤ D + 16; omega) (by show 2 * 0 + _ + _ ≤ 16000 + 64 * D; omega)
  have e1 : copied (arrV c0 n0 (fun j => mk (f j))) (arrV c1 n1 (fun j => mk (g j))) sp dp n = arrV c1 n1 (fun j => mk (va_cpy f g sp.toNatClampNeg dp.toNatClampNeg n.toNatClampNeg j)) := va_copied mk c0 c1 f g h4
  rw [e1] at Y' step
  have hlt : d0 < H.size := (Array.getElem?_eq_some_iff.mp hc1).1
  obtain ⟨t, a1, b1⟩ := kk (H.setIfInBounds d0 (arrV c1 n1 (fun j => mk (va_cpy f g sp.toNatClampNeg dp.toNatClampNeg n.toNatClampNeg j)))) _ (by simp [Array.getElem?_setIfInBounds, hlt]) (by simp) (fun q hq => by simp [Array.getElem?_setIfInBounds, Ne.symm hq]) (fun z hz => by
      obtain ⟨w, -, hw⟩ := List.mem_map.mp hz
      rw [← hw]) _ (show ((T.setVm vm').setCell d0 _).heap = _ by rw [← hT]; rfl) Y'
  exact ⟨t, step t a1, b1⟩
theorem wd_Sp {A : Nat → Prop} {H0 H H1 : Heap} {locs L1 : List Loc} {d0 : Nat} (hS : va_S A H0 H locs) (z : H1.size = H.size) (o : ∀ q, q ≠ d0 → H1[q]? = H[q]?) (hL : ∀ z ∈ L1, z.base = d0) (ha : A d0) : va_S A H0 H1 (locs ++ L1) :=
  ⟨by rw [z]; exact hS.1, fun q h1 h2 => by rw [o q (fun e => h2 (by rw [e]; exact ha))]; exact hS.2.1 q h1 h2, fun q hq => by
    rcases List.mem_append.mp hq with h | h
    · exact hS.2.2 q h
    · rw [hL q h]; exact ha⟩
theorem j_copyi {g0 x0 n0 g1 x1 n1 t : Nat} {sp dp n : Int32} (hd : decode M.2.1 pc = .ok (.invokestatic idx, 3)) (hlk : Cond.methodLink M.1.cls idx arraycopyName ∈ lw_all) (hnat : Cond.native arraycopyName ∈ lw_all) (hsta : Cond.static arraycopyName ∈ lw_all) (hini : Cond.initialized "java/lang/System" ∈ lw_all) (hN0 : aN σ g0 x0 = some n0) (hN1 : aN σ g1 x1 = some n1) (hg0 : g0 / 10000 = t) (hg1 : g1 / 10000 = t) (ht : t ≠ 1 ∧ t < 6)
    (h1 : ¬ sp < 0) (h2 : ¬ dp < 0) (h3 : ¬ n < 0) (h4 : sp.toNatClampNeg + n.toNatClampNeg ≤ n0) (h5 : dp.toNatClampNeg + n.toNatClampNeg ≤ n1) (hel : ∀ i, i < n.toNatClampNeg → fits (wd_ft t) (.int (aI σ g0 x0 (sp.toNatClampNeg + i))) = true) (hrest : (st.map fun v => v.category).sum ≤ 8)
    (kk : J l d X D K Kx M (pc + 3) (sA σ g1 x1 (va_cpy (aI σ g0 x0) (aI σ g1 x1) sp.toNatClampNeg dp.toNatClampNeg n.toNatClampNeg)) L st) : J l d X D K Kx M pc σ L (.int n :: .int dp :: .ref (aD σ g1 x1) :: .int sp :: .ref (aD σ g0 x0) :: st) := by
  intro G ha hb hE H locs ls hW hS hl
  have hc0 := (hW.2.2.1 g0 x0 n0 hN0).2.1
  have hc1 := (hW.2.2.1 g1 x1 n1 hN1).2.1
  rw [wd_ai hg0 ht, hg0, vp_cell_i] at hc0
  rw [wd_ai hg1 ht, hg1, vp_cell_i] at hc1
  have hAr := (wd_aC G.va (t := t) (by omega)).1
  have hrk : refKind (wd_ft t) = false := by rcases (show t = 0 ∨ t = 2 ∨ t = 3 ∨ t = 4 ∨ t = 5 by omega) with rfl | rfl | rfl | rfl | rfl <;> rfl
  refine j_copyW (fun z : Int32 => Value.int z) G hlk hnat hsta hini hc0 hc1 hAr hAr (by simp [hrk]) h1 h2 h3 h4 h5 (fun T vm' k1 cm1 _ _ _ _ i hi => ⟨hel i hi, trivial⟩) hl hrest hd (fun H1 L1 e z o hL => ?_)
  refine kk G ha hb hE H1 _ ls (wd_putA (hW.1.put z o hc1 e (by rw [arrV_size, arrV_size]) rfl) (σ' := sA σ g1 x1 (va_cpy (aI σ g0 x0) (aI σ g1 x1) sp.toNatClampNeg dp.toNatClampNeg n.toNatClampNeg)) hW hN1 o ?_ rfl rfl rfl rfl rfl rfl ?_) (wd_Sp hS z o hL (hW.2.2.1 g1 x1 n1 hN1).1) hl
  · rw [e, wd_ai hg1 ht, hg1, vp_cell_i]
    have e1 : aI (sA σ g1 x1 (va_cpy (aI σ g0 x0) (aI σ g1 x1) sp.toNatClampNeg dp.toNatClampNeg n.toNatClampNeg)) g1 x1 = va_cpy (aI σ g0 x0) (aI σ g1 x1) sp.toNatClampNeg dp.toNatClampNeg n.toNatClampNeg := u2_s
    rw [e1]
  · intro g' a' n' h
    have e3 : aI (sA σ g1 x1 (va_cpy (aI σ g0 x0) (aI σ g1 x1) sp.toNatClampNeg dp.toNatClampNeg n.toNatClampNeg)) g' a' = aI σ g' a' := mvA_E (by rintro ⟨rfl, rfl⟩; rcases h with h | h <;> exact h rfl)
    simp only [wd_arr, e3]
    rfl
theorem j_copyj {g0 x0 n0 g1 x1 n1 : Nat} {sp dp n : Int32} (hd : decode M.2.1 pc = .ok (.invokestatic idx, 3)) (hlk : Cond.methodLink M.1.cls idx arraycopyName ∈ lw_all) (hnat : Cond.native arraycopyName ∈ lw_all) (hsta : Cond.static arraycopyName ∈ lw_all) (hini : Cond.initialized "java/lang/System" ∈ lw_all) (hN0 : aN σ g0 x0 = some n0) (hN1 : aN σ g1 x1 = some n1) (hg0 : g0 / 10000 = 1) (hg1 : g1 / 10000 = 1)
    (h1 : ¬ sp < 0) (h2 : ¬ dp < 0) (h3 : ¬ n < 0) (h4 : sp.toNatClampNeg + n.toNatClampNeg ≤ n0) (h5 : dp.toNatClampNeg + n.toNatClampNeg ≤ n1) (hrest : (st.map fun v => v.category).sum ≤ 8)
    (kk : J l d X D K Kx M (pc + 3) (sAJ σ g1 x1 (va_cpy (aJ σ g0 x0) (aJ σ g1 x1) sp.toNatClampNeg dp.toNatClampNeg n.toNatClampNeg)) L st) : J l d X D K Kx M pc σ L (.int n :: .int dp :: .ref (aD σ g1 x1) :: .int sp :: .ref (aD σ g0 x0) :: st) := by
  intro G ha hb hE H locs ls hW hS hl
  have hc0 := (hW.2.2.1 g0 x0 n0 hN0).2.1
  have hc1 := (hW.2.2.1 g1 x1 n1 hN1).2.1
  rw [wd_aj hg0, hg0, vp_cell_l] at hc0
  rw [wd_aj hg1, hg1, vp_cell_l] at hc1
  have hAr := (wd_aC G.va (t := 1) (by omega)).1
  refine j_copyW (fun z : Int64 => Value.long z) G hlk hnat hsta hini hc0 hc1 hAr hAr (by decide) h1 h2 h3 h4 h5 (fun T vm' k1 cm1 _ _ _ _ i hi => ⟨rfl, trivial⟩) hl hrest hd (fun H1 L1 e z o hL => ?_)
  refine kk G ha hb hE H1 _ ls (wd_putA (hW.1.put z o hc1 e (by rw [arrV_size, arrV_size]) rfl) (σ' := sAJ σ g1 x1 (va_cpy (aJ σ g0 x0) (aJ σ g1 x1) sp.toNatClampNeg dp.toNatClampNeg n.toNatClampNeg)) hW hN1 o ?_ rfl rfl rfl rfl rfl rfl ?_) (wd_Sp hS z o hL (hW.2.2.1 g1 x1 n1 hN1).1) hl
  · rw [e, wd_aj hg1, hg1, vp_cell_l]
    have e1 : aJ (sAJ σ g1 x1 (va_cpy (aJ σ g0 x0) (aJ σ g1 x1) sp.toNatClampNeg dp.toNatClampNeg n.toNatClampNeg)) g1 x1 = va_cpy (aJ σ g0 x0) (aJ σ g1 x1) sp.toNatClampNeg dp.toNatClampNeg n.toNatClampNeg := u2_s
    rw [e1]
  · intro g' a' n' h
    have e3 : aJ (sAJ σ g1 x1 (va_cpy (aJ σ g0 x0) (aJ σ g1 x1) sp.toNatClampNeg dp.toNatClampNeg n.toNatClampNeg)) g' a' = aJ σ g' a' := mvA_E (by rintro ⟨rfl, rfl⟩; rcases h with h | h <;> exact h rfl)
    simp only [wd_arr, e3]
    rfl
theorem j_copyr {g0 x0 n0 g1 x1 n1 t : Nat} {sp dp n : Int32} {E : String} (hd : decode M.2.1 pc = .ok (.invokestatic idx, 3)) (hlk : Cond.methodLink M.1.cls idx arraycopyName ∈ lw_all) (hnat : Cond.native arraycopyName ∈ lw_all) (hsta : Cond.static arraycopyName ∈ lw_all) (hini : Cond.initialized "java/lang/System" ∈ lw_all) (hN0 : aN σ g0 x0 = some n0) (hN1 : aN σ g1 x1 = some n1) (hg0 : g0 / 10000 = t) (hg1 : g1 / 10000 = t) (ht : 6 ≤ t ∧ t < 12) (hCl : wd_ft t = .object E)
    (h1 : ¬ sp < 0) (h2 : ¬ dp < 0) (h3 : ¬ n < 0) (h4 : sp.toNatClampNeg + n.toNatClampNeg ≤ n0) (h5 : dp.toNatClampNeg + n.toNatClampNeg ≤ n1) (hel : ∀ i, i < n.toNatClampNeg → ∀ y, aR σ g0 x0 (sp.toNatClampNeg + i) = some y → ∃ (c : Nat) (r : vw_C), oC σ y = c + 1 ∧ vwCl[c]? = some r ∧ (r.1 = E ∨ (r.1, E) ∈ wd_casts)) (hrest : (st.map fun v => v.category).sum ≤ 8)
    (kk : J l d X D K Kx M (pc + 3) (sAR σ g1 x1 (va_cpy (aR σ g0 x0) (aR σ g1 x1) sp.toNatClampNeg dp.toNatClampNeg n.toNatClampNeg)) L st) : J l d X D K Kx M pc σ L (.int n :: .int dp :: .ref (aD σ g1 x1) :: .int sp :: .ref (aD σ g0 x0) :: st) := by
  intro G ha hb hE H locs ls hW hS hl
  have hc0 := (hW.2.2.1 g0 x0 n0 hN0).2.1
  have hc1 := (hW.2.2.1 g1 x1 n1 hN1).2.1
  rw [wd_ar hg0 ht.1, hg0, vp_cell_q] at hc0
  rw [wd_ar hg1 ht.1, hg1, vp_cell_q] at hc1
  have hAr := (wd_aC G.va (t := t) ht.2).1
  have hrk : refKind (wd_ft t) = true := by rw [hCl]; rfl
  refine j_copyW (fun z : Option Nat => va_rf z) G hlk hnat hsta hini hc0 hc1 hAr hAr (by simp [hrk]) h1 h2 h3 h4 h5 (fun T vm' k1 cm1 hT hal hk1 hkk1 i hi => ?_) hl hrest hd (fun H1 L1 e z o hL => ?_)
  · cases hy : aR σ g0 x0 (sp.toNatClampNeg + i) with
    | none => exact ⟨by rw [hCl]; rfl, trivial⟩
    | some y =>
      obtain ⟨c, r, hC, hr, hEr⟩ := hel i hi y hy
      obtain ⟨cellV, q1, q2, hclV⟩ := wd_recv G.va hW hC hr
      obtain ⟨kV, hkV, -⟩ := Vm.findClass_spec hclV
      have hRA : va_RA X.2.2.1 (d.2.1 t) (.object E) := by rw [← hCl]; exact (wd_aC G.va ht.2).2
      obtain ⟨kA, comp, r1, r2, r3, -⟩ := hRA
      cases hk1.symm.trans r1
      rw [hCl] at hkk1
      cases hkk1.symm.trans r2
      obtain ⟨kE, hkE, -⟩ := Vm.findClass_spec r3
      have hasg : X.2.2.1.vm.assignable cellV.cls cm1 = true := by
        rcases hEr with hEr | hEr
        · rw [hEr] at hclV
          have : cellV.cls = cm1 := Option.some.inj (hclV.symm.trans r3)
          rw [this]
          exact va_asg _ _
        · obtain ⟨c0, t0, f1, f2, f3⟩ := Cond.castable_spec (va_Nw.use (A := X.2.2.2.2.1) rfl (G.kk.1.2.1 _ hEr))
          cases hclV.symm.trans f1
          cases r3.symm.trans f2
          exact f3
      obtain ⟨kV', hkV', -⟩ := hal.2.2 _ _ hkV
      obtain ⟨kE', hkE', -⟩ := hal.2.2 _ _ hkE
      refine ⟨by rw [hCl]; rfl, cellV, (show T.heap[y]? = some cellV by rw [hT]; exact q1), (fun q h => by rw [h] at q2; cases q2), ⟨kV', hkV'⟩, ⟨kE', hkE'⟩, ?_⟩
      show vm'.assignable _ _ = true
      rw [hal.assignable]
      exact hasg
  refine kk G ha hb hE H1 _ ls (wd_putA (hW.1.put z o hc1 e (by rw [arrV_size, arrV_size]) rfl) (σ' := sAR σ g1 x1 (va_cpy (aR σ g0 x0) (aR σ g1 x1) sp.toNatClampNeg dp.toNatClampNeg n.toNatClampNeg)) hW hN1 o ?_ rfl rfl rfl rfl rfl rfl ?_) (wd_Sp hS z o hL (hW.2.2.1 g1 x1 n1 hN1).1) hl
  · rw [e, wd_ar hg1 ht.1, hg1, vp_cell_q]
    have e1 : aR (sAR σ g1 x1 (va_cpy (aR σ g0 x0) (aR σ g1 x1) sp.toNatClampNeg dp.toNatClampNeg n.toNatClampNeg)) g1 x1 = va_cpy (aR σ g0 x0) (aR σ g1 x1) sp.toNatClampNeg dp.toNatClampNeg n.toNatClampNeg := u2_s
    rw [e1]
  · intro g' a' n' h
    have e3 : aR (sAR σ g1 x1 (va_cpy (aR σ g0 x0) (aR σ g1 x1) sp.toNatClampNeg dp.toNatClampNeg n.toNatClampNeg)) g' a' = aR σ g' a' := mvA_E (by rintro ⟨rfl, rfl⟩; rcases h with h | h <;> exact h rfl)
    simp only [wd_arr, e3]
    rfl
/-! Math.max, min -/
theorem j_mmax {x y : Int32} (hd : decode M.2.1 pc = .ok (.invokestatic idx, 3)) (q1 : Cond.methodLink M.1.cls idx Lib.Math.max.name ∈ lw_all) (q2 : Cond.static Lib.Math.max.name ∈ lw_all) (q3 : Cond.initialized "java/lang/Math" ∈ lw_all) (q4 : Cond.code Lib.Math.max.name Lib.Math.max.code 2 (some .int) ∈ lw_all) (hrest : (st.map fun v => v.category).sum ≤ 8) (kk : J l d X D K Kx M (pc + 3) σ L (.int (if x < y then y else x) :: st)) : J l d X D K Kx M pc σ L (.int y :: .int x :: st) :=
  fun G ha hb hE H locs ls hW hS hl => va_mmax G.ex G.cd (by rw [G.ml]; exact hl.1.symm) G.own (G.ws _ q1) (G.ws _ q2) (G.ws _ q3) (G.ws _ q4) (by show 1 ≤ D + 16; omega) (by show _ ≤ 16000 + 64 * D; omega) (Nat.sub_le _ _) (Nat.sub_le _ _) hd (kk G ha hb hE H locs ls hW hS hl)
theorem j_mmin {x y : Int32} (hd : decode M.2.1 pc = .ok (.invokestatic idx, 3)) (q1 : Cond.methodLink M.1.cls idx Lib.Math.min.name ∈ lw_all) (q2 : Cond.static Lib.Math.min.name ∈ lw_all) (q3 : Cond.initialized "java/lang/Math" ∈ lw_all) (q4 : Cond.code Lib.Math.min.name Lib.Math.min.code 2 (some .int) ∈ lw_all) (hrest : (st.map fun v => v.category).sum ≤ 8) (kk : J l d X D K Kx M (pc + 3) σ L (.int (if y < x then y else x) :: st)) : J l d X D K Kx M pc σ L (.int y :: .int x :: st) :=
  fun G ha hb hE H locs ls hW hS hl => va_mmin G.ex G.cd (by rw [G.ml]; exact hl.1.symm) G.own (G.ws _ q1) (G.ws _ q2) (G.ws _ q3) (G.ws _ q4) (by show 1 ≤ D + 16; omega) (by show _ ≤ 16000 + 64 * D; omega) (Nat.sub_le _ _) (Nat.sub_le _ _) hd (kk G ha hb hE H locs ls hW hS hl)
theorem j_mmaxl {x y : Int64} (hd : decode M.2.1 pc = .ok (.invokestatic idx, 3)) (q1 : Cond.methodLink M.1.cls idx Lib.MathLoose.max_long.x ∈ lw_all) (q2 : Cond.static Lib.MathLoose.max_long.x ∈ lw_all) (q3 : Cond.initialized "java/lang/Math" ∈ lw_all) (q4 : Cond.code Lib.MathLoose.max_long.x Lib.MathLoose.max_long.code 4 (some .long) ∈ lw_all) (hrest : (st.map fun v => v.category).sum ≤ 8) (kk : J l d X D K Kx M (pc + 3) σ L (.long (if y < x then x else y) :: st)) : J l d X D K Kx M pc σ L (.long y :: .long x :: st) :=
  fun G ha hb hE H locs ls hW hS hl => va_mmax_long G.ex G.cd (by rw [G.ml]; exact hl.1.symm) G.own (G.ws _ q1) (G.ws _ q2) (G.ws _ q3) (G.ws _ q4) (by show 1 ≤ D + 16; omega) (by show _ ≤ 16000 + 64 * D; omega) (Nat.sub_le _ _) (Nat.sub_le _ _) hd (kk G ha hb hE H locs ls hW hS hl)
theorem j_mminl {x y : Int64} (hd : decode M.2.1 pc = .ok (.invokestatic idx, 3)) (q1 : Cond.methodLink M.1.cls idx Lib.MathLoose.min_long.x ∈ lw_all) (q2 : Cond.static Lib.MathLoose.min_long.x ∈ lw_all) (q3 : Cond.initialized "java/lang/Math" ∈ lw_all) (q4 : Cond.code Lib.MathLoose.min_long.x Lib.MathLoose.min_long.code 4 (some .long) ∈ lw_all) (hrest : (st.map fun v => v.category).sum ≤ 8) (kk : J l d X D K Kx M (pc + 3) σ L (.long (if y < x then y else x) :: st)) : J l d X D K Kx M pc σ L (.long y :: .long x :: st) :=
  fun G ha hb hE H locs ls hW hS hl => va_mmin_long G.ex G.cd (by rw [G.ml]; exact hl.1.symm) G.own (G.ws _ q1) (G.ws _ q2) (G.ws _ q3) (G.ws _ q4) (by show 1 ≤ D + 16; omega) (by show _ ≤ 16000 + 64 * D; omega) (Nat.sub_le _ _) (Nat.sub_le _ _) hd (kk G ha hb hE H locs ls hW hS hl)
end JR3
