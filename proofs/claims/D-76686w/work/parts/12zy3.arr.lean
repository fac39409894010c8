set_option linter.unusedVariables false
set_option maxHeartbeats 1000000 in
theorem vn_vmAt {nf : NFrame} (hnf : nf.words = 0) (hnl : nf.locked = none) (haw : nf.awaiting = false) {p : Program} {l : Launch} {e : Env} {R : Room} {s : State} {m₀ : MethodId} {args : Array Value} {below : List Frame} {meth : Method} {c : Code} {W : State} {locs : List Loc} {cells slots : Nat}
    (X : Stand p l e R s m₀ args below meth c W locs cells slots) (hexec : p.tables.exec = Jvm.exec) (htr : e.platform.stackTraces = false) {cls : String} {names : List String} {text : String}
    (hcls : Bundle.fit cls = true) (hnames : ∀ n ∈ names, Bundle.fit n = true) (hsoe : (cls == "java/lang/StackOverflowError") = false) (hoom : (cls == "java/lang/OutOfMemoryError") = false)
    (h : ∀ a ∈ Bundle.messageArmAtoms cls names, a.before args s = true)
    (hlocs : ∀ x ∈ locs, ∀ cell, s.heap[x.base]? = some cell → cell.vm.isStatics = false)
    (htext : (text == notModelled) = false) (hlimit : ¬ (stringBytes (stringToUtf16 text)).size > e.platform.arrayLengthLimit) (hheap : ¬ (stringBytes (stringToUtf16 text)).size * componentBytes .byte > e.platform.maxHeapBytes)
    {g : JFrame} (hg : g.method = m₀) (hsize : g.locals.size = c.maxLocals)
    (hRframes : names.length + 5 < R.frames) (hRlocals : 2 * g.monitorRoom + (g.stack.map fun v => v.category).sum + 10240 ≤ R.locals) (hshort : 13 * names.length + 55 ≤ 10240)
    (hRcells : cells + 3 ≤ R.cells) (hRslots : slots + ((stringBytes (stringToUtf16 text)).size + 4 + 6) ≤ R.slots) (hlocks : meth.locks = false) :
    ∃ (S : State) (q : Addr) (ce : Cell), (∀ target, Steps p.tables e below ((S.setTop g).pushFrame (.throwing q)) target → Steps p.tables e below (W.setFrames (.throwNew cls (some text) none :: .native nf :: .java g :: below)) target) ∧
      Stand p l e R s m₀ args below meth c S locs (cells + 3) (slots + ((stringBytes (stringToUtf16 text)).size + 4 + 6)) ∧ S.heap[q]? = some ce ∧ s.vm.findClass cls = some ce.cls ∧ ce.vm = .none := by
  have howns : e.platform.frameOwnsMonitors = true := by rw [X.admits.platform]
  have hfin : e.platform.finalization = false := by rw [X.admits.platform]
  have hpl : e.platform.magicAccessors = ({} : Platform).magicAccessors := by rw [X.admits.platform]
  have a : ∀ x, x ∈ Bundle.messageArmAtoms cls names → x.holds args s none s [] = true := fun x hx => h x hx
  obtain ⟨T, Z0, L, -, Y⟩ := ThrowableC.of_atoms (args := args) howns hfin hpl (fun x hx => h x (by simp [Bundle.messageArmAtoms, hx]))
  obtain ⟨Z, M, LZ, LM, hnZ⟩ := Init0T.ofS_atoms (args := args) hpl L Y (fun x hx => h x (by simp [Bundle.messageArmAtoms, hx]))
  obtain ⟨P1, Ps, hlen, L1, hL, hP1m, hlink1, hlink⟩ := Bundle.chainS (args := args) hpl hnZ names cls hcls hnames (fun x hx => h x (by simp [Bundle.messageArmAtoms, hx]))
  obtain ⟨Zs, LZs, hn4, hfitv, hfitc⟩ := StringT.of_atoms (args := args) (fun x hx => h x (by simp [Bundle.messageArmAtoms, hx]))
  have hfound : s.vm.findClass cls = some P1.m.cls := findClass_of_methodNamed hP1m
  obtain ⟨c1, kX, hc1, hk, hord, -, -, hn6⟩ := Cond.instantiable_spec (a (.instantiable cls 6) (by simp [Bundle.messageArmAtoms]))
  cases Option.some.inj (hc1.symm.trans hfound)
  have hinit := Cond.initialized_spec hfound hk (a (.initialized cls) (by simp [Bundle.messageArmAtoms]))
  have hctor : kX.findMethod "<init>" "(Ljava/lang/String;)V" = some P1.m.idx := findMethod_of_methodNamed hP1m hk
  have hsel0 : selectMethod e.platform s.vm P1.m.cls T.fill0 = .method T.fill0 := by
    obtain ⟨c2, r2, m2, q1, q2, q3, q4, -⟩ := Cond.selects_spec (a (.selects cls Bundle.tFill0 Bundle.tFill0) (by simp [Bundle.messageArmAtoms]))
    cases Option.some.inj (q1.symm.trans hfound)
    cases Option.some.inj (q2.symm.trans (State.methodFound?_of_named Y.fill0 (by decide)))
    cases Option.some.inj (q3.symm.trans Y.fill0)
    rw [Launch.admits_selectMethod X.admits]; exact q4
  have hselF : selectMethod e.platform s.vm P1.m.cls T.fill = .method T.fill := by
    obtain ⟨c2, r2, m2, q1, q2, q3, q4, -⟩ := Cond.selects_spec (a (.selects cls Bundle.tFill Bundle.tFill) (by simp [Bundle.messageArmAtoms]))
    cases Option.some.inj (q1.symm.trans hfound)
    cases Option.some.inj (q2.symm.trans (State.methodFound?_of_named Y.fill (by decide)))
    cases Option.some.inj (q3.symm.trans Y.fill)
    rw [Launch.admits_selectMethod X.admits]; exact q4
  obtain ⟨cellS0, hcS0, hiss⟩ := Y.statics
  obtain ⟨u0, hu0⟩ := Cond.staticRefV Y.unassigned L.unassignedStatic L.statics hcS0 hiss (a (.isRef (.static Bundle.tN "UNASSIGNED_STACK" Bundle.steD)) (by simp [Bundle.messageArmAtoms]))
  obtain ⟨sen, hsen⟩ := Cond.staticRefV Y.sentinel L.sentinelStatic L.statics hcS0 hiss (a (.isRef (.static Bundle.tN "SUPPRESSED_SENTINEL" Bundle.listD)) (by simp [Bundle.messageArmAtoms]))
  obtain ⟨ci198, i198, fB, hk198, hg198, ha198, hsB, -, hnB, htB, hffB⟩ := Cond.ownField (t := .object "java/lang/Object") Y.found L.cls (by decide +kernel) (a (.fieldLink Bundle.tN 198 Bundle.tN "backtrace" "Ljava/lang/Object;") (by simp [Bundle.messageArmAtoms])) (a (.lays Bundle.tN Bundle.tN "backtrace" "Ljava/lang/Object;") (by simp [Bundle.messageArmAtoms])) e.platform hpl
  obtain ⟨cellS, hcS', heS, -, hkeep⟩ := X.same.2.2.2.2.2 T.aS cellS0 hcS0
  have hcellS : W.heap[T.aS]? = some cellS := hcS'
  have hout' : ∀ i, (⟨T.aS, i⟩ : Loc) ∉ locs := fun i hmem => by
    have := hlocs _ hmem cellS0 hcS0
    rw [hiss] at this; cases this
  have hknownS : cellS.vm ≠ .unknown := by
    rw [heS]; intro hu
    rw [show cellS0.vm = .unknown from hu] at hiss
    cases hiss
  have hvU : cellS.slots[T.fUnassigned.slot]? = some u0.v := by rw [hkeep _ (hout' _)]; exact hu0
  have hvSen : cellS.slots[T.fSentinel.slot]? = some sen.v := by rw [hkeep _ (hout' _)]; exact hsen
  obtain ⟨iM, hffM⟩ := Y.msg
  obtain ⟨tyC, dC, hdC, hdnC⟩ := Cond.laysAt hfound hk Y.cause (a (.lays cls Bundle.tN "cause" "Ljava/lang/Throwable;") (by simp [Bundle.messageArmAtoms]))
  obtain ⟨tyS, dS, hdS, hdnS⟩ := Cond.laysAt hfound hk Y.stack (a (.lays cls Bundle.tN "stackTrace" Bundle.steD) (by simp [Bundle.messageArmAtoms]))
  obtain ⟨tyP, dP, hdP, hdnP⟩ := Cond.laysAt hfound hk Y.supp (a (.lays cls Bundle.tN "suppressedExceptions" Bundle.listD) (by simp [Bundle.messageArmAtoms]))
  obtain ⟨tyM, dM, hdM, hdnM⟩ := Cond.laysAt hfound hk hffM (a (.lays cls Bundle.tN "detailMessage" "Ljava/lang/String;") (by simp [Bundle.messageArmAtoms]))
  obtain ⟨tyB, dB, hdB, hdnB⟩ := Cond.laysAt hfound hk hffB (a (.lays cls Bundle.tN "backtrace" "Ljava/lang/Object;") (by simp [Bundle.messageArmAtoms]))
  have bC := Cond.laysApart hdB hdC hdnB hdnC (by rw [hnB, Y.causeName]; decide)
  have bS := Cond.laysApart hdB hdS hdnB hdnS (by rw [hnB, Y.stackName]; decide)
  have bP := Cond.laysApart hdB hdP hdnB hdnP (by rw [hnB, Y.suppName]; decide)
  have hbk : ((preparedCellV T.toThrowableT (freshCell P1.m.cls kX) (W.heap.size + 2) u0 sen).withEntry W.cur).slots[fB.slot]? = some .null := by
    have := fresh_default (c := P1.m.cls) tyB
    rw [htB] at this
    simpa [preparedCellV, Cell.setSlot, Cell.withEntry, Array.getElem?_setIfInBounds, bC, bS, bP, bC.symm, bS.symm, bP.symm, defaultValue] using this
  have tkC := Takes.of_laid (v := .ref (W.heap.size + 2)) hk hord tyC (by rw [Y.causeType]; rfl)
  have tkS := Takes.of_laid (v := u0.v) hk hord tyS (by rw [Y.stackType]; exact fits_refV_array _ u0)
  have tkP := Takes.of_laid (v := sen.v) hk hord tyP (by rw [Y.suppType]; exact fits_refV_object _ sen)
  have tkM := Takes.of_laid (v := .ref (W.heap.size + 1)) hk hord tyM (by rw [Y.msgType]; rfl)
  have hskip : SkipFacts T e.platform s (fun u => u) u0 ((preparedCellV T.toThrowableT (freshCell P1.m.cls kX) (W.heap.size + 2) u0 sen).withEntry W.cur) := ⟨{ ci198 := ci198, i198 := i198, fBack := fB }, ⟨hk198, hg198, ha198, hsB⟩, hbk, fun _ _ => rfl⟩
  obtain ⟨vm', X5, st, -⟩ := X.nativeThrowsMessageColdBareV hexec hsize hnf T L Z LZ M LM Zs LZs P1 L1 Ps hL hlink1 hlink hsoe hoom hfound hk hinit hord hctor htext hlimit hheap (hfitv _) (hfitc _) hsel0 hselF hcellS hknownS hvU hvSen tkC tkS tkP tkM Y.objLocals hskip (fun _ _ hA hW _ hroom _ hrest => L.nativeOff p htr hA hW hroom hrest) (by rw [hlen]; omega) hRlocals (by rw [hlen]; exact hshort) hRcells (by rw [hn4, hn6]; omega)
  obtain ⟨-, -, w3, w4, -, -, -⟩ := withThrown_facts e.platform W Zs text P1.m.cls kX
  have ha : (W.heap.size + 2) < ((withThrown W Zs text P1.m.cls kX).setVm vm').heap.size := by show _ < (withThrown W Zs text P1.m.cls kX).heap.size; rw [w3]; omega
  obtain ⟨g₁, hfrM⟩ := X5.frames_eq
  have hU : ((((withThrown W Zs text P1.m.cls kX).setVm vm').setCell (W.heap.size + 2) (plainBareV T.toThrowableT (freshCell P1.m.cls kX) (W.heap.size + 2) u0 sen (.ref (W.heap.size + 1)))).setTop g).pushFrame (.throwing (W.heap.size + 2)) = (((withThrown W Zs text P1.m.cls kX).setVm vm').setCell (W.heap.size + 2) (plainBareV T.toThrowableT (freshCell P1.m.cls kX) (W.heap.size + 2) u0 sen (.ref (W.heap.size + 1)))).setFrames (.throwing (W.heap.size + 2) :: .java g :: below) := by
    rw [State.pushFrame, State.frames_setTop _ hfrM, State.setTop_of_frames _ hfrM, State.setFrames_setFrames]
  have b1 : (bytesOf Zs.cB (stringToUtf16 text)).slots.size = (stringBytes (stringToUtf16 text)).size := by
    rw [(Cell.writeAll_facts _ _).2.2]; simp [bytes0]
  have b2 : (stringAt Zs.cS Zs.kS Zs.fv Zs.fc (stringToUtf16 text) W.heap.size).slots.size = 4 := by simp [string0, Cell.setSlot, hn4]
  have b3 : (freshCell P1.m.cls kX).slots.size = 6 := by simp [hn6]
  rw [b1, b2, b3] at X5
  have e9 : slots + (stringBytes (stringToUtf16 text)).size + 4 + 6 = slots + ((stringBytes (stringToUtf16 text)).size + 4 + 6) := by omega
  rw [e9] at X5
  refine ⟨((withThrown W Zs text P1.m.cls kX).setVm vm').setCell (W.heap.size + 2) (plainBareV T.toThrowableT (freshCell P1.m.cls kX) (W.heap.size + 2) u0 sen (.ref (W.heap.size + 1))), W.heap.size + 2, _, fun target ht => st.trans (Steps.throwingLeavesNative ⟨X5.here.running, X5.here.runnable, X5.here.alone⟩ (State.cur_lt_of_frames hfrM) ⟨[.java g], rfl⟩ haw hnl (by rw [← hU]; exact ht)),
    X5.forget (fun y hy => ?_), heapAt_setCell_self _ ha, hfound, rfl⟩
  simp only [List.mem_cons, List.not_mem_nil, or_false] at hy
  have hge : s.heap.size ≤ W.heap.size := X.same.2.1
  rcases hy with rfl | rfl | rfl | rfl | rfl <;> exact Nat.le_trans hge (Nat.le_add_right _ 2)
def vn_Note (p : Program) (l : Launch) (e : Env) (R : Room) (s : State) (m : MethodId) (args : Array Value) (below : List Frame) (meth : Method) (c : Code) (H : Heap) (locs : List Loc) (cells slots : Nat) (Q : State → Prop) (nf : NFrame) (g : JFrame) (E text : String) : Prop :=
  ∀ T : State, T.heap = H → Stand p l e R s m args below meth c T locs cells slots → ∃ t, Steps p.tables e below (T.setFrames (.throwNew E (some text) none :: .native nf :: .java g :: below)) t ∧ Q t
theorem vn_vm {p : Program} {l : Launch} {e : Env} {R : Room} {s : State} {m : MethodId} {args : Array Value} {below : List Frame} {meth : Method} {c : Code} {H : Heap} {locs : List Loc} {cells slots : Nat} {nf : NFrame} (hnf : nf.words = 0) (hnl : nf.locked = none) (haw : nf.awaiting = false) {pc : Nat} {ls : Array Slot} {rest : List Value} {Q : State → Prop} (hexec : p.tables.exec = Jvm.exec) (hl : l.stackTraces = false) {cls text : String} {names : List String} {nb : Nat} {A : Nat → Prop}
    (hcls : Bundle.fit cls = true) (hnames : ∀ n ∈ names, Bundle.fit n = true) (hsoe : (cls == "java/lang/StackOverflowError") = false) (hoom : (cls == "java/lang/OutOfMemoryError") = false)
    (hat : ∀ w ∈ vx_atM cls names, w.before args s = true) (hgood : ∀ w ∈ vx_atM cls names, vx_ot w = true)
    (hU : vx_Zq Bundle.tN "UNASSIGNED_STACK" Bundle.steD A s s.heap) (hN : vx_Zq Bundle.tN "SUPPRESSED_SENTINEL" Bundle.listD A s s.heap) (hS : va_S A s.heap H locs) (hsize : ls.size = c.maxLocals)
    (htext : (text == notModelled) = false) (hnb : (stringBytes (stringToUtf16 text)).size ≤ nb) (hnb1 : nb ≤ 1000)
    (hRframes : names.length + 5 < R.frames) (hRlocals : (rest.map fun v => v.category).sum + 10240 ≤ R.locals) (hshort : 13 * names.length + 55 ≤ 10240) (hRcells : cells + 3 ≤ R.cells) (hRslots : slots + (nb + 10) ≤ R.slots) (hlocks : meth.locks = false)
    (k : ∀ (H1 : Heap) (q9 : Addr) (ce : Cell), H.size ≤ H1.size → (∀ q : Nat, q < H.size → H1[q]? = H[q]?) → va_S A s.heap H1 locs → H1[q9]? = some ce → ce.vm = .none → s.vm.findClass cls = some ce.cls → vx_W p l e R s m args below meth c H1 locs (cells + 3) (slots + (nb + 10)) Q (F0 m pc ls rest) q9) :
    vn_Note p l e R s m args below meth c H locs cells slots Q nf (F0 m pc ls rest) cls text := by
  intro T hT X
  have htr : e.platform.stackTraces = false := (show e.platform.stackTraces = l.stackTraces by rw [X.admits.platform]).trans hl
  have Y := vx_rebase X (R' := { frames := R.frames, locals := R.locals, cells := 3, slots := nb + 10 }) (Nat.le_refl _) (Nat.le_refl _) hRcells hRslots
  have hhp : ((T.setVm s.vm).setFrames (.invoking m args :: below)).heap = H := hT
  have hW0 : s.WarmedH ((T.setVm s.vm).setFrames (.invoking m args :: below)).vm := State.WarmedH.refl s
  have hat' : ∀ w ∈ vx_atM cls names, w.before args ((T.setVm s.vm).setFrames (.invoking m args :: below)) = true := fun w hw => vx_ot_at hW0 rfl (hgood w hw) (hat w hw)
  have hU' : vx_Zq Bundle.tN "UNASSIGNED_STACK" Bundle.steD A ((T.setVm s.vm).setFrames (.invoking m args :: below)) ((T.setVm s.vm).setFrames (.invoking m args :: below)).heap := by rw [hhp]; exact vx_Zq.moved hW0.alike (hU.kept hS.2.1)
  have hN' : vx_Zq Bundle.tN "SUPPRESSED_SENTINEL" Bundle.listD A ((T.setVm s.vm).setFrames (.invoking m args :: below)) ((T.setVm s.vm).setFrames (.invoking m args :: below)).heap := by rw [hhp]; exact vx_Zq.moved hW0.alike (hN.kept hS.2.1)
  obtain ⟨S, q, ce, st, Z, hce, hcl', hv⟩ := vn_vmAt hnf hnl haw Y hexec htr (cls := cls) (names := names) (text := text) hcls hnames hsoe hoom (vx_own hat' (vx_isRefq hU'.1) (vx_isRefq hN'.1) hU'.2.word hN'.2.word) (fun x hx => nomatch hx) htext
    (by rw [Launch.admits_arrayLengthLimit X.admits]; omega) (by rw [Launch.admits_maxHeapBytes X.admits]; simp only [componentBytes]; omega)
    (g := F0 m pc ls rest) rfl hsize hRframes (by show 2 * 0 + (rest.map fun v => v.category).sum + 10240 ≤ R.locals; omega) hshort (by show 0 + 3 ≤ 3; omega) (by show 0 + (_ + 4 + 6) ≤ nb + 10; omega) hlocks
  obtain ⟨f1, f2⟩ := vx_frame Z.same
  have f1' : H.size ≤ S.heap.size := by rw [← hT]; exact f1
  have f2' : ∀ q : Nat, q < H.size → S.heap[q]? = H[q]? := fun q hq => by
    rw [← hT]
    exact f2 q (by rw [← hT] at hq; exact hq) (fun z hz => nomatch hz)
  have X5 := vx_back9 X Y Z
  have X6 : Stand p l e R s m args below meth c S locs (cells + 3) (slots + (nb + 10)) := { X5 with same := X5.same.mono (by omega) (by omega) }
  obtain ⟨t, a1, b1⟩ := k S.heap q ce f1' f2' ⟨Nat.le_trans hS.1 f1', fun q h1 h2 => (f2' q (Nat.lt_of_lt_of_le h1 hS.1)).trans (hS.2.1 q h1 h2), hS.2.2⟩ hce hv hcl' S rfl X6
  exact ⟨t, st t a1, b1⟩
section JRN
variable {l : Launch} {d : wD} {X : jX} {D : Nat} {K : jK} {Kx : jKx} {M : jM} {pc : Nat} {σ : wS} {L L2 : List (Nat × Value)} {st : List Value}
theorem jn_note {nf : NFrame} (hnf : nf.words = 0) (hnl : nf.locked = none) (haw : nf.awaiting = false) {H : Heap} {locs : List Loc} {ls : Array Slot} {E text : String} {names : List String} {nb : Nat} (G : jG l d X M) (ha : rC σ ≤ rC (xE X)) (hb : rS σ ≤ rS (xE X)) (hE : Ext (xE X) σ) (hW : wd_H d σ H) (hS : va_S (wd_A d) X.2.2.1.heap H locs) (hl : lv_has ls M.2.2.1 L)
    (hcls : Bundle.fit E = true) (hnames : ∀ n ∈ names, Bundle.fit n = true) (hsoe : (E == "java/lang/StackOverflowError") = false) (hoom : (E == "java/lang/OutOfMemoryError") = false)
    (hat : ∀ w ∈ vx_atM E names, (w ∈ lw_tbl ∧ goodWord w = true) ∨ w ∈ wd_casts.map (fun q => Cond.castable q.1 q.2) ∨ w ∈ wd_decl.map (fun x => Cond.declares x)) (hgood : ∀ w ∈ vx_atM E names, vx_ot w = true) (htext : (text == notModelled) = false) (hnb : (stringBytes (stringToUtf16 text)).size ≤ nb) (hnb1 : nb ≤ 1000) (hlen : names.length ≤ 4) (hst : (st.map fun v => v.category).sum ≤ 100) (hc : 3 ≤ rC σ) (hs : nb + 10 ≤ rS σ)
    (k : ∀ q n c s : Nat, nx σ ≤ n → rC σ ≤ c + 3 → rS σ ≤ s + (nb + 10) → JX l d X D K Kx M pc (bp σ n c s) L E q) :
    vn_Note X.1 l X.2.1 (xR X D) X.2.2.1 X.2.2.2.1 X.2.2.2.2.1 X.2.2.2.2.2.1 X.2.2.2.2.2.2.1 X.2.2.2.2.2.2.2.1 H locs (xa X σ) (xb X σ) (vx_MQ X.2.2.2.2.2.1 (wd_Q d (xE X) K) (wd_X d (xE X) Kx) X.2.2.2.2.1 X.2.2.1 (rC (xE X)) (rS (xE X)) (wd_A d)) nf (F0 X.2.2.2.1 pc ls st) E text := by
  refine vn_vm hnf hnl haw G.ex G.nt hcls hnames hsoe hoom (vw_hat hat G) hgood G.kk.2.2.2.2.2.2.2.1 G.kk.2.2.2.2.2.2.2.2 hS (by rw [G.ml]; exact hl.1) htext hnb hnb1 (by show _ < D + 16; omega) (by show _ ≤ 16000 + 64 * D; omega) (by omega) (xr_1 ha hc) (xr_2 hb hs) G.lk ?_
  intro H1 q9 ce z o hS1 hce hv hcl
  exact jx_grown G ha hb hE hW hl z o hS1 hce hv hcl hc hs (k q9)
theorem int_print {z : Int} (h1 : z < 10 ^ 10) (h2 : -(10 : Int) ^ 10 < z) : (toString z).toList.length ≤ 11 := by
  show (Int.repr z).toList.length ≤ 11
  cases h : z with
  | ofNat m =>
    rw [h] at h1
    have h1' : (m : Int) < 10 ^ 10 := h1
    have := nat_print (n := m) (by omega)
    show (toString m).toList.length ≤ 11
    omega
  | negSucc m =>
    rw [h] at h2
    have h2' : -(10 : Int) ^ 10 < -((m : Int) + 1) := by simpa [Int.negSucc_eq] using h2
    have := nat_print (n := m.succ) (by omega)
    show ("-" ++ toString m.succ).toList.length ≤ 11
    rw [String.toList_append, List.length_append]
    have h0 : "-".toList.length = 1 := by decide
    omega
theorem kind_print (ft : FieldType) : (Native.java_lang_System.arraycopy.kindName ft).toList.length ≤ 12 := by cases ft <;> first | decide | (show "object array".toList.length ≤ 12; decide)
theorem arr_print (ft : FieldType) {n : Nat} (hn : n < 2 ^ 31) : (toString (toString (Native.java_lang_System.arraycopy.kindName ft) ++ toString "[" ++ toString n ++ toString "]" : String)).toList.length ≤ 24 := by
  show (toString (Native.java_lang_System.arraycopy.kindName ft) ++ toString "[" ++ toString n ++ toString "]").toList.length ≤ 24
  simp only [String.toList_append, List.length_append]
  have a1 : (toString "[").toList.length = 1 := by decide
  have a2 : (toString "]").toList.length = 1 := by decide
  have a3 : (toString (Native.java_lang_System.arraycopy.kindName ft)).toList.length ≤ 12 := kind_print ft
  have a4 := nat_print (n := n) (by omega)
  omega
theorem fault_print {a b : FieldType} {n m : Nat} {sp dp k : Int32} {what : String} (hn : n < 2 ^ 31) (hm : m < 2 ^ 31) (h : copyFault a b n m sp dp k = some what) : what.toList.length ≤ 80 := by
  have l1 := Int32.toInt_lt sp
  have l2 := Int32.le_toInt sp
  have l3 := Int32.toInt_lt dp
  have l4 := Int32.le_toInt dp
  have l5 := Int32.toInt_lt k
  have l6 := Int32.le_toInt k
  have p1 := int32_print sp
  have p2 := int32_print dp
  have p3 := int32_print k
  have p4 := int_print (z := sp.toInt + k.toInt) (by omega) (by omega)
  have p5 := int_print (z := dp.toInt + k.toInt) (by omega) (by omega)
  have q1 := arr_print a hn
  have q2 := arr_print b hm
  unfold copyFault at h
  split at h
  · cases Option.some.inj h
    show (toString "source index " ++ toString sp ++ toString " out of bounds for " ++ toString (toString (Native.java_lang_System.arraycopy.kindName a) ++ toString "[" ++ toString n ++ toString "]" : String)).toList.length ≤ 80
    generalize toString (toString (Native.java_lang_System.arraycopy.kindName a) ++ toString "[" ++ toString n ++ toString "]" : String) = z at q1 ⊢
    generalize toString sp = y at p1 ⊢
    simp only [String.toList_append, List.length_append]
    have a1 : (toString "source index ").toList.length = 13 := by decide
    have a2 : (toString " out of bounds for ").toList.length = 19 := by decide
    omega
  · split at h
    · cases Option.some.inj h
      show (toString "destination index " ++ toString dp ++ toString " out of bounds for " ++ toString (toString (Native.java_lang_System.arraycopy.kindName b) ++ toString "[" ++ toString m ++ toString "]" : String)).toList.length ≤ 80
      generalize toString (toString (Native.java_lang_System.arraycopy.kindName b) ++ toString "[" ++ toString m ++ toString "]" : String) = z at q2 ⊢
      generalize toString dp = y at p2 ⊢
      simp only [String.toList_append, List.length_append]
      have a1 : (toString "destination index ").toList.length = 18 := by decide
      have a2 : (toString " out of bounds for ").toList.length = 19 := by decide
      omega
    · split at h
      · cases Option.some.inj h
        show (toString "length " ++ toString k ++ toString " is negative").toList.length ≤ 80
        simp only [String.toList_append, List.length_append]
        have a1 : (toString "length ").toList.length = 7 := by decide
        have a2 : (toString " is negative").toList.length = 12 := by decide
        omega
      · split at h
        · cases Option.some.inj h
          show (toString "last source index " ++ toString (sp.toInt + k.toInt) ++ toString " out of bounds for " ++ toString (toString (Native.java_lang_System.arraycopy.kindName a) ++ toString "[" ++ toString n ++ toString "]" : String)).toList.length ≤ 80
          generalize toString (toString (Native.java_lang_System.arraycopy.kindName a) ++ toString "[" ++ toString n ++ toString "]" : String) = z at q1 ⊢
          generalize toString (sp.toInt + k.toInt) = y at p4 ⊢
          simp only [String.toList_append, List.length_append]
          have a1 : (toString "last source index ").toList.length = 18 := by decide
          have a2 : (toString " out of bounds for ").toList.length = 19 := by decide
          omega
        · split at h
          · cases Option.some.inj h
            show (toString "last destination index " ++ toString (dp.toInt + k.toInt) ++ toString " out of bounds for " ++ toString (toString (Native.java_lang_System.arraycopy.kindName b) ++ toString "[" ++ toString m ++ toString "]" : String)).toList.length ≤ 80
            generalize toString (toString (Native.java_lang_System.arraycopy.kindName b) ++ toString "[" ++ toString m ++ toString "]" : String) = z at q2 ⊢
            generalize toString (dp.toInt + k.toInt) = y at p5 ⊢
            simp only [String.toList_append, List.length_append]
            have a1 : (toString "last destination index ").toList.length = 23 := by decide
            have a2 : (toString " out of bounds for ").toList.length = 19 := by decide
            omega
          · cases h
theorem fault_bytes {a b : FieldType} {n m : Nat} {sp dp k : Int32} {what : String} (hn : n < 2 ^ 31) (hm : m < 2 ^ 31) (h : copyFault a b n m sp dp k = some what) : (stringBytes (stringToUtf16 ("arraycopy: " ++ what))).size ≤ 400 := by
  have b1 := stringBytes_size_le (stringToUtf16 ("arraycopy: " ++ what))
  have b2 := utf16_size_le ("arraycopy: " ++ what)
  have b3 := fault_print hn hm h
  have b4 : ("arraycopy: " ++ what).toList.length = 11 + what.toList.length := by
    rw [String.toList_append, List.length_append]
    have : "arraycopy: ".toList.length = 11 := by decide
    omega
  omega
theorem fault_modelled (what : String) : (("arraycopy: " ++ what) == notModelled) = false := by
  rw [beq_eq_false_iff_ne]
  intro h
  have h2 := congrArg String.toList h
  have h3 : ("arraycopy: " ++ what).toList = 'a' :: ("rraycopy: ".toList ++ what.toList) := by
    rw [String.toList_append]
    rfl
  rw [h3] at h2
  have h4 : notModelled.toList = '\u0000' :: " a message that is not modelled".toList := by decide
  rw [h4] at h2
  simp at h2
theorem fault_some {a b : FieldType} {n m : Nat} {sp dp k : Int32} (hout : ¬ (¬ sp < 0 ∧ ¬ dp < 0 ∧ ¬ k < 0 ∧ sp.toNatClampNeg + k.toNatClampNeg ≤ n ∧ dp.toNatClampNeg + k.toNatClampNeg ≤ m)) : ∃ what, copyFault a b n m sp dp k = some what := by
  unfold copyFault
  split
  · exact ⟨_, rfl⟩
  · rename_i h1
    split
    · exact ⟨_, rfl⟩
    · rename_i h2
      split
      · exact ⟨_, rfl⟩
      · rename_i h3
        split
        · exact ⟨_, rfl⟩
        · rename_i h4
          split
          · exact ⟨_, rfl⟩
          · rename_i h5
            have e1 := toNatClampNeg_of_not_neg32 sp h1
            have e2 := toNatClampNeg_of_not_neg32 dp h2
            have e3 := toNatClampNeg_of_not_neg32 k h3
            exact (hout ⟨h1, h2, h3, by omega, by omega⟩).elim
theorem prim_same {a : FieldType} : ((refKind a != refKind a) || (!refKind a && a != a)) = false := by cases a <;> simp
theorem copyOut {p : Program} {l : Launch} {e : Env} {R : Room} {s : State} {m : MethodId} {args : Array Value} {below : List Frame} {meth : Method} {c : Code} {cells slots : Nat} {T : State} {locs : List Loc} (X : Stand p l e R s m args below meth c T locs cells slots) (hexec : p.tables.exec = Jvm.exec) {own : String} {index : Nat} (hown : s.vm.findClass own = some m.cls)
    (hlink : (Cond.methodLink own index arraycopyName).before args s = true) (hnat : (Cond.native arraycopyName).before args s = true) (hstat : (Cond.static arraycopyName).before args s = true)
    (hinit : (Cond.initialized "java/lang/System").before args s = true)
    {src dst : Addr} {srcPos destPos n : Int32} {cs cd : Cell} {ks kd : Class} {sComp dComp : ClassId} {sType dType : FieldType} {what : String}
    (hs : T.heap[src]? = some cs) (hd : T.heap[dst]? = some cd) (hsobj : ∀ k, cs.vm ≠ .statics k) (hdobj : ∀ k, cd.vm ≠ .statics k)
    (hks : s.vm.classes[cs.cls]? = some ks) (hkd : s.vm.classes[cd.cls]? = some kd) (hsk : ks.kind = .array sComp sType) (hdk : kd.kind = .array dComp dType)
    (hty : ((refKind sType != refKind dType) || (!refKind sType && sType != dType)) = false)
    (hf : copyFault sType dType cs.slots.size cd.slots.size srcPos destPos n = some what)
    {g : JFrame} (hg : g.method = m) (hsize : g.locals.size = c.maxLocals) {rest : List Value} (hstack : g.stack = .int n :: .int destPos :: .ref dst :: .int srcPos :: .ref src :: rest)
    (hdg : decode c.code g.pc = .ok (.invokestatic index, 3))
    (hframes : 1 ≤ R.frames) (hlocals : 2 * g.monitorRoom + (rest.map fun v => v.category).sum + (nativeFrameWords "java/lang/System" "arraycopy" 5 + 11) ≤ R.locals) :
    ∃ vm' nf, nf.words = 0 ∧ nf.locked = none ∧ nf.awaiting = false ∧ Stand p l e R s m args below meth c (T.setVm vm') locs cells slots ∧
      ∀ target, Steps p.tables e below ((T.setVm vm').setFrames (.throwNew "java/lang/ArrayIndexOutOfBoundsException" (some ("arraycopy: " ++ what)) none :: .native nf :: .java { g with stack := rest } :: below)) target → Steps p.tables e below (T.setTop g) target := by
  obtain ⟨r, kS, methS, hnS, hmS, hkS, N⟩ := NativeOf.of_static hnat hstat (ps := [.object "java/lang/Object", .int, .object "java/lang/Object", .int, .int]) (ret := none) (by decide +kernel)
  have hinitS : kS.init = .initialized := Cond.initialized_spec (findClass_of_methodNamed hnS) hkS hinit
  obtain ⟨vm', X', step⟩ := X.invokestatic hexec hown hlink hnS hmS N.static hkS hinitS (by decide) hg (argsL := [.ref src, .int srcPos, .ref dst, .int destPos, .int n]) (rest := rest) (by rw [N.sig]; rfl) hstack hdg
  refine ⟨vm', { method := r, args := #[.ref src, .int srcPos, .ref dst, .int destPos, .int n], locked := none }, rfl, rfl, rfl, X', fun target hrest => step target fun acts => ?_⟩
  subst hg
  have hA' : s.vm.Alike vm' := X'.warmed.alike
  obtain ⟨kS', N'⟩ := N.alike hA'
  obtain ⟨ks', hks', hes⟩ := hA'.2.2 _ _ hks
  obtain ⟨kd', hkd', hed⟩ := hA'.2.2 _ _ hkd
  have hseen : seenByNative methS #[.ref src, .int srcPos, .ref dst, .int destPos, .int n] = #[.ref src, .int srcPos, .ref dst, .int destPos, .int n] := by
    simp [seenByNative, N.static, N.sig, narrow]
  obtain ⟨g₀, hfr⟩ := X'.frames_eq
  refine Steps.nativeThrowsNote (g := { g with stack := rest }) (row := arraycopyRow) (cls := "java/lang/ArrayIndexOutOfBoundsException") (msg := some ("arraycopy: " ++ what)) (T := fun u => u) X'.here acts N'.cls N'.meth N'.boot N'.native N'.noCode N'.noLock
    (by rw [N'.className, N'.name, N'.desc]; exact arraycopy_row p) (by rw [N'.className, N'.name]; exact X'.notFull (g := { g with stack := rest }) hsize (vars := nativeFrameWords "java/lang/System" "arraycopy" 5) hframes hlocals) ?_ ?_
  · intro E hE
    rw [hseen] at hE ⊢
    rw [arraycopyRow_sem]
    exact Jvm.W.arraycopy_bounds hs hd hsobj hdobj hks' hkd' (by rw [hes]; exact hsk) (by rw [hed]; exact hdk) hty hf (hE _)
  · rw [hseen]
    have hU : (((T.setVm vm').setTop { g with stack := rest }).pushFrame (.native { method := r, args := #[.ref src, .int srcPos, .ref dst, .int destPos, .int n], locked := none })).pushFrame (.throwNew "java/lang/ArrayIndexOutOfBoundsException" (some ("arraycopy: " ++ what)) none) = (T.setVm vm').setFrames (.throwNew "java/lang/ArrayIndexOutOfBoundsException" (some ("arraycopy: " ++ what)) none :: .native { method := r, args := #[.ref src, .int srcPos, .ref dst, .int destPos, .int n], locked := none } :: .java { g with stack := rest } :: below) := by
      have hcur := State.cur_lt_of_frames hfr
      have hU1 : ((T.setVm vm').setTop { g with stack := rest }).pushFrame (.native { method := r, args := #[.ref src, .int srcPos, .ref dst, .int destPos, .int n], locked := none }) = (T.setVm vm').setFrames (.native { method := r, args := #[.ref src, .int srcPos, .ref dst, .int destPos, .int n], locked := none } :: .java { g with stack := rest } :: below) := by
        rw [State.pushFrame, State.frames_setTop _ hfr, State.setTop_of_frames _ hfr, State.setFrames_setFrames]
      rw [hU1, State.pushFrame, State.frames_setFrames _ hcur, State.setFrames_setFrames]
    show Steps p.tables e below ((((T.setVm vm').setTop { g with stack := rest }).pushFrame (.native { method := r, args := #[.ref src, .int srcPos, .ref dst, .int destPos, .int n], locked := none })).pushFrame (.throwNew "java/lang/ArrayIndexOutOfBoundsException" (some ("arraycopy: " ++ what)) none)) target
    rw [hU]
    exact hrest
theorem j_copyO {idx g0 o0 n0 g1 o1 n1 : Nat} {sp dp n : Int32} (hd : decode M.2.1 pc = .ok (.invokestatic idx, 3)) (q1 : Cond.methodLink M.1.cls idx arraycopyName ∈ lw_all) (q2 : Cond.native arraycopyName ∈ lw_all) (q3 : Cond.static arraycopyName ∈ lw_all) (q4 : Cond.initialized "java/lang/System" ∈ lw_all) (hN0 : aN σ g0 o0 = some n0) (hN1 : aN σ g1 o1 = some n1) (hg0 : g0 / 10000 < 12) (hgg : g1 / 10000 = g0 / 10000) (hn0 : n0 < 2 ^ 31) (hn1 : n1 < 2 ^ 31)
    (hout : ¬ (¬ sp < 0 ∧ ¬ dp < 0 ∧ ¬ n < 0 ∧ sp.toNatClampNeg + n.toNatClampNeg ≤ n0 ∧ dp.toNatClampNeg + n.toNatClampNeg ≤ n1)) (hst : (st.map fun v => v.category).sum ≤ 100) (hv : vmx σ 3 410 (fun q τ => JX l d X D K Kx M pc τ L (exS 101) q)) : J l d X D K Kx M pc σ L (.int n :: .int dp :: .ref (aD σ g1 o1) :: .int sp :: .ref (aD σ g0 o0) :: st) := by
  intro G ha hb hE H locs ls hW hS hl T hT X9
  obtain ⟨c0, a1, ⟨b1, k0, b2, cm0, b3⟩, a3⟩ := wd_acell G.va hW hN0 hg0
  obtain ⟨c1, e1, ⟨f1, k1, f2, cm1, f3⟩, e3⟩ := wd_acell G.va hW hN1 (by rw [hgg]; exact hg0)
  rw [hgg] at f3
  obtain ⟨what, hf⟩ := fault_some (a := wd_ft (g0 / 10000)) (b := wd_ft (g0 / 10000)) hout
  have hw9 : nativeFrameWords "java/lang/System" "arraycopy" 5 + 11 ≤ 1000 := by decide +kernel
  have hroom : 2 * 0 + (st.map fun v => v.category).sum + (nativeFrameWords "java/lang/System" "arraycopy" 5 + 11) ≤ 16000 + 64 * D := by omega
  obtain ⟨vm', nf, z1, z2, z3, X', step⟩ := copyOut X9 G.ex G.own (G.ws _ q1) (G.ws _ q2) (G.ws _ q3) (G.ws _ q4) (cs := c0) (cd := c1) (by rw [hT]; exact a1) (by rw [hT]; exact e1) b1 f1 b2 f2 b3 f3 prim_same (by rw [a3, e3]; exact hf) (g := F0 X.2.2.2.1 pc ls (.int n :: .int dp :: .ref (aD σ g1 o1) :: .int sp :: .ref (aD σ g0 o0) :: st)) rfl (by rw [G.ml]; exact hl.1) (rest := st) rfl (by rw [G.cd]; exact hd) (by show 1 ≤ D + 16; omega) hroom
  obtain ⟨t', st', q'⟩ := jn_note (st := st) (pc := pc) z1 z2 z3 (text := "arraycopy: " ++ what) (E := "java/lang/ArrayIndexOutOfBoundsException") (names := ["java/lang/IndexOutOfBoundsException", "java/lang/RuntimeException", "java/lang/Exception"]) (nb := 400) G ha hb hE hW hS hl (by decide +kernel) (by decide +kernel) (by decide +kernel) (by decide +kernel) at_A ot_A (fault_modelled what) (fault_bytes hn0 hn1 hf) (by decide) (by decide) hst hv.1.1 hv.1.2 hv.2 (T.setVm vm') hT X'
  exact ⟨t', step t' st', q'⟩
def cpyW (t : Nat) (σ : wS) (g0 o0 g1 o1 sp dp n : Nat) : wS := if t = 1 then sAJ σ g1 o1 (va_cpy (aJ σ g0 o0) (aJ σ g1 o1) sp dp n) else sA σ g1 o1 (va_cpy (aI σ g0 o0) (aI σ g1 o1) sp dp n)
theorem Ext.cpyW {t g0 o0 g1 o1 sp dp n : Nat} : Ext σ (cpyW t σ g0 o0 g1 o1 sp dp n) := by
  show Ext σ (if t = 1 then _ else _)
  split
  · exact Ext.sAJ
  · exact Ext.sA
theorem Sm.cpyW {t g0 o0 g1 o1 sp dp n : Nat} : Sm σ (cpyW t σ g0 o0 g1 o1 sp dp n) := by
  show Sm σ (if t = 1 then _ else _)
  split
  · exact Sm.sAJ
  · exact Sm.sA
def cpyIn (sp dp n : Int32) (n0 n1 : Nat) : Prop := ¬ sp < 0 ∧ ¬ dp < 0 ∧ ¬ n < 0 ∧ sp.toNatClampNeg + n.toNatClampNeg ≤ n0 ∧ dp.toNatClampNeg + n.toNatClampNeg ≤ n1
def cpyOk (t : Nat) (σ : wS) (g0 o0 n0 g1 o1 n1 : Nat) (v0 v1 : Option Nat) (sp dp n : Int32) : Prop :=
  (v0 = some (aD σ g0 o0) ∧ v1 = some (aD σ g1 o1)) ∧ (aN σ g0 o0 = some n0 ∧ aN σ g1 o1 = some n1) ∧ (g0 / 10000 = t ∧ g1 / 10000 = t ∧ t < 6) ∧ (n0 < 2 ^ 31 ∧ n1 < 2 ^ 31) ∧ (t ≠ 1 → cpyIn sp dp n n0 n1 → ∀ i, i < n.toNatClampNeg → fits (wd_ft t) (.int (aI σ g0 o0 (sp.toNatClampNeg + i))) = true)
theorem j_copyRO {idx t g0 o0 n0 g1 o1 n1 : Nat} {v0 v1 : Option Nat} {sp dp n : Int32} (hd : decode M.2.1 pc = .ok (.invokestatic idx, 3)) (q1 : Cond.methodLink M.1.cls idx arraycopyName ∈ lw_all) (q2 : Cond.native arraycopyName ∈ lw_all) (q3 : Cond.static arraycopyName ∈ lw_all) (q4 : Cond.initialized "java/lang/System" ∈ lw_all) (hc : cpyOk t σ g0 o0 n0 g1 o1 n1 v0 v1 sp dp n)
    (hout : ¬ cpyIn sp dp n n0 n1) (hst : (st.map fun v => v.category).sum ≤ 100) (hv : vmx σ 3 410 (fun q τ => JX l d X D K Kx M pc τ L (exS 101) q)) : J l d X D K Kx M pc σ L (.int n :: .int dp :: va_rf v1 :: .int sp :: va_rf v0 :: st) := by
  obtain ⟨⟨rfl, rfl⟩, ⟨a1, a2⟩, ⟨b1, b2, b3⟩, ⟨c1, c2⟩, -⟩ := hc
  exact j_copyO hd q1 q2 q3 q4 a1 a2 (by omega) (by omega) c1 c2 hout hst hv
theorem j_copyR {idx t g0 o0 n0 g1 o1 n1 : Nat} {v0 v1 : Option Nat} {sp dp n : Int32} (hd : decode M.2.1 pc = .ok (.invokestatic idx, 3)) (q1 : Cond.methodLink M.1.cls idx arraycopyName ∈ lw_all) (q2 : Cond.native arraycopyName ∈ lw_all) (q3 : Cond.static arraycopyName ∈ lw_all) (q4 : Cond.initialized "java/lang/System" ∈ lw_all) (hc : cpyOk t σ g0 o0 n0 g1 o1 n1 v0 v1 sp dp n)
    (hin : cpyIn sp dp n n0 n1) (hst : (st.map fun v => v.category).sum ≤ 8) (kk : J l d X D K Kx M (pc + 3) (cpyW t σ g0 o0 g1 o1 sp.toNatClampNeg dp.toNatClampNeg n.toNatClampNeg) L st) : J l d X D K Kx M pc σ L (.int n :: .int dp :: va_rf v1 :: .int sp :: va_rf v0 :: st) := by
  obtain ⟨⟨rfl, rfl⟩, ⟨a1, a2⟩, ⟨b1, b2, b3⟩, ⟨c1, c2⟩, hf⟩ := hc
  obtain ⟨d1, d2, d3, d4, d5⟩ := id hin
  unfold cpyW at kk
  by_cases e : t = 1
  · rw [if_pos e] at kk
    exact j_copyj hd q1 q2 q3 q4 a1 a2 (b1.trans e) (b2.trans e) d1 d2 d3 d4 d5 hst kk
  · rw [if_neg e] at kk
    exact j_copyi hd q1 q2 q3 q4 a1 a2 b1 b2 ⟨e, b3⟩ d1 d2 d3 d4 d5 (hf e hin) hst kk
end JRN
