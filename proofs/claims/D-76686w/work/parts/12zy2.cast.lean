set_option linter.unusedVariables false
section CAST
variable {l : Launch} {d : wD} {X : jX} {D : Nat} {K : jK} {Kx : jKx} {M : jM} {pc : Nat} {σ : wS} {L L2 : List (Nat × Value)} {st : List Value}
def ct_h : List String := [("module " ++ "java.base") ++ " of loader " ++ "'bootstrap'", "unnamed module" ++ " of loader " ++ "'bootstrap'"]
def ct_hs (C T : String) : List String := ct_h.flatMap fun h => ((toString C ++ toString " and " ++ toString T ++ toString " are in " ++ toString h : String)) :: ct_h.map fun k => (toString C ++ toString " is in " ++ toString h ++ toString "; " ++ toString T ++ toString " is in " ++ toString k : String)
def ct_m (C T H : String) : String := (toString "class " ++ toString C ++ toString " cannot be cast to class " ++ toString T ++ toString " (" ++ toString H ++ toString ")" : String)
theorem ct_class {vm : Vm} {C : String} {c : ClassId} {k : Class} (h : vm.findClass C = some c) (hk : vm.classes[c]? = some k) : k.name = C ∧ k.hidden = none ∧ k.loader = none := by
  obtain ⟨k9, h1, h2⟩ := Vm.findClass_spec h
  cases Option.some.inj (h1.symm.trans hk)
  refine ⟨h2, ?_, Vm.findClass_boot h hk⟩
  have h' : vm.classes.findIdx? (fun k => k.name == C && k.hidden.isNone && (match k.kind with | .primitive _ => false | _ => true) && (match (none : Option Addr) with | none => k.loader.isNone | some l => k.initiators.contains l)) = some c := h
  obtain ⟨hb, hp, -⟩ := Array.findIdx?_eq_some_iff_getElem.mp h'
  have e : vm.classes[c] = k := by rw [Array.getElem?_eq_getElem hb] at hk; exact Option.some.inj hk
  rw [e] at hp
  simp only [Bool.and_eq_true] at hp
  cases hh : k.hidden with
  | none => rfl
  | some z => rw [hh] at hp; exact absurd hp.1.1.2 (by simp)
theorem ct_home {U : State} {C : String} {c : ClassId} {k : Class} (hm : modulesRight_1 U = true) (h : U.vm.findClass C = some c) (hk : U.vm.classes[c]? = some k) (hp : packageOf C = "") : U.vm.home k ∈ ct_h := by
  obtain ⟨e1, e2, e3⟩ := ct_class h hk
  have el : U.vm.loaderName k.loader = "'bootstrap'" := by rw [e3]; rfl
  unfold Vm.home
  rw [el]
  cases hmo : U.vm.moduleOf k with
  | none => exact List.mem_cons_of_mem _ List.mem_cons_self
  | some m =>
    have hn : m.name = "java.base" := by
      unfold Vm.moduleOf at hmo
      split at hmo
      · have := List.find?_some hmo
        simpa using this
      · have h1 := List.find?_some hmo
        have h2 := List.mem_of_find?_eq_some hmo
        unfold modulesRight_1 at hm
        have h3 := List.all_eq_true.mp hm m h2
        rw [e3, e1, hp] at h1
        simp only [Bool.and_eq_true, beq_iff_eq] at h1
        have hc : castPackages_1.any (fun p => m.packages.contains p) = true := List.any_eq_true.mpr ⟨"", List.mem_cons_self, h1.2⟩
        rw [h1.1, hc] at h3
        simpa using h3
    show ("module " ++ m.name) ++ " of loader " ++ "'bootstrap'" ∈ ct_h
    rw [hn]
    exact List.mem_cons_self
theorem ct_text {U : State} {C T : String} {c t : ClassId} {k kt : Class} (hm : modulesRight_1 U = true) (h : U.vm.findClass C = some c) (hk : U.vm.classes[c]? = some k) (h' : U.vm.findClass T = some t) (hk' : U.vm.classes[t]? = some kt) (hp : packageOf C = "") (hp' : packageOf T = "") (hd : dotted C = C) (hd' : dotted T = T) : ∃ H ∈ ct_hs C T, Op.checkcast.message U.vm k kt = ct_m C T H := by
  obtain ⟨e1, e2, -⟩ := ct_class h hk
  obtain ⟨f1, f2, -⟩ := ct_class h' hk'
  have s1 : k.shown = C := by unfold Class.shown; rw [e2, e1]; exact hd
  have s2 : kt.shown = T := by unfold Class.shown; rw [f2, f1]; exact hd'
  have g1 := ct_home hm h hk hp
  have g2 := ct_home hm h' hk' hp'
  refine ⟨U.vm.homes k kt, ?_, ?_⟩
  · unfold Vm.homes
    split
    · rw [s1, s2]
      exact List.mem_flatMap.mpr ⟨_, g1, List.mem_cons_self⟩
    · rw [s1, s2]
      exact List.mem_flatMap.mpr ⟨_, g1, List.mem_cons_of_mem _ (List.mem_map.mpr ⟨_, g2, rfl⟩)⟩
  · unfold Op.checkcast.message
    rw [s1, s2]
    rfl
def ct_rows : List String := ["PlanMemo$Bytes", "PlanMemo$Shorts", "PlanMemo$Ints", "PlanMemo$Longs"]
def ct_exps : List String := ["PlanMemo$Scan", "PlanMemo$Keep", "PlanMemo$Tally", "PlanMemo$Join", "PlanMemo$Half"]
def wd_ccs : List (String × String) := wd_ncs.filter fun q => (ct_rows ++ ct_exps).contains q.1
theorem ct_ok : ∀ q ∈ wd_ccs, packageOf q.1 = "" ∧ packageOf q.2 = "" ∧ dotted q.1 = q.1 ∧ dotted q.2 = q.2 := by decide +kernel
theorem ct_sz : ∀ q ∈ wd_ccs, q.1.toList.length ≤ 20 ∧ q.2.toList.length ≤ 20 := by decide +kernel
theorem ct_hz : ∀ h ∈ ct_h, h.toList.length ≤ 50 := by decide +kernel
theorem ct_hsz {C T H : String} (hC : C.toList.length ≤ 20) (hT : T.toList.length ≤ 20) (h : H ∈ ct_hs C T) : H.toList.length ≤ 160 := by
  unfold ct_hs at h
  obtain ⟨a, ha, h⟩ := List.mem_flatMap.mp h
  have ea := ct_hz a ha
  have a0 : (toString C).toList.length ≤ 20 := hC
  have a1 : (toString T).toList.length ≤ 20 := hT
  have a2 : (toString a).toList.length ≤ 50 := ea
  rcases List.mem_cons.mp h with h | h
  · rw [h]
    simp only [String.toList_append, List.length_append]
    have b1 : (toString " and ").toList.length = 5 := by decide
    have b2 : (toString " are in ").toList.length = 8 := by decide
    omega
  · obtain ⟨b, hb, h⟩ := List.mem_map.mp h
    have eb : (toString b).toList.length ≤ 50 := ct_hz b hb
    rw [← h]
    simp only [String.toList_append, List.length_append]
    have b1 : (toString " is in ").toList.length = 7 := by decide
    have b2 : (toString "; ").toList.length = 2 := by decide
    omega
theorem ct_ok3 : ∀ q ∈ wd_ccs, ∀ H ∈ ct_hs q.1 q.2, (stringBytes (stringToUtf16 (ct_m q.1 q.2 H))).size ≤ 960 := by
  intro q hq H hH
  obtain ⟨z1, z2⟩ := ct_sz q hq
  have z3 : (toString H).toList.length ≤ 160 := ct_hsz z1 z2 hH
  have b1 := stringBytes_size_le (stringToUtf16 (ct_m q.1 q.2 H))
  have b2 := utf16_size_le (ct_m q.1 q.2 H)
  have b3 : (ct_m q.1 q.2 H).toList.length ≤ 240 := by
    unfold ct_m
    simp only [String.toList_append, List.length_append]
    have c1 : (toString "class ").toList.length = 6 := by decide
    have c2 : (toString " cannot be cast to class ").toList.length = 25 := by decide
    have c3 : (toString " (").toList.length = 2 := by decide
    have c4 : (toString ")").toList.length = 1 := by decide
    have c5 : (toString q.1).toList.length ≤ 20 := z1
    have c6 : (toString q.2).toList.length ≤ 20 := z2
    omega
  omega
theorem ct_ok2 (C T H : String) : (ct_m C T H == notModelled) = false := by
  rw [beq_eq_false_iff_ne]
  intro h
  have h2 := congrArg String.toList h
  have h3 : (ct_m C T H).toList = 'c' :: ("lass ".toList ++ (toString C).toList ++ " cannot be cast to class ".toList ++ (toString T).toList ++ " (".toList ++ (toString H).toList ++ ")".toList) := by
    unfold ct_m
    simp only [String.toList_append]
    rfl
  rw [h3] at h2
  have h4 : notModelled.toList = '\u0000' :: " a message that is not modelled".toList := by decide
  rw [h4] at h2
  simp at h2
theorem castOut {p : Program} {l : Launch} {e : Env} {R : Room} {s : State} {m : MethodId} {args : Array Value} {below : List Frame} {meth : Method} {c : Code} {T : State} {locs : List Loc} {cells slots : Nat} (X : Stand p l e R s m args below meth c T locs cells slots) (hexec : p.tables.exec = Jvm.exec)
    {own name : String} {index : Nat} (hown : s.vm.findClass own = some m.cls) (hlink : (Cond.classLink own index name).before args s = true)
    {a : Addr} {cell : Cell} {cT : ClassId} {ks : Class} (hcell : T.heap[a]? = some cell) (hobj : ∀ k, cell.vm ≠ .statics k) (hks : s.vm.classes[cell.cls]? = some ks)
    (hcT : s.vm.findClass name = some cT) (hasg : s.vm.assignable cell.cls cT = false)
    {g : JFrame} (hg : g.method = m) {rest : List Value} (hstack : g.stack = .ref a :: rest) (hdg : decode c.code g.pc = .ok (.checkcast index, 3)) :
    ∃ vm' ks' kt', s.WarmedH vm' ∧ vm'.classes[cell.cls]? = some ks' ∧ vm'.classes[cT]? = some kt' ∧ Stand p l e R s m args below meth c (T.setVm vm') locs cells slots ∧
      ∀ target, Steps p.tables e below (((T.setVm vm').setTop g).pushFrame (.throwNew "java/lang/ClassCastException" (some (Op.checkcast.message vm' ks' kt')) none)) target → Steps p.tables e below (T.setTop g) target := by
  have hpl : e.platform.magicAccessors = ({} : Platform).magicAccessors := by rw [X.admits.platform]
  obtain ⟨c', hc', hcl⟩ := Cond.classLink_spec hown hlink e.platform hpl
  cases hcT.symm.trans hc'
  obtain ⟨dk, _, _, kt, hd, _, _, _, _, hkt, _, hopen⟩ := hcl.here
  have hcl₀ := X.warmed.classLinks hcl
  have hW' : s.WarmedH (T.vm.noted m.cls index (.cls cT)) := X.warmed.noted hd hopen (State.rightAt_cls hcl)
  obtain ⟨ks', hks', -⟩ := hW'.alike.2.2 _ _ hks
  obtain ⟨kt', hkt', -⟩ := hW'.alike.2.2 _ _ hkt
  refine ⟨_, ks', kt', hW', hks', hkt', X.noted hW', fun target hrest => ?_⟩
  subst hg
  jvm_step X.here [hexec, hdg, Op.checkcast.wp_cold (e := e) (s := T) (f := g) X.here.top hstack (resolveClass_links e.toSetting hcl₀) hcl₀.ready,
    Op.checkcast.wp_ready (e := e) (s := T.setVm (T.vm.noted g.method.cls index (.cls cT))) (f := g) X.here.top hcl₀.ready hstack]
  refine ⟨cell, hcell, hobj, ks', hks', kt', hkt', ?_⟩
  rw [if_neg (by rw [hW'.alike.assignable, hasg]; exact Bool.false_ne_true)]
  exact hrest
theorem j_castX {c x idx : Nat} {nm : String} {r : vw_C} (hd : decode M.2.1 pc = .ok (.checkcast idx, 3)) (hC : oC σ x = c + 1) (hr : vwCl[c]? = some r) (hq : Cond.classLink M.1.cls idx nm ∈ lw_all) (hnc : (r.1, nm) ∈ wd_ccs) (hst : (st.map fun v => v.category).sum ≤ 99) (hv : vmx σ 3 970 (fun q τ => JX l d X D K Kx M pc τ L (exS 103) q)) : J l d X D K Kx M pc σ L (.ref x :: st) := by
  intro G ha hb hE H locs ls hW hS hl T hT X9
  obtain ⟨cell, g1, g2, g3⟩ := wd_recv G.va hW hC hr
  obtain ⟨⟨c0, t0, f1, f2, f3⟩, hmr⟩ := G.kk.2.2.1 _ (List.mem_filter.mp hnc).1
  cases Option.some.inj (g3.symm.trans f1)
  obtain ⟨ks, hks, -⟩ := Vm.findClass_spec f1
  obtain ⟨vm', ks', kt', hW', hks', hkt', X', step⟩ := castOut X9 G.ex G.own (G.ws _ hq) (by rw [hT]; exact g1) (VmData.noStatics_of g2) hks f2 f3 (g := F0 X.2.2.2.1 pc ls (.ref x :: st)) rfl rfl (by rw [G.cd]; exact hd)
  have hmr' : modulesRight_1 (X.2.2.1.setVm vm') = true := (wd_Nc.moved (U := X.2.2.1.setVm vm') hW'.alike ⟨⟨_, _, f1, f2, f3⟩, hmr⟩).2
  obtain ⟨p1, p2, p3, p4⟩ := ct_ok _ hnc
  obtain ⟨Hh, hHh, ht⟩ := ct_text (U := X.2.2.1.setVm vm') hmr' (show vm'.findClass r.1 = some _ by rw [hW'.alike.findClass]; exact f1) hks' (show vm'.findClass nm = some _ by rw [hW'.alike.findClass]; exact f2) hkt' p1 p2 p3 p4
  have h9 : ((Value.ref x :: st).map fun v => v.category).sum ≤ 100 := by
    rw [List.map_cons, List.sum_cons]
    show 1 + _ ≤ 100
    omega
  have hN := jx_note (st := .ref x :: st) (text := ct_m r.1 nm Hh) (names := ["java/lang/RuntimeException", "java/lang/Exception"]) (nb := 960) G ha hb hE hW hS hl (by decide +kernel) (by decide +kernel) (by decide +kernel) (by decide +kernel) at_C ot_C (ct_ok2 _ _ _) (ct_ok3 _ hnc _ hHh) (by decide) (by decide) h9 hv.1.1 hv.1.2 hv.2
  obtain ⟨t', st', q'⟩ := hN (T.setVm vm') hT X'
  refine ⟨t', step t' ?_, q'⟩
  have e9 : Op.checkcast.message vm' ks' kt' = ct_m r.1 nm Hh := ht
  rw [e9]
  exact st'
theorem j_castFRow {r : Option Nat} {idx : Nat} (hd : decode M.2.1 pc = .ok (.checkcast idx, 3)) (hq : Cond.classLink M.1.cls idx "PlanMemo$Row" ∈ lw_all) (h : ∀ b, r = some b → oS32 σ b ∨ oS26 σ b) (hn : ¬ (∀ b, r = some b → oS26 σ b)) (hst : (st.map fun v => v.category).sum ≤ 99) (hv : vmx σ 3 970 (fun q τ => JX l d X D K Kx M pc τ L (exS 103) q)) : J l d X D K Kx M pc σ L (va_rf r :: st) := by
  cases r with
  | none => exact (hn (fun b hb => nomatch hb)).elim
  | some b =>
    have hb : ¬ (oS26 σ b) := fun z => hn (fun b' e => by cases e; exact z)
    rcases h b rfl with h1 | h1
    · unfold oS32 at h1
      rcases h1 with h1 | h1 | h1 | h1 | h1
      · exact j_castX hd (c := 33) h1 rfl hq (by decide +kernel) hst hv
      · exact j_castX hd (c := 35) h1 rfl hq (by decide +kernel) hst hv
      · exact j_castX hd (c := 36) h1 rfl hq (by decide +kernel) hst hv
      · exact j_castX hd (c := 37) h1 rfl hq (by decide +kernel) hst hv
      · exact j_castX hd (c := 38) h1 rfl hq (by decide +kernel) hst hv
    · unfold oS26 at h1
      rcases h1 with h1 | h1 | h1 | h1
      · exact (hb (by unfold oS26; omega)).elim
      · exact (hb (by unfold oS26; omega)).elim
      · exact (hb (by unfold oS26; omega)).elim
      · exact (hb (by unfold oS26; omega)).elim
theorem j_castFExpression {r : Option Nat} {idx : Nat} (hd : decode M.2.1 pc = .ok (.checkcast idx, 3)) (hq : Cond.classLink M.1.cls idx "PlanMemo$Expression" ∈ lw_all) (h : ∀ b, r = some b → oS32 σ b ∨ oS26 σ b) (hn : ¬ (∀ b, r = some b → oS32 σ b)) (hst : (st.map fun v => v.category).sum ≤ 99) (hv : vmx σ 3 970 (fun q τ => JX l d X D K Kx M pc τ L (exS 103) q)) : J l d X D K Kx M pc σ L (va_rf r :: st) := by
  cases r with
  | none => exact (hn (fun b hb => nomatch hb)).elim
  | some b =>
    have hb : ¬ (oS32 σ b) := fun z => hn (fun b' e => by cases e; exact z)
    rcases h b rfl with h1 | h1
    · unfold oS32 at h1
      rcases h1 with h1 | h1 | h1 | h1 | h1
      · exact (hb (by unfold oS32; omega)).elim
      · exact (hb (by unfold oS32; omega)).elim
      · exact (hb (by unfold oS32; omega)).elim
      · exact (hb (by unfold oS32; omega)).elim
      · exact (hb (by unfold oS32; omega)).elim
    · unfold oS26 at h1
      rcases h1 with h1 | h1 | h1 | h1
      · exact j_castX hd (c := 27) h1 rfl hq (by decide +kernel) hst hv
      · exact j_castX hd (c := 28) h1 rfl hq (by decide +kernel) hst hv
      · exact j_castX hd (c := 29) h1 rfl hq (by decide +kernel) hst hv
      · exact j_castX hd (c := 30) h1 rfl hq (by decide +kernel) hst hv
theorem j_castFScan {r : Option Nat} {idx : Nat} (hd : decode M.2.1 pc = .ok (.checkcast idx, 3)) (hq : Cond.classLink M.1.cls idx "PlanMemo$Scan" ∈ lw_all) (h : ∀ b, r = some b → oS32 σ b ∨ oS26 σ b) (hn : ¬ (∀ b, r = some b → oC σ b = 34)) (hst : (st.map fun v => v.category).sum ≤ 99) (hv : vmx σ 3 970 (fun q τ => JX l d X D K Kx M pc τ L (exS 103) q)) : J l d X D K Kx M pc σ L (va_rf r :: st) := by
  cases r with
  | none => exact (hn (fun b hb => nomatch hb)).elim
  | some b =>
    have hb : ¬ (oC σ b = 34) := fun z => hn (fun b' e => by cases e; exact z)
    rcases h b rfl with h1 | h1
    · unfold oS32 at h1
      rcases h1 with h1 | h1 | h1 | h1 | h1
      · exact (hb (by omega)).elim
      · exact j_castX hd (c := 35) h1 rfl hq (by decide +kernel) hst hv
      · exact j_castX hd (c := 36) h1 rfl hq (by decide +kernel) hst hv
      · exact j_castX hd (c := 37) h1 rfl hq (by decide +kernel) hst hv
      · exact j_castX hd (c := 38) h1 rfl hq (by decide +kernel) hst hv
    · unfold oS26 at h1
      rcases h1 with h1 | h1 | h1 | h1
      · exact j_castX hd (c := 27) h1 rfl hq (by decide +kernel) hst hv
      · exact j_castX hd (c := 28) h1 rfl hq (by decide +kernel) hst hv
      · exact j_castX hd (c := 29) h1 rfl hq (by decide +kernel) hst hv
      · exact j_castX hd (c := 30) h1 rfl hq (by decide +kernel) hst hv
theorem j_castFSingle {r : Option Nat} {idx : Nat} (hd : decode M.2.1 pc = .ok (.checkcast idx, 3)) (hq : Cond.classLink M.1.cls idx "PlanMemo$Single" ∈ lw_all) (h : ∀ b, r = some b → oS32 σ b ∨ oS26 σ b) (hn : ¬ (∀ b, r = some b → oS34 σ b)) (hst : (st.map fun v => v.category).sum ≤ 99) (hv : vmx σ 3 970 (fun q τ => JX l d X D K Kx M pc τ L (exS 103) q)) : J l d X D K Kx M pc σ L (va_rf r :: st) := by
  cases r with
  | none => exact (hn (fun b hb => nomatch hb)).elim
  | some b =>
    have hb : ¬ (oS34 σ b) := fun z => hn (fun b' e => by cases e; exact z)
    rcases h b rfl with h1 | h1
    · unfold oS32 at h1
      rcases h1 with h1 | h1 | h1 | h1 | h1
      · exact j_castX hd (c := 33) h1 rfl hq (by decide +kernel) hst hv
      · exact (hb (by unfold oS34; omega)).elim
      · exact (hb (by unfold oS34; omega)).elim
      · exact j_castX hd (c := 37) h1 rfl hq (by decide +kernel) hst hv
      · exact j_castX hd (c := 38) h1 rfl hq (by decide +kernel) hst hv
    · unfold oS26 at h1
      rcases h1 with h1 | h1 | h1 | h1
      · exact j_castX hd (c := 27) h1 rfl hq (by decide +kernel) hst hv
      · exact j_castX hd (c := 28) h1 rfl hq (by decide +kernel) hst hv
      · exact j_castX hd (c := 29) h1 rfl hq (by decide +kernel) hst hv
      · exact j_castX hd (c := 30) h1 rfl hq (by decide +kernel) hst hv
theorem j_castFKeep {r : Option Nat} {idx : Nat} (hd : decode M.2.1 pc = .ok (.checkcast idx, 3)) (hq : Cond.classLink M.1.cls idx "PlanMemo$Keep" ∈ lw_all) (h : ∀ b, r = some b → oS32 σ b ∨ oS26 σ b) (hn : ¬ (∀ b, r = some b → oC σ b = 36)) (hst : (st.map fun v => v.category).sum ≤ 99) (hv : vmx σ 3 970 (fun q τ => JX l d X D K Kx M pc τ L (exS 103) q)) : J l d X D K Kx M pc σ L (va_rf r :: st) := by
  cases r with
  | none => exact (hn (fun b hb => nomatch hb)).elim
  | some b =>
    have hb : ¬ (oC σ b = 36) := fun z => hn (fun b' e => by cases e; exact z)
    rcases h b rfl with h1 | h1
    · unfold oS32 at h1
      rcases h1 with h1 | h1 | h1 | h1 | h1
      · exact j_castX hd (c := 33) h1 rfl hq (by decide +kernel) hst hv
      · exact (hb (by omega)).elim
      · exact j_castX hd (c := 36) h1 rfl hq (by decide +kernel) hst hv
      · exact j_castX hd (c := 37) h1 rfl hq (by decide +kernel) hst hv
      · exact j_castX hd (c := 38) h1 rfl hq (by decide +kernel) hst hv
    · unfold oS26 at h1
      rcases h1 with h1 | h1 | h1 | h1
      · exact j_castX hd (c := 27) h1 rfl hq (by decide +kernel) hst hv
      · exact j_castX hd (c := 28) h1 rfl hq (by decide +kernel) hst hv
      · exact j_castX hd (c := 29) h1 rfl hq (by decide +kernel) hst hv
      · exact j_castX hd (c := 30) h1 rfl hq (by decide +kernel) hst hv
theorem j_castFTally {r : Option Nat} {idx : Nat} (hd : decode M.2.1 pc = .ok (.checkcast idx, 3)) (hq : Cond.classLink M.1.cls idx "PlanMemo$Tally" ∈ lw_all) (h : ∀ b, r = some b → oS32 σ b ∨ oS26 σ b) (hn : ¬ (∀ b, r = some b → oC σ b = 37)) (hst : (st.map fun v => v.category).sum ≤ 99) (hv : vmx σ 3 970 (fun q τ => JX l d X D K Kx M pc τ L (exS 103) q)) : J l d X D K Kx M pc σ L (va_rf r :: st) := by
  cases r with
  | none => exact (hn (fun b hb => nomatch hb)).elim
  | some b =>
    have hb : ¬ (oC σ b = 37) := fun z => hn (fun b' e => by cases e; exact z)
    rcases h b rfl with h1 | h1
    · unfold oS32 at h1
      rcases h1 with h1 | h1 | h1 | h1 | h1
      · exact j_castX hd (c := 33) h1 rfl hq (by decide +kernel) hst hv
      · exact j_castX hd (c := 35) h1 rfl hq (by decide +kernel) hst hv
      · exact (hb (by omega)).elim
      · exact j_castX hd (c := 37) h1 rfl hq (by decide +kernel) hst hv
      · exact j_castX hd (c := 38) h1 rfl hq (by decide +kernel) hst hv
    · unfold oS26 at h1
      rcases h1 with h1 | h1 | h1 | h1
      · exact j_castX hd (c := 27) h1 rfl hq (by decide +kernel) hst hv
      · exact j_castX hd (c := 28) h1 rfl hq (by decide +kernel) hst hv
      · exact j_castX hd (c := 29) h1 rfl hq (by decide +kernel) hst hv
      · exact j_castX hd (c := 30) h1 rfl hq (by decide +kernel) hst hv
theorem j_castFJoin {r : Option Nat} {idx : Nat} (hd : decode M.2.1 pc = .ok (.checkcast idx, 3)) (hq : Cond.classLink M.1.cls idx "PlanMemo$Join" ∈ lw_all) (h : ∀ b, r = some b → oS32 σ b ∨ oS26 σ b) (hn : ¬ (∀ b, r = some b → oS137 σ b)) (hst : (st.map fun v => v.category).sum ≤ 99) (hv : vmx σ 3 970 (fun q τ => JX l d X D K Kx M pc τ L (exS 103) q)) : J l d X D K Kx M pc σ L (va_rf r :: st) := by
  cases r with
  | none => exact (hn (fun b hb => nomatch hb)).elim
  | some b =>
    have hb : ¬ (oS137 σ b) := fun z => hn (fun b' e => by cases e; exact z)
    rcases h b rfl with h1 | h1
    · unfold oS32 at h1
      rcases h1 with h1 | h1 | h1 | h1 | h1
      · exact j_castX hd (c := 33) h1 rfl hq (by decide +kernel) hst hv
      · exact j_castX hd (c := 35) h1 rfl hq (by decide +kernel) hst hv
      · exact j_castX hd (c := 36) h1 rfl hq (by decide +kernel) hst hv
      · exact (hb (by unfold oS137; omega)).elim
      · exact (hb (by unfold oS137; omega)).elim
    · unfold oS26 at h1
      rcases h1 with h1 | h1 | h1 | h1
      · exact j_castX hd (c := 27) h1 rfl hq (by decide +kernel) hst hv
      · exact j_castX hd (c := 28) h1 rfl hq (by decide +kernel) hst hv
      · exact j_castX hd (c := 29) h1 rfl hq (by decide +kernel) hst hv
      · exact j_castX hd (c := 30) h1 rfl hq (by decide +kernel) hst hv
theorem j_castFHalf {r : Option Nat} {idx : Nat} (hd : decode M.2.1 pc = .ok (.checkcast idx, 3)) (hq : Cond.classLink M.1.cls idx "PlanMemo$Half" ∈ lw_all) (h : ∀ b, r = some b → oS32 σ b ∨ oS26 σ b) (hn : ¬ (∀ b, r = some b → oC σ b = 39)) (hst : (st.map fun v => v.category).sum ≤ 99) (hv : vmx σ 3 970 (fun q τ => JX l d X D K Kx M pc τ L (exS 103) q)) : J l d X D K Kx M pc σ L (va_rf r :: st) := by
  cases r with
  | none => exact (hn (fun b hb => nomatch hb)).elim
  | some b =>
    have hb : ¬ (oC σ b = 39) := fun z => hn (fun b' e => by cases e; exact z)
    rcases h b rfl with h1 | h1
    · unfold oS32 at h1
      rcases h1 with h1 | h1 | h1 | h1 | h1
      · exact j_castX hd (c := 33) h1 rfl hq (by decide +kernel) hst hv
      · exact j_castX hd (c := 35) h1 rfl hq (by decide +kernel) hst hv
      · exact j_castX hd (c := 36) h1 rfl hq (by decide +kernel) hst hv
      · exact j_castX hd (c := 37) h1 rfl hq (by decide +kernel) hst hv
      · exact (hb (by omega)).elim
    · unfold oS26 at h1
      rcases h1 with h1 | h1 | h1 | h1
      · exact j_castX hd (c := 27) h1 rfl hq (by decide +kernel) hst hv
      · exact j_castX hd (c := 28) h1 rfl hq (by decide +kernel) hst hv
      · exact j_castX hd (c := 29) h1 rfl hq (by decide +kernel) hst hv
      · exact j_castX hd (c := 30) h1 rfl hq (by decide +kernel) hst hv
end CAST
