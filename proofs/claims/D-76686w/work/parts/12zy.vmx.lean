set_option linter.unusedVariables false
section JR7
variable {l : Launch} {d : wD} {X : jX} {D : Nat} {K : jK} {Kx : jKx} {M : jM} {pc : Nat} {σ : wS} {L L2 : List (Nat × Value)} {st : List Value}
theorem hsum_old {s T : State} {locs : List Loc} {k n : Nat} (h : s.sameButNew T locs k n) : ∀ q : Nat, q < s.heap.size → (T.heap[q]?).map (·.slots.size) = (s.heap[q]?).map (·.slots.size) := by
  intro q hq
  obtain ⟨c', e1, -, e3, -⟩ := h.2.2.2.2.2 q _ (Array.getElem?_eq_getElem hq)
  rw [e1, Array.getElem?_eq_getElem hq]
  simp [e3]
theorem st_tight {τ : wS} {T : State} {locs : List Loc} {k n : Nat} (G : jG l d X M) (hN : wd_N d τ T.heap) (ha : rC τ ≤ rC (xE X)) (hb : rS τ ≤ rS (xE X)) (Y : Stand X.1 l X.2.1 (xR X D) X.2.2.1 X.2.2.2.1 X.2.2.2.2.1 X.2.2.2.2.2.1 X.2.2.2.2.2.2.1 X.2.2.2.2.2.2.2.1 T locs k n) :
    Stand X.1 l X.2.1 (xR X D) X.2.2.1 X.2.2.2.1 X.2.2.2.2.1 X.2.2.2.2.2.1 X.2.2.2.2.2.2.1 X.2.2.2.2.2.2.2.1 T locs (xa X τ) (xb X τ) := by
  obtain ⟨e1, e2, e3, e4⟩ := G.2.2.2.2.2.2.2.1
  obtain ⟨f1, f2, f3, f4⟩ := hN
  have hsz : X.2.2.1.heap.size ≤ T.heap.size := Y.same.2.1
  have hold := hsum_old Y.same
  have hold' : ∀ q : Nat, q < X.2.2.1.heap.size → (T.heap[q]?).map (·.slots.size) = (X.2.2.1.heap[q]?).map (·.slots.size) := hold
  have hsp := hsum_split (B := dB d) (H := X.2.2.1.heap) (H' := T.heap) (by omega) hsz hold'
  refine { Y with same := ⟨Y.same.1, Y.same.2.1, ?_, Y.same.2.2.2.1, ?_, Y.same.2.2.2.2.2⟩ }
  · show T.heap.size ≤ X.2.2.1.heap.size + xa X τ
    unfold xa
    omega
  · show hsum X.2.2.1.heap.size T.heap ≤ xb X τ
    unfold xb
    omega
theorem vw_hat {LL : List Cond} (h : ∀ w ∈ LL, (w ∈ lw_tbl ∧ goodWord w = true) ∨ w ∈ wd_casts.map (fun q => Cond.castable q.1 q.2) ∨ w ∈ wd_decl.map (fun x => Cond.declares x)) (G : jG l d X M) : ∀ w ∈ LL, w.before X.2.2.2.2.1 X.2.2.1 = true := by
  intro w hw
  rcases h w hw with ⟨h1, h2⟩ | h1 | h1
  · exact G.ws _ (List.mem_filter.mpr ⟨h1, h2⟩)
  · obtain ⟨q, hq, rfl⟩ := List.mem_map.mp h1
    exact va_Nw.use (A := X.2.2.2.2.1) rfl (G.kk.1.2.1 q hq)
  · obtain ⟨q, hq, rfl⟩ := List.mem_map.mp h1
    exact va_Nw.use (A := X.2.2.2.2.1) rfl (G.kk.2.1.2.2.1 q hq)
/-- what the machine has made is none of ours -/
theorem jx_grown {H H1 : Heap} {locs : List Loc} {ls : Array Slot} {E : String} {q : Nat} {ce : Cell} {a b : Nat} (G : jG l d X M) (ha : rC σ ≤ rC (xE X)) (hb : rS σ ≤ rS (xE X)) (hE : Ext (xE X) σ) (hW : wd_H d σ H) (hl : lv_has ls M.2.2.1 L)
    (z : H.size ≤ H1.size) (o : ∀ q : Nat, q < H.size → H1[q]? = H[q]?) (hS1 : va_S (wd_A d) X.2.2.1.heap H1 locs) (hce : H1[q]? = some ce) (hv : ce.vm = .none) (hcl : X.2.2.1.vm.findClass E = some ce.cls) (hac : a ≤ rC σ) (hbc : b ≤ rS σ)
    (k : ∀ n c s : Nat, nx σ ≤ n → rC σ ≤ c + a → rS σ ≤ s + b → JX l d X D K Kx M pc (bp σ n c s) L E q) :
    vx_W X.1 l X.2.1 (xR X D) X.2.2.1 X.2.2.2.1 X.2.2.2.2.1 X.2.2.2.2.2.1 X.2.2.2.2.2.2.1 X.2.2.2.2.2.2.2.1 H1 locs (xa X σ + a) (xb X σ + b) (vx_MQ X.2.2.2.2.2.1 (wd_Q d (xE X) K) (wd_X d (xE X) Kx) X.2.2.2.2.1 X.2.2.1 (rC (xE X)) (rS (xE X)) (wd_A d)) (F0 X.2.2.2.1 pc ls st) q := by
  intro T hT Y
  obtain ⟨e1, e2, e3, e4⟩ := G.2.2.2.2.2.2.2.1
  obtain ⟨f1, f2, f3, f4⟩ := hW.1
  have hsz : X.2.2.1.heap.size ≤ T.heap.size := Y.same.2.1
  have h3 : T.heap.size ≤ X.2.2.1.heap.size + (xa X σ + a) := Y.same.2.2.1
  have h5 : hsum X.2.2.1.heap.size T.heap ≤ xb X σ + b := Y.same.2.2.2.2.1
  have hold := hsum_old Y.same
  have hold' : ∀ q : Nat, q < X.2.2.1.heap.size → (T.heap[q]?).map (·.slots.size) = (X.2.2.1.heap[q]?).map (·.slots.size) := hold
  have hsp := hsum_split (B := dB d) (H := X.2.2.1.heap) (H' := T.heap) (by omega) hsz hold'
  have hsp2 := hsum_split (B := dB d) (H := H) (H' := H1) (by omega) z (fun q hq => by rw [o q hq])
  rw [hT] at h3 h5 hsp hsz
  have hz1 : H1.size ≤ H.size + a := by unfold xa at h3; omega
  have hz2 : hsum H.size H1 ≤ b := by unfold xb at h5; omega
  have W1 := wd_bump hW z o (by omega) (by omega)
  have Y' := st_tight (τ := bp σ H1.size (rC σ - (H1.size - H.size)) (rS σ - hsum H.size H1)) G (by rw [hT]; exact W1.1) (Nat.le_trans (Nat.sub_le _ _) ha) (Nat.le_trans (Nat.sub_le _ _) hb) Y
  exact k H1.size (rC σ - (H1.size - H.size)) (rS σ - hsum H.size H1) (by omega) (by omega) (by omega) G (Nat.le_trans (Nat.sub_le _ _) ha) (Nat.le_trans (Nat.sub_le _ _) hb) (hE.trans Ext.bp) H1 locs ls ce st W1 hS1 hl hce hv hcl T hT Y'
theorem jx_note {H : Heap} {locs : List Loc} {ls : Array Slot} {E text : String} {names : List String} {nb : Nat} (G : jG l d X M) (ha : rC σ ≤ rC (xE X)) (hb : rS σ ≤ rS (xE X)) (hE : Ext (xE X) σ) (hW : wd_H d σ H) (hS : va_S (wd_A d) X.2.2.1.heap H locs) (hl : lv_has ls M.2.2.1 L)
    (hcls : Bundle.fit E = true) (hnames : ∀ n ∈ names, Bundle.fit n = true) (hsoe : (E == "java/lang/StackOverflowError") = false) (hoom : (E == "java/lang/OutOfMemoryError") = false)
    (hat : ∀ w ∈ vx_atM E names, (w ∈ lw_tbl ∧ goodWord w = true) ∨ w ∈ wd_casts.map (fun q => Cond.castable q.1 q.2) ∨ w ∈ wd_decl.map (fun x => Cond.declares x)) (hgood : ∀ w ∈ vx_atM E names, vx_ot w = true) (htext : (text == notModelled) = false) (hnb : (stringBytes (stringToUtf16 text)).size ≤ nb) (hnb1 : nb ≤ 1000) (hlen : names.length ≤ 4) (hst : (st.map fun v => v.category).sum ≤ 100) (hc : 3 ≤ rC σ) (hs : nb + 10 ≤ rS σ)
    (k : ∀ q n c s : Nat, nx σ ≤ n → rC σ ≤ c + 3 → rS σ ≤ s + (nb + 10) → JX l d X D K Kx M pc (bp σ n c s) L E q) :
    vx_Note X.1 l X.2.1 (xR X D) X.2.2.1 X.2.2.2.1 X.2.2.2.2.1 X.2.2.2.2.2.1 X.2.2.2.2.2.2.1 X.2.2.2.2.2.2.2.1 H locs (xa X σ) (xb X σ) (vx_MQ X.2.2.2.2.2.1 (wd_Q d (xE X) K) (wd_X d (xE X) Kx) X.2.2.2.2.1 X.2.2.1 (rC (xE X)) (rS (xE X)) (wd_A d)) (F0 X.2.2.2.1 pc ls st) E text := by
  refine vx_vm G.ex G.nt hcls hnames hsoe hoom (vw_hat hat G) hgood G.kk.2.2.2.2.2.2.2.1 G.kk.2.2.2.2.2.2.2.2 hS (by rw [G.ml]; exact hl.1) htext hnb hnb1 (by show _ < D + 16; omega) (by show _ ≤ 16000 + 64 * D; omega) (by omega) (xr_1 ha hc) (xr_2 hb hs) G.lk ?_
  intro H1 q9 ce z o hS1 hce hv hcl
  exact jx_grown G ha hb hE hW hl z o hS1 hce hv hcl hc hs (k q9)
theorem at_A : ∀ w ∈ vx_atM "java/lang/ArrayIndexOutOfBoundsException" ["java/lang/IndexOutOfBoundsException", "java/lang/RuntimeException", "java/lang/Exception"], (w ∈ lw_tbl ∧ goodWord w = true) ∨ w ∈ wd_casts.map (fun q => Cond.castable q.1 q.2) ∨ w ∈ wd_decl.map (fun x => Cond.declares x) := by decide +kernel
theorem ot_A : ∀ w ∈ vx_atM "java/lang/ArrayIndexOutOfBoundsException" ["java/lang/IndexOutOfBoundsException", "java/lang/RuntimeException", "java/lang/Exception"], vx_ot w = true := by decide +kernel
theorem at_C : ∀ w ∈ vx_atM "java/lang/ClassCastException" ["java/lang/RuntimeException", "java/lang/Exception"], (w ∈ lw_tbl ∧ goodWord w = true) ∨ w ∈ wd_casts.map (fun q => Cond.castable q.1 q.2) ∨ w ∈ wd_decl.map (fun x => Cond.declares x) := by decide +kernel
theorem ot_C : ∀ w ∈ vx_atM "java/lang/ClassCastException" ["java/lang/RuntimeException", "java/lang/Exception"], vx_ot w = true := by decide +kernel
theorem at_N : ∀ w ∈ vx_atN 8, (w ∈ lw_tbl ∧ goodWord w = true) ∨ w ∈ wd_casts.map (fun q => Cond.castable q.1 q.2) ∨ w ∈ wd_decl.map (fun x => Cond.declares x) := by decide +kernel
theorem ot_N : ∀ w ∈ vx_atN 8, vx_ot w = true := by decide +kernel
theorem jx_oob {H : Heap} {locs : List Loc} {ls : Array Slot} {i : Int32} {n : Nat} (hn : n < 2 ^ 31) (G : jG l d X M) (ha : rC σ ≤ rC (xE X)) (hb : rS σ ≤ rS (xE X)) (hE : Ext (xE X) σ) (hW : wd_H d σ H) (hS : va_S (wd_A d) X.2.2.1.heap H locs) (hl : lv_has ls M.2.2.1 L)
    (hst : (st.map fun v => v.category).sum ≤ 100) (hv : vmx σ 3 222 (fun q τ => JX l d X D K Kx M pc τ L (exS 101) q)) :
    vx_Note X.1 l X.2.1 (xR X D) X.2.2.1 X.2.2.2.1 X.2.2.2.2.1 X.2.2.2.2.2.1 X.2.2.2.2.2.2.1 X.2.2.2.2.2.2.2.1 H locs (xa X σ) (xb X σ) (vx_MQ X.2.2.2.2.2.1 (wd_Q d (xE X) K) (wd_X d (xE X) Kx) X.2.2.2.2.1 X.2.2.1 (rC (xE X)) (rS (xE X)) (wd_A d)) (F0 X.2.2.2.1 pc ls st) "java/lang/ArrayIndexOutOfBoundsException" (toString "Index " ++ toString i ++ toString " out of bounds for length " ++ toString n : String) :=
  jx_note (names := ["java/lang/IndexOutOfBoundsException", "java/lang/RuntimeException", "java/lang/Exception"]) (nb := 212) G ha hb hE hW hS hl (by decide +kernel) (by decide +kernel) (by decide +kernel) (by decide +kernel) at_A ot_A (index_text_modelled i n) (index_text_bytes i hn) (by decide) (by decide) hst hv.1.1 hv.1.2 hv.2
theorem jx_nul {H : Heap} {locs : List Loc} {ls : Array Slot} (G : jG l d X M) (ha : rC σ ≤ rC (xE X)) (hb : rS σ ≤ rS (xE X)) (hE : Ext (xE X) σ) (hW : wd_H d σ H) (hS : va_S (wd_A d) X.2.2.1.heap H locs) (hl : lv_has ls M.2.2.1 L)
    (hst : (st.map fun v => v.category).sum ≤ 100) (hv : vmx σ 1 8 (fun q τ => JX l d X D K Kx M pc τ L (exS 102) q)) :
    vx_NoteN X.1 l X.2.1 (xR X D) X.2.2.1 X.2.2.2.1 X.2.2.2.2.1 X.2.2.2.2.2.1 X.2.2.2.2.2.2.1 X.2.2.2.2.2.2.2.1 H locs (xa X σ) (xb X σ) (vx_MQ X.2.2.2.2.2.1 (wd_Q d (xE X) K) (wd_X d (xE X) Kx) X.2.2.2.2.1 X.2.2.1 (rC (xE X)) (rS (xE X)) (wd_A d)) (F0 X.2.2.2.1 pc ls st) := by
  refine vx_npe (nb := 8) G.ex G.nt (vw_hat at_N G) ot_N G.kk.2.2.2.2.2.2.2.1 G.kk.2.2.2.2.2.2.2.2 hS (by rw [G.ml]; exact hl.1) (by show 7 < D + 16; omega) (by show _ ≤ 16000 + 64 * D; omega) (xr_1 ha hv.1.1) (xr_2 hb hv.1.2) G.lk ?_
  intro H1 q9 ce z o hS1 hce hv' hcl
  exact jx_grown G ha hb hE hW hl z o hS1 hce hv' hcl hv.1.1 hv.1.2 (hv.2 q9)
theorem wd_acell {s : State} {H : Heap} {g x n : Nat} (hK : va_K d.1 vwCl (wd_tys d.2.1) s) (hW : wd_H d σ H) (hN : aN σ g x = some n) (hg : g / 10000 < 12) : ∃ cell : Cell, H[aD σ g x]? = some cell ∧ s.isArrayOf cell (wd_ft (g / 10000)) ∧ cell.slots.size = n := by
  refine ⟨_, (hW.2.2.1 g x n hN).2.1, ?_, ?_⟩
  · unfold wd_arr
    split
    · rw [vp_cell_l]; exact (wd_aC hK hg).1 _ _
    · split
      · rw [vp_cell_q]; exact (wd_aC hK hg).1 _ _
      · rw [vp_cell_i]; exact (wd_aC hK hg).1 _ _
  · unfold wd_arr
    split
    · rw [vp_cell_l, arrV_size]
    · split
      · rw [vp_cell_q, arrV_size]
      · rw [vp_cell_i, arrV_size]
theorem j_ialdO {g x n : Nat} {i : Int32} (hd : decode M.2.1 pc = .ok (.iaload, 1)) (hN : aN σ g x = some n) (hg : g / 10000 < 12) (hn : n < 2 ^ 31) (hout : ¬ vp_in i n) (hst : (st.map fun v => v.category).sum ≤ 100) (hv : vmx σ 3 222 (fun q τ => JX l d X D K Kx M pc τ L (exS 101) q)) : J l d X D K Kx M pc σ L (.int i :: .ref (aD σ g x) :: st) := by
  intro G ha hb hE H locs ls hW hS hl T hT X9
  obtain ⟨cell, c1, c2, c3⟩ := wd_acell G.va hW hN hg
  obtain ⟨t', st', q'⟩ := jx_oob (i := i) hn G ha hb hE hW hS hl hst hv T hT X9
  refine ⟨t', ?_, q'⟩
  have h1 := X9.ialoadOut G.ex (by rw [hT]; exact c1) c2 (j := i) (by rw [c3]; exact Classical.byContradiction hout) (g := F0 X.2.2.2.1 pc ls (.int i :: .ref (aD σ g x) :: st)) rfl (rest := st) rfl (by rw [G.cd]; exact hd) t'
  rw [c3] at h1
  exact h1 st'
theorem j_laldO {g x n : Nat} {i : Int32} (hd : decode M.2.1 pc = .ok (.laload, 1)) (hN : aN σ g x = some n) (hg : g / 10000 < 12) (hn : n < 2 ^ 31) (hout : ¬ vp_in i n) (hst : (st.map fun v => v.category).sum ≤ 100) (hv : vmx σ 3 222 (fun q τ => JX l d X D K Kx M pc τ L (exS 101) q)) : J l d X D K Kx M pc σ L (.int i :: .ref (aD σ g x) :: st) := by
  intro G ha hb hE H locs ls hW hS hl T hT X9
  obtain ⟨cell, c1, c2, c3⟩ := wd_acell G.va hW hN hg
  obtain ⟨t', st', q'⟩ := jx_oob (i := i) hn G ha hb hE hW hS hl hst hv T hT X9
  refine ⟨t', ?_, q'⟩
  have h1 := X9.laloadOut G.ex (by rw [hT]; exact c1) c2 (j := i) (by rw [c3]; exact Classical.byContradiction hout) (g := F0 X.2.2.2.1 pc ls (.int i :: .ref (aD σ g x) :: st)) rfl (rest := st) rfl (by rw [G.cd]; exact hd) t'
  rw [c3] at h1
  exact h1 st'
theorem j_baldO {g x n : Nat} {i : Int32} (hd : decode M.2.1 pc = .ok (.baload, 1)) (hN : aN σ g x = some n) (hg : g / 10000 < 12) (hn : n < 2 ^ 31) (hout : ¬ vp_in i n) (hst : (st.map fun v => v.category).sum ≤ 100) (hv : vmx σ 3 222 (fun q τ => JX l d X D K Kx M pc τ L (exS 101) q)) : J l d X D K Kx M pc σ L (.int i :: .ref (aD σ g x) :: st) := by
  intro G ha hb hE H locs ls hW hS hl T hT X9
  obtain ⟨cell, c1, c2, c3⟩ := wd_acell G.va hW hN hg
  obtain ⟨t', st', q'⟩ := jx_oob (i := i) hn G ha hb hE hW hS hl hst hv T hT X9
  refine ⟨t', ?_, q'⟩
  have h1 := X9.baloadOut G.ex (by rw [hT]; exact c1) c2 (j := i) (by rw [c3]; exact Classical.byContradiction hout) (g := F0 X.2.2.2.1 pc ls (.int i :: .ref (aD σ g x) :: st)) rfl (rest := st) rfl (by rw [G.cd]; exact hd) t'
  rw [c3] at h1
  exact h1 st'
theorem j_saldO {g x n : Nat} {i : Int32} (hd : decode M.2.1 pc = .ok (.saload, 1)) (hN : aN σ g x = some n) (hg : g / 10000 < 12) (hn : n < 2 ^ 31) (hout : ¬ vp_in i n) (hst : (st.map fun v => v.category).sum ≤ 100) (hv : vmx σ 3 222 (fun q τ => JX l d X D K Kx M pc τ L (exS 101) q)) : J l d X D K Kx M pc σ L (.int i :: .ref (aD σ g x) :: st) := by
  intro G ha hb hE H locs ls hW hS hl T hT X9
  obtain ⟨cell, c1, c2, c3⟩ := wd_acell G.va hW hN hg
  obtain ⟨t', st', q'⟩ := jx_oob (i := i) hn G ha hb hE hW hS hl hst hv T hT X9
  refine ⟨t', ?_, q'⟩
  have h1 := X9.saloadOut G.ex (by rw [hT]; exact c1) c2 (j := i) (by rw [c3]; exact Classical.byContradiction hout) (g := F0 X.2.2.2.1 pc ls (.int i :: .ref (aD σ g x) :: st)) rfl (rest := st) rfl (by rw [G.cd]; exact hd) t'
  rw [c3] at h1
  exact h1 st'
theorem j_aaldO {g x n : Nat} {i : Int32} (hd : decode M.2.1 pc = .ok (.aaload, 1)) (hN : aN σ g x = some n) (hg : g / 10000 < 12) (hn : n < 2 ^ 31) (hout : ¬ vp_in i n) (hst : (st.map fun v => v.category).sum ≤ 100) (hv : vmx σ 3 222 (fun q τ => JX l d X D K Kx M pc τ L (exS 101) q)) : J l d X D K Kx M pc σ L (.int i :: .ref (aD σ g x) :: st) := by
  intro G ha hb hE H locs ls hW hS hl T hT X9
  obtain ⟨cell, c1, c2, c3⟩ := wd_acell G.va hW hN hg
  obtain ⟨t', st', q'⟩ := jx_oob (i := i) hn G ha hb hE hW hS hl hst hv T hT X9
  refine ⟨t', ?_, q'⟩
  have h1 := X9.aaloadOut G.ex (by rw [hT]; exact c1) c2 (j := i) (by rw [c3]; exact Classical.byContradiction hout) (g := F0 X.2.2.2.1 pc ls (.int i :: .ref (aD σ g x) :: st)) rfl (rest := st) rfl (by rw [G.cd]; exact hd) t'
  rw [c3] at h1
  exact h1 st'
theorem j_iastO {g x n : Nat} {i : Int32} {v : Int32} (hd : decode M.2.1 pc = .ok (.iastore, 1)) (hN : aN σ g x = some n) (hg : g / 10000 < 12) (hn : n < 2 ^ 31) (hout : ¬ vp_in i n) (hst : (st.map fun v => v.category).sum ≤ 100) (hv : vmx σ 3 222 (fun q τ => JX l d X D K Kx M pc τ L (exS 101) q)) : J l d X D K Kx M pc σ L (.int v :: .int i :: .ref (aD σ g x) :: st) := by
  intro G ha hb hE H locs ls hW hS hl T hT X9
  obtain ⟨cell, c1, c2, c3⟩ := wd_acell G.va hW hN hg
  obtain ⟨t', st', q'⟩ := jx_oob (i := i) hn G ha hb hE hW hS hl hst hv T hT X9
  refine ⟨t', ?_, q'⟩
  have h1 := X9.iastoreOut G.ex (by rw [hT]; exact c1) c2 (j := i) (by rw [c3]; exact Classical.byContradiction hout) (g := F0 X.2.2.2.1 pc ls (.int v :: .int i :: .ref (aD σ g x) :: st)) rfl (rest := st) rfl (by rw [G.cd]; exact hd) t'
  rw [c3] at h1
  exact h1 st'
theorem j_lastO {g x n : Nat} {i : Int32} {v : Int64} (hd : decode M.2.1 pc = .ok (.lastore, 1)) (hN : aN σ g x = some n) (hg : g / 10000 < 12) (hn : n < 2 ^ 31) (hout : ¬ vp_in i n) (hst : (st.map fun v => v.category).sum ≤ 100) (hv : vmx σ 3 222 (fun q τ => JX l d X D K Kx M pc τ L (exS 101) q)) : J l d X D K Kx M pc σ L (.long v :: .int i :: .ref (aD σ g x) :: st) := by
  intro G ha hb hE H locs ls hW hS hl T hT X9
  obtain ⟨cell, c1, c2, c3⟩ := wd_acell G.va hW hN hg
  obtain ⟨t', st', q'⟩ := jx_oob (i := i) hn G ha hb hE hW hS hl hst hv T hT X9
  refine ⟨t', ?_, q'⟩
  have h1 := X9.lastoreOut G.ex (by rw [hT]; exact c1) c2 (j := i) (by rw [c3]; exact Classical.byContradiction hout) (g := F0 X.2.2.2.1 pc ls (.long v :: .int i :: .ref (aD σ g x) :: st)) rfl (rest := st) rfl (by rw [G.cd]; exact hd) t'
  rw [c3] at h1
  exact h1 st'
theorem j_bastO {g x n : Nat} {i : Int32} {v : Int32} (hd : decode M.2.1 pc = .ok (.bastore, 1)) (hN : aN σ g x = some n) (hg : g / 10000 < 12) (hn : n < 2 ^ 31) (hout : ¬ vp_in i n) (hst : (st.map fun v => v.category).sum ≤ 100) (hv : vmx σ 3 222 (fun q τ => JX l d X D K Kx M pc τ L (exS 101) q)) : J l d X D K Kx M pc σ L (.int v :: .int i :: .ref (aD σ g x) :: st) := by
  intro G ha hb hE H locs ls hW hS hl T hT X9
  obtain ⟨cell, c1, c2, c3⟩ := wd_acell G.va hW hN hg
  obtain ⟨t', st', q'⟩ := jx_oob (i := i) hn G ha hb hE hW hS hl hst hv T hT X9
  refine ⟨t', ?_, q'⟩
  have h1 := X9.bastoreOut G.ex (by rw [hT]; exact c1) c2 (j := i) (by rw [c3]; exact Classical.byContradiction hout) (g := F0 X.2.2.2.1 pc ls (.int v :: .int i :: .ref (aD σ g x) :: st)) rfl (rest := st) rfl (by rw [G.cd]; exact hd) t'
  rw [c3] at h1
  exact h1 st'
theorem j_sastO {g x n : Nat} {i : Int32} {v : Int32} (hd : decode M.2.1 pc = .ok (.sastore, 1)) (hN : aN σ g x = some n) (hg : g / 10000 < 12) (hn : n < 2 ^ 31) (hout : ¬ vp_in i n) (hst : (st.map fun v => v.category).sum ≤ 100) (hv : vmx σ 3 222 (fun q τ => JX l d X D K Kx M pc τ L (exS 101) q)) : J l d X D K Kx M pc σ L (.int v :: .int i :: .ref (aD σ g x) :: st) := by
  intro G ha hb hE H locs ls hW hS hl T hT X9
  obtain ⟨cell, c1, c2, c3⟩ := wd_acell G.va hW hN hg
  obtain ⟨t', st', q'⟩ := jx_oob (i := i) hn G ha hb hE hW hS hl hst hv T hT X9
  refine ⟨t', ?_, q'⟩
  have h1 := X9.sastoreOut G.ex (by rw [hT]; exact c1) c2 (j := i) (by rw [c3]; exact Classical.byContradiction hout) (g := F0 X.2.2.2.1 pc ls (.int v :: .int i :: .ref (aD σ g x) :: st)) rfl (rest := st) rfl (by rw [G.cd]; exact hd) t'
  rw [c3] at h1
  exact h1 st'
theorem j_getN {c k g kd idx : Nat} {O n t ref : String} {fin : Bool} {ft : FieldType} (hd : decode M.2.1 pc = .ok (.getfield idx, 3)) (hf : fd c k g kd O n t fin ft) (hq : Cond.fieldLink M.1.cls idx ref n t ∈ lw_all) (hs : ref = O ∨ Cond.sameField ref O n t ∈ lw_all) (hst : (st.map fun v => v.category).sum ≤ 100) (hv : vmx σ 1 8 (fun q τ => JX l d X D K Kx M pc τ L (exS 102) q)) : J l d X D K Kx M pc σ L (.null :: st) := by
  intro G ha hb hE H locs ls hW hS hl
  obtain ⟨C, T, N, ty, ⟨h1, h2, h3, h4, h5⟩, hk, hT, hg, -⟩ := hf
  exact vx_getfN (cl := vwCl) (D := d.1) (ci := c) (C := C) (T := T) (N := N) (ref := ref) G.ex G.cd G.ws h2 G.own G.va h1 k hk (by rw [hT]; exact G.ws _ hq) (by rw [hT]; exact wd_same (hs.imp id (G.ws _))) hd (jx_nul G ha hb hE hW hS hl hst hv)
theorem j_callN {idx maxL n : Nat} {C : String} {y : MethodName} {bytes : ByteArray} {ret : Option FieldType} {st0 : List Value} (As : List Value) (hd : decode M.2.1 pc = .ok (.invokevirtual idx, 3)) (hlk : Cond.methodLink M.1.cls idx y ∈ lw_all) (hi : Cond.instanceMethod y ∈ lw_all) (hc : Cond.code y bytes maxL ret ∈ lw_all) (hsel : Cond.selects C y y ∈ lw_all) (hy : yok y n) (hx : y.cls ≠ "java/lang/invoke/MethodHandle" ∧ y.cls ≠ "java/lang/invoke/VarHandle") (hn : As.length = n) (hst0 : st0 = As.reverse ++ .null :: st) (hst : (st.map fun v => v.category).sum ≤ 100) (hv : vmx σ 1 8 (fun q τ => JX l d X D K Kx M pc τ L (exS 102) q)) : J l d X D K Kx M pc σ L st0 := by
  intro G ha hb hE H locs ls hW hS hl
  exact vx_invokeN (As := As) G.ex G.cd G.own (G.ws _ hlk) (G.ws _ hi) (G.ws _ hc) (G.ws _ hsel) hx (by rw [hn]; exact hy.2.2) hd (jx_nul G ha hb hE hW hS hl hst hv) hst0
theorem vmx_mono {a b : Nat} {P Q : Nat → wS → Prop} (h : vmx σ a b P) (k : ∀ q τ, Ext σ τ → P q τ → Q q τ) : vmx σ a b Q := ⟨h.1, fun q n c s e1 e2 e3 => k q _ Ext.bp (h.2 q n c s e1 e2 e3)⟩
theorem vm_sub1 {vm : Vm} {a b : ClassId} {k kb : Class} (hk : vm.classes[a]? = some k) (hs : k.super = some b) (hkb : vm.classes[b]? = some kb) : vm.isSubclass a b = true := by
  have hz : 1 ≤ vm.classes.size := by
    have := (Array.getElem?_eq_some_iff.mp hk).1
    omega
  obtain ⟨z, hz'⟩ : ∃ z, vm.classes.size = z + 1 := ⟨vm.classes.size - 1, by omega⟩
  unfold Vm.isSubclass
  rw [hz']
  simp [Vm.isSubclassAux, hk, hs]
/-- a superclass's method by super., found a class higher up -/
theorem vz_callSU {p : Program} {e : Env} {R : Room} {s : State} {m : MethodId} {args : Array Value} {below : List Frame} {meth : Method} {c : Code} {T : State} {locs : List Loc} {cells slots : Nat} (Y : Stand p l e R s m args below meth c T locs cells slots) (hexec : p.tables.exec = Jvm.exec) {own C0 : String} {index : Nat} {y : MethodName} {bytes : ByteArray} {maxL : Nat} {ret : Option FieldType}
    (hown : s.vm.findClass own = some m.cls) (hlink : (Cond.methodLink own index ⟨C0, y.name, y.desc⟩).before args s = true) (hsame : (Cond.sameMethod C0 y.cls y.name y.desc).before args s = true) (hsup : (Cond.superclass own C0).before args s = true) (hsup2 : (Cond.superclass C0 y.cls).before args s = true)
    (hinst : (Cond.instanceMethod y).before args s = true) (hcode : (Cond.code y bytes maxL ret).before args s = true) (hno : y.name ≠ "<init>")
    {W : Nat} {Pre : Pt → Array Value → Prop} {Post : Pt → Array Value → Option Value → Pt → Prop} {PostX : Pt → Array Value → Addr → Pt → Prop} (hK : vx_Back l R p e below s args y 3 W Pre Post PostX)
    {b : Addr} {cellB : Cell} {kB : Class} (hcell : T.heap[b]? = some cellB) (hobj : cellB.vm.isStatics = false) (hkB : s.vm.classes[cellB.cls]? = some kB)
    {g : JFrame} (hg : g.method = m) (hsize : g.locals.size = c.maxLocals) {argsL rest : List Value} (hlen : ∀ sig, parseMethodDescriptor y.desc = some sig → argsL.length = sig.parameters.length)
    (hstack : g.stack = argsL.reverse ++ .ref b :: rest) (hW : 2 * g.monitorRoom + (rest.map fun v => v.category).sum ≤ W) (hdg : decode c.code g.pc = .ok (.invokespecial index, 3))
    (hpre : ∀ vm₁, s.WarmedH vm₁ → Pre ⟨T.setVm vm₁, locs, cells, slots⟩ (Value.ref b :: argsL).toArray) :
    (∃ (v : Option Value) (vm₁ : Vm) (B : Pt), s.WarmedH vm₁ ∧ Stand p l e R s m args below meth c B.U B.locs B.cells B.slots ∧ Post ⟨T.setVm vm₁, locs, cells, slots⟩ (Value.ref b :: argsL).toArray v B ∧
      ∀ target, Steps p.tables e below (B.U.setTop { g with pc := g.pc + 3, stack := v.toList ++ rest }) target → Steps p.tables e below (T.setTop g) target) ∨
    (∃ (q : Addr) (vm₁ : Vm) (B : Pt), s.WarmedH vm₁ ∧ Stand p l e R s m args below meth c B.U B.locs B.cells B.slots ∧ PostX ⟨T.setVm vm₁, locs, cells, slots⟩ (Value.ref b :: argsL).toArray q B ∧
      Steps p.tables e below (T.setTop g) ((B.U.setTop { g with stack := rest }).pushFrame (.throwing q))) := by
  obtain ⟨mk, methM, hnamed, hmethM, hstM, habM⟩ := Cond.instanceMethod_spec hinst
  obtain ⟨methM', cM, hmethM', -, -, -, -, -, -, hsigM⟩ := Cond.code_spec hnamed hcode
  cases hmethM.symm.trans hmethM'
  obtain ⟨ps, dk, kp, hps, hdk, hkp, hsuper, -, -, hnid⟩ := Cond.superclass_spec hown hsup
  obtain ⟨ps2, dk2, kp2, hps2, hdk2, hkp2, hsuper2, -, -, -⟩ := Cond.superclass_spec hps hsup2
  have hn : s.methodNamed? ⟨y.cls, y.name, y.desc⟩ = some mk := hnamed
  have hpm : ps2 = mk.cls := Option.some.inj (hps2.symm.trans (findClass_of_methodNamed hnamed))
  have hsub : s.vm.isSubclass ps mk.cls = true := by rw [← hpm]; exact vm_sub1 hdk2 hsuper2 hkp2
  obtain ⟨vm₁, X₁, hstep₁⟩ := Y.invokespecialUp hexec hown (x := ⟨C0, y.name, y.desc⟩) hlink hsame hn hmethM hstM habM hno hdk hnid hps hsuper hsub (a := b) (cell := cellB) hcell
    (fun z h => by rw [h] at hobj; cases hobj) hkB (g := g) hg (argsL := argsL) (rest := rest) (hlen _ hsigM) hstack hdg
  rcases hK m meth c ⟨T.setVm vm₁, locs, cells, slots⟩ { g with stack := rest } (.invokespecial index) mk (Value.ref b :: argsL).toArray X₁ hg hsize hdg hW (X₁.named hnamed) (hpre vm₁ X₁.warmed) with ⟨v, B, X', hpost, hsteps⟩ | ⟨q, B, X', hpost, hsteps⟩
  · exact Or.inl ⟨v, vm₁, B, X₁.warmed, X', hpost, fun target h => hstep₁ _ (by rw [doInvoke_state]; exact hsteps.trans h)⟩
  · exact Or.inr ⟨q, vm₁, B, X₁.warmed, X', hpost, hstep₁ _ (by rw [doInvoke_state]; exact hsteps)⟩
theorem j_callUp {idx D' x c maxL n : Nat} {y : MethodName} {bytes : ByteArray} {ret : Option FieldType} {rv : vw_C} {st0 : List Value} {K' : jK} {Kx' : jKx} (C0 : String) (As rest : List Value) (hd : decode M.2.1 pc = .ok (.invokespecial idx, 3)) (hlk : Cond.methodLink M.1.cls idx ⟨C0, y.name, y.desc⟩ ∈ lw_all) (hsm : Cond.sameMethod C0 y.cls y.name y.desc ∈ lw_all) (hs1 : Cond.superclass M.1.cls C0 ∈ lw_all) (hs2 : Cond.superclass C0 y.cls ∈ lw_all) (hin : Cond.instanceMethod y ∈ lw_all) (hini : Cond.initialized y.cls ∈ lw_all) (hc : Cond.code y bytes maxL ret ∈ lw_all)
    (hy : yok y n) (hyi : y.name ≠ "<init>") (hn : As.length = n) (hmax : maxL ≤ 45) (hst : st0 = As.reverse ++ .ref x :: rest) (hrest : (rest.map fun v => v.category).sum ≤ 8) (hC : oC σ x = c + 1) (hr : vwCl[c]? = some rv) (hD : D' + 1 ≤ D)
    (hwp : WP l d (ws_ y bytes maxL ret) D' y σ (.ref x :: As) K' Kx') (kk : ∀ (v : Option Value) (σ' : wS), Ext σ σ' → K' v σ' → J l d X D K Kx M (pc + 3) σ' L (v.toList ++ rest)) (kx : ∀ (E : String) (q : Nat) (σ' : wS), Ext σ σ' → Kx' E q σ' → JX l d X D K Kx M pc σ' L E q) : J l d X D K Kx M pc σ L st0 := by
  intro G ha hb hE H locs ls hW hS hl
  have hroom := wd_room (σ := σ) (X := X) hD hmax
  have hws : ∀ w ∈ ws_ y bytes maxL ret, ∀ (a' : Array Value) (U : State), X.2.2.1.WarmedH U.vm → w.before a' U = true := pay_in G.ws (lw_meth hc)
  have hcw : Cond.code y bytes maxL ret ∈ ws_ y bytes maxL ret := List.mem_cons_self
  have hK : vx_Back l (xR X D) X.1 X.2.1 X.2.2.2.2.2.1 X.2.2.1 X.2.2.2.2.1 y 3 8 (PreOf (xR X D) (rC σ) (rS σ) (va_Pc (.ref x :: As) (wd_P d σ))) (PostOf (wd_Q d σ K') (rC σ) (rS σ) (wd_A d)) (vx_Post (wd_X d σ Kx') (rC σ) (rS σ) (wd_A d)) :=
    vx_back (bytes := bytes) (maxL := maxL) (ret := ret) (hwp G.nt) wd_blind rfl rfl hroom.1 hroom.2 hws hcw (fun a' U hW => word_at hW (Or.inl (by first | rfl | simp [Cond.onTables, Cond.keeps, Cond.steady])) (G.ws _ hini))
  obtain ⟨cellB, hcB, hoB, hclB⟩ := wd_recv G.va hW hC hr
  obtain ⟨hfc, kB, hkB, -⟩ := (G.va.1 c rv hr).2
  rw [Option.some.inj (hfc.symm.trans hclB)] at hkB
  refine j_after (aa := (Value.ref x :: As).toArray) G hS hl hE ?_ kk kx
  intro T hT Y
  rcases vz_callSU Y G.ex (bytes := bytes) (maxL := maxL) (ret := ret) G.own (G.ws _ hlk) (G.ws _ hsm) (G.ws _ hs1) (G.ws _ hs2) (G.ws _ hin) (G.ws _ hc) hyi hK (by rw [hT]; exact hcB) hoB hkB (g := F0 X.2.2.2.1 pc ls st0) rfl (by rw [G.ml]; exact hl.1) (argsL := As) (rest := rest) (fun sig h => by have := hy.2.2; rw [h] at this; exact hn.trans (Option.some.inj this).symm) hst (lv_room hrest) (by rw [G.cd]; exact hd)
    (fun vm₁ hW₁ => ⟨xr_1 ha (Nat.le_refl _), xr_2 hb (Nat.le_refl _), wd_Pc G hW hS (T.setVm vm₁) hT hW₁⟩) with ⟨v, vm₁, ⟨U', l2, c2, s2⟩, hW₁, X', ⟨g', mk, t, L', e1, e2, hq, h1, hL, h2, h3⟩, stp⟩ | ⟨q, vm₁, ⟨U', l2, c2, s2⟩, hW₁, X', ⟨g', mk, t, L', E, ce, e1, e2, hq, hce, hcv, hcl, h1, hL, h2, h3⟩, stp⟩
  · dsimp only [Pt.U, Pt.locs, Pt.cells, Pt.slots] at X' e1 e2 h1 h2 h3 stp
    subst h1; subst h2; subst h3
    exact Or.inl ⟨v, (T.setVm vm₁).calling g' mk (Value.ref x :: As).toArray, t, U', L', hT, X', hL, e1, e2, hq, stp⟩
  · dsimp only [Pt.U, Pt.locs, Pt.cells, Pt.slots] at X' e1 e2 h1 h2 h3 stp hcl
    subst h1; subst h2; subst h3
    exact Or.inr ⟨q, (T.setVm vm₁).calling g' mk (Value.ref x :: As).toArray, t, U', L', E, ce, hT, X', hL, e1, e2, hq, hce, hcv, vx_cls hW₁ hcl, stp⟩

theorem vz_makeS {p : Program} {l : Launch} {e : Env} {R : Room} {s : State} {m : MethodId} {args : Array Value} {below : List Frame} {meth : Method} {c : Code} {H : Heap} {locs : List Loc} {cells slots : Nat} {Q : State → Prop} {ls : Array Slot} {rest : List Value} {cc : ByteArray} {pc : Nat} (hexec : p.tables.exec = Jvm.exec) (hb : c.code = cc) (hl : l.stackTraces = false) {own cls text : String} {names : List String} {ik is ic sa : Nat} {A : Nat → Prop}
    (hown : s.vm.findClass own = some m.cls) (hcls : Bundle.fit cls = true) (hnames : ∀ n ∈ names, Bundle.fit n = true)
    (hk : (Cond.classLink own ik cls).before args s = true) (hini : (Cond.initialized cls).before args s = true) (hstr : vk_R own is text sa s) (hat : ∀ w ∈ vx_atS own ic cls names, w.before args s = true)
    (hgood : ∀ w ∈ Cond.classLink own ik cls :: Cond.initialized cls :: vx_atS own ic cls names, vx_ot w = true)
    (hU : vx_Zq Bundle.tN "UNASSIGNED_STACK" Bundle.steD A s s.heap) (hN : vx_Zq Bundle.tN "SUPPRESSED_SENTINEL" Bundle.listD A s s.heap) (hS : va_S A s.heap H locs) (hsize : ls.size = c.maxLocals)
    (d0 : decode cc pc = .ok (.new ik, 3)) (d3 : decode cc (pc + 3) = .ok (.dup, 1)) (d4 : decode cc (pc + 4) = .ok (.ldc is, 2)) (d6 : decode cc (pc + 6) = .ok (.invokespecial ic, 3))
    (hRframes : names.length + 3 < R.frames) (hRlocals : (rest.map fun v => v.category).sum + (13 * (names.length + 1) + 43) ≤ R.locals) (hRcells : cells + 1 ≤ R.cells) (hRslots : slots + 6 ≤ R.slots)
    (kk : ∀ (q : Nat) (H1 : Heap) (ce : Cell), H.size ≤ H1.size → (∀ q : Nat, q < H.size → H1[q]? = H[q]?) → va_S A s.heap H1 locs → H1[q]? = some ce → ce.vm = .none → s.vm.findClass cls = some ce.cls → W p l e R s m args below meth c H1 locs (cells + 1) (slots + 6) Q (F0 m (pc + 9) ls (.ref q :: rest))) :
    W p l e R s m args below meth c H locs cells slots Q (F0 m pc ls rest) := by
  intro T hT X
  subst hT
  have htr : e.platform.stackTraces = false := (show e.platform.stackTraces = l.stackTraces by rw [X.admits.platform]).trans hl
  have Y := vx_rebase X (R' := { frames := R.frames, locals := R.locals, cells := 1, slots := 6 }) (Nat.le_refl _) (Nat.le_refl _) hRcells hRslots
  obtain ⟨s', hA'⟩ : ∃ z, z = (T.setVm s.vm).setFrames (.invoking m args :: below) := ⟨_, rfl⟩
  rw [← hA'] at Y
  have hvm : s'.vm = s.vm := by rw [hA']; rfl
  have hhp : s'.heap = T.heap := by rw [hA']; rfl
  have hW0 : s.WarmedH s'.vm := by rw [hvm]; exact State.WarmedH.refl s
  have hat' : ∀ w ∈ vx_atS own ic cls names, w.before args s' = true := fun w hw => vx_ot_at hW0 hvm.symm (hgood w (List.mem_cons_of_mem _ (List.mem_cons_of_mem _ hw))) (hat w hw)
  have hk' : (Cond.classLink own ik cls).before args s' = true := vx_ot_at hW0 hvm.symm (hgood _ List.mem_cons_self) hk
  have hini' : (Cond.initialized cls).before args s' = true := vx_ot_at hW0 hvm.symm (hgood _ (List.mem_cons_of_mem _ List.mem_cons_self)) hini
  have hU' : vx_Zq Bundle.tN "UNASSIGNED_STACK" Bundle.steD A s' s'.heap := by rw [hhp]; exact vx_Zq.moved hW0.alike (hU.kept hS.2.1)
  have hN' : vx_Zq Bundle.tN "SUPPRESSED_SENTINEL" Bundle.listD A s' s'.heap := by rw [hhp]; exact vx_Zq.moved hW0.alike (hN.kept hS.2.1)
  have h : ∀ w ∈ Bundle.ownAtoms own ic cls names, w.before args s' = true := vx_own hat' (vx_isRefq hU'.1) (vx_isRefq hN'.1) hU'.2.word hN'.2.word
  have hown' : s'.vm.findClass own = some m.cls := by rw [hvm]; exact hown
  have hins : (Cond.instantiable cls 6).before args s' = true := h _ (by simp [Bundle.ownAtoms])
  obtain ⟨vm₁, cX, kX, hfX, hkX, -, -, X₁, st1⟩ := Y.newCold hexec (own := own) (C := cls) (index := ik) (n := 6) hown' hk' hins hini'
    (g := F0 m pc ls rest) rfl (by rw [hb]; exact d0) (Nat.le_refl _) (Nat.le_refl _)
  generalize hT1 : (T.setVm vm₁).pushCell { cls := cX, slots := kX.instanceTypes.map defaultValue, vm := .none } = T1 at X₁ st1
  have hcat : (Value.ref T.heap.size).category = 1 := rfl
  have hcellA : T1.heap[T.heap.size]? = some (freshCell cX kX) := by rw [← hT1]; exact State.heap_pushCell_size _ _
  have d3' : decode c.code (pc + 3) = .ok (.dup, 1) := by rw [hb]; exact d3
  have d4' : decode c.code (pc + 4) = .ok (.ldc is, 2) := by rw [hb]; exact d4
  have hstr' : vk_R own is text sa s' := vk_R.warm hW0 hstr
  obtain ⟨V, ce, L, Z, hL, hlt, hcl9, hvm9, st⟩ := vx_ctorMadeS X₁ hexec htr (own := own) (cls := cls) (names := names) (ic := ic) hown' hcls hnames h (fun x hx => nomatch hx) hfX hkX hcellA (by rw [hhp]; exact Nat.le_refl _) (msg := .ref sa) rfl
    (g := { method := m, pc := pc + 6, locals := ls, stack := .ref sa :: .ref T.heap.size :: .ref T.heap.size :: rest, locked := none }) rfl hsize (rest := rest) rfl
    (by rw [hb]; exact d6) hRframes (by simp only [List.map_cons, List.sum_cons, hcat]; omega)
  have Z0 := Stand.forget (locs := []) Z (fun y hy => by rw [hL y hy, hhp]; exact Nat.le_refl _)
  obtain ⟨f1, f2⟩ := vx_frame Z0.same
  rw [hhp] at f1 f2
  have hcid : s.vm.findClass cls = some ce.cls := by
    rw [hcl9, ← hvm]; exact hfX
  have hh : (V.setCell T.heap.size ce).heap[T.heap.size]? = some ce := heapAt_setCell_self (s := V) ce hlt
  subst hA'
  have X5 := vx_back9 X Y Z0
  have X6 : Stand p l e R s m args below meth c (V.setCell T.heap.size ce) locs (cells + 1) (slots + 6) := { X5 with same := X5.same.mono (by omega) (by omega) }
  obtain ⟨t, a1, b1⟩ := kk T.heap.size (V.setCell T.heap.size ce).heap ce f1 (fun q hq => f2 q hq (fun z hz => nomatch hz)) ⟨Nat.le_trans hS.1 f1, fun q h1 h2 => (f2 q (Nat.lt_of_lt_of_le h1 hS.1) (fun z hz => nomatch hz)).trans (hS.2.1 q h1 h2), hS.2.2⟩ hh hvm9 hcid _ rfl X6
  refine ⟨t, st1 _ ?_, b1⟩
  show Steps p.tables e below (T1.setTop { method := m, pc := pc + 3, locals := ls, stack := .ref T.heap.size :: rest, locked := none }) _
  jvm_step X₁.here [X₁.here.top, hexec, d3', Value.category]
  exact X₁.ldcString hexec (own := own) (text := text) (index := is) (a := sa) hown' hstr'.1 hstr'.2
    (g := { method := m, pc := pc + 4, locals := ls, stack := .ref T.heap.size :: .ref T.heap.size :: rest, locked := none }) rfl d4' _ (st _ a1)
theorem at_R : ∀ w ∈ vx_atS "java/lang/Math" 113 "java/lang/ArithmeticException" ["java/lang/RuntimeException", "java/lang/Exception"], (w ∈ lw_tbl ∧ goodWord w = true) ∨ w ∈ wd_casts.map (fun q => Cond.castable q.1 q.2) ∨ w ∈ wd_decl.map (fun x => Cond.declares x) := by decide +kernel
theorem ot_R : ∀ w ∈ Cond.classLink "java/lang/Math" 109 "java/lang/ArithmeticException" :: Cond.initialized "java/lang/ArithmeticException" :: vx_atS "java/lang/Math" 113 "java/lang/ArithmeticException" ["java/lang/RuntimeException", "java/lang/Exception"], vx_ot w = true := by decide +kernel
theorem j_thrA (hM : M.1.cls = "java/lang/Math") (d0 : decode M.2.1 pc = .ok (.new 109, 3)) (d3 : decode M.2.1 (pc + 3) = .ok (.dup, 1)) (d4 : decode M.2.1 (pc + 4) = .ok (.ldc 111, 2)) (d6 : decode M.2.1 (pc + 6) = .ok (.invokespecial 113, 3)) (d9 : decode M.2.1 (pc + 9) = .ok (.athrow, 1))
    (hq : Cond.classLink "java/lang/Math" 109 "java/lang/ArithmeticException" ∈ lw_all) (hi : Cond.initialized "java/lang/ArithmeticException" ∈ lw_all) (hst : (st.map fun v => v.category).sum ≤ 100) (hv : vmx σ 1 6 (fun q τ => JX l d X D K Kx M (pc + 9) τ L (exS 104) q)) : J l d X D K Kx M pc σ L st := by
  intro G ha hb hE H locs ls hW hS hl
  exact vz_makeS (A := wd_A d) (sa := d.2.2.1 14) G.ex G.cd G.nt (own := "java/lang/Math") (cls := "java/lang/ArithmeticException") (text := "integer overflow") (names := ["java/lang/RuntimeException", "java/lang/Exception"]) (ik := 109) (is := 111) (ic := 113) (by rw [← hM]; exact G.own) (by decide +kernel) (by decide +kernel) (G.ws _ hq) (G.ws _ hi) (G.kk.2.2.2.1 ("java/lang/Math", 111, "integer overflow", 14) (by decide)) (vw_hat at_R G) ot_R G.kk.2.2.2.2.2.2.2.1 G.kk.2.2.2.2.2.2.2.2 hS (by rw [G.ml]; exact hl.1) d0 d3 d4 d6 (by show _ < D + 16; simp <;> omega) (by show _ ≤ 16000 + 64 * D; simp <;> omega) (xr_1 ha hv.1.1) (xr_2 hb hv.1.2)
    (fun q H1 ce z o hS1 hce hv' hcl => vx_athrow (pc := pc + 9) G.ex G.cd d9 (jx_grown (pc := pc + 9) G ha hb hE hW hl z o hS1 hce hv' hcl hv.1.1 hv.1.2 (hv.2 q)))

end JR7
