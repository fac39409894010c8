set_option linter.unusedVariables false
set_option maxRecDepth 100000
section JR2
variable {l : Launch} {d : wD} {X : jX} {D : Nat} {K : jK} {Kx : jKx} {M : jM} {pc : Nat} {σ : wS} {L L2 : List (Nat × Value)} {st : List Value}
theorem mkO_d {c c' N : Nat} (k : Nat) : wd_f (mkO σ c N) c' (nx σ) k = wd_d (wd_gk c' k).2 := by
  show wd_v (mkO σ c N) (wd_gk c' k) (nx σ) = _
  generalize wd_gk c' k = gk
  obtain ⟨g, kd⟩ := gk
  match kd with
  | 0 => simp [wd_v, mkO, oI, wd_d]
  | 1 => simp [wd_v, mkO, oJ, wd_d]
  | 2 => simp [wd_v, mkO, oR, wd_d, va_rf]
  | n + 3 => simp [wd_v, mkO, aN, wd_d]
theorem wd_S1 {A : Nat → Prop} {H0 H H1 : Heap} {locs : List Loc} (hS : va_S A H0 H locs) (z : H1.size = H.size + 1) (o1 : ∀ q, q < H.size → H1[q]? = H[q]?) : va_S A H0 H1 locs :=
  ⟨Nat.le_trans hS.1 (by omega), fun x h1 h2 => (o1 x (Nat.lt_of_lt_of_le h1 hS.1)).trans (hS.2.1 x h1 h2), hS.2.2⟩
theorem wd_fresh {H : Heap} (hW : wd_H d σ H) : oC σ (nx σ) = 0 ∧ ∀ g x n, aN σ g x = some n → aD σ g x ≠ nx σ := by
  have hz : H.size = nx σ := hW.1.1
  refine ⟨?_, fun g x n h e => Nat.lt_irrefl H.size (by have := wd_ltA hW h; rw [e, ← hz] at this; exact this)⟩
  cases ho : oC σ (nx σ) with
  | zero => rfl
  | succ c => exact absurd (wd_lt hW ho) (by rw [hz]; exact Nat.lt_irrefl _)
theorem xa_1 {k : Nat} {τ : wS} (h : rC τ = rC σ - k) (h1 : rC σ ≤ rC (xE X)) (h2 : k ≤ rC σ) : xa X σ + k = xa X τ := by unfold xa; omega
theorem xb_1 {k : Nat} {τ : wS} (h : rS τ = rS σ - k) (h1 : rS σ ≤ rS (xE X)) (h2 : k ≤ rS σ) : xb X σ + k = xb X τ := by unfold xb; omega
theorem xr_1 {k : Nat} (h1 : rC σ ≤ rC (xE X)) (h2 : k ≤ rC σ) : xa X σ + k ≤ (xR X D).cells := by show rC (xE X) - rC σ + k ≤ rC (xE X); omega
theorem xr_2 {k : Nat} (h1 : rS σ ≤ rS (xE X)) (h2 : k ≤ rS σ) : xb X σ + k ≤ (xR X D).slots := by show rS (xE X) - rS σ + k ≤ rS (xE X); omega
theorem j_new {c idx N : Nat} {C : String} {T : u_T} {ty : Nat → FieldType} (hd : decode M.2.1 pc = .ok (.new idx, 3)) (hc : cd c C T N ty) (hq : Cond.classLink M.1.cls idx C ∈ lw_all) (hi : Cond.instantiable C N ∈ lw_all) (hini : Cond.initialized C ∈ lw_all) (ha1 : 1 ≤ rC σ) (hb1 : N ≤ rS σ)
    (kk : oC σ (nx σ) = 0 → (∀ g x n, aN σ g x = some n → aD σ g x ≠ nx σ) → J l d X D K Kx M (pc + 3) (mkO σ c N) L (.ref (nx σ) :: st)) : J l d X D K Kx M pc σ L st := by
  intro G ha hb hE H locs ls hW hS hl
  obtain ⟨h1, h2, h3, h4, h5, h6⟩ := hc
  have hKn := G.va.1 c _ h1
  have hz : H.size = nx σ := hW.1.1
  refine W.newcK G.ex G.cd G.own (G.ws _ hq) (G.ws _ hi) (G.ws _ hini) rfl hd (xr_1 ha ha1) (xr_2 hb hb1) hKn.2.1 hz fun H1 kC hkC e1 z1 o1 => ?_
  obtain ⟨c9, k9, f1, f2, -, -, -, f3⟩ := Cond.instantiable_spec (G.ws _ hi)
  have hk9 : k9 = kC := by
    cases hKn.2.1.symm.trans f1
    exact Option.some.inj (f2.symm.trans hkC)
  have hN' : wd_N d (mkO σ c N) H1 := hW.1.new (by rw [z1, hz]) (fun q hq => o1 q (by rw [← hz]; exact hq)) (by rw [hz]; exact e1) (by rw [← hk9]; simp [blank, f3]) ha1 hb1 rfl rfl rfl
  rw [xa_1 (τ := mkO σ c N) rfl ha ha1, xb_1 (τ := mkO σ c N) rfl hb hb1]
  exact kk (wd_fresh hW).1 (wd_fresh hW).2 G (Nat.le_trans (Nat.sub_le _ _) ha) (Nat.le_trans (Nat.sub_le _ _) hb) (hE.trans (Ext.mkO (wd_fresh hW).1)) H1 locs ls (wd_newO hN' hW h1 (fun q hq => o1 q (by rw [← hz]; exact hq)) ((u_born ty G.ws h2 hKn hkC e1 h3).to (fun k hk => by rw [mkO_d]; exact h6 k hk))) (wd_S1 hS (by rw [z1, hz]) (fun q hq => o1 q (by rw [← hz]; exact hq))) hl
theorem wd_aC {s : State} (hK : va_K d.1 vwCl (wd_tys d.2.1) s) {t : Nat} (ht : t < 12) : ArrOfT s (d.2.1 t) (wd_ft t) ∧ va_RA s (d.2.1 t) (wd_ft t) :=
  hK.2 t (d.2.1 t, wd_ft t) (by simp [wd_tys, ht])
theorem j_newa {atype : ArrayType} {N0 : Nat} {n : Int32} (t : Nat) (hd : decode M.2.1 pc = .ok (.newarray atype, 2)) (hq : Cond.arrayClass (newarray.typeOf atype) ∈ lw_all) (ht : wd_ft t = newarray.typeOf atype) (ht6 : t < 6) (hn : ¬ n < 0) (hN : n.toNatClampNeg = N0) (hbytes : N0 * componentBytes (newarray.typeOf atype) ≤ 536870912) (ha1 : 1 ≤ rC σ) (hb1 : N0 ≤ rS σ)
    (kk : oC σ (nx σ) = 0 → (∀ g x n, aN σ g x = some n → aD σ g x ≠ nx σ) → J l d X D K Kx M (pc + 2) (mkA σ (10000 * t) N0) L (.ref (aD (mkA σ (10000 * t) N0) (10000 * t) (nx σ)) :: st)) : J l d X D K Kx M pc σ L (.int n :: st) := by
  intro G ha hb hE H locs ls hW hS hl
  have hz : H.size = nx σ := hW.1.1
  refine va_newaK G.ex G.cd (G.ws _ hq) rfl hd rfl hn hN hbytes (xr_1 ha ha1) (xr_2 hb hb1) hz fun H1 cA e1 z1 o1 hAr hNm => ?_
  have hcA : cA = d.2.1 t := by
    have h1 := (wd_aC G.va (t := t) (by omega)).2
    rw [ht] at h1
    have h2 : X.2.2.1.vm.findClass ("[" ++ (newarray.typeOf atype).toString) = some (d.2.1 t) := by cases atype <;> exact h1
    exact Option.some.inj (hNm.symm.trans h2)
  subst hcA
  have hdiv : 10000 * t / 10000 = t := by omega
  have hq' : aD (mkA σ (10000 * t) N0) (10000 * t) (nx σ) = nx σ := u2_s
  have hcell : H1[nx σ]? = some (vp_cell (d.2.1 (10000 * t / 10000)) (wd_arr (mkA σ (10000 * t) N0) (10000 * t) (nx σ) N0)) := by
    rw [e1, hdiv]
    have h6 : ¬ 6 ≤ t := by omega
    by_cases h1 : t = 1
    · have ez : aJ (mkA σ (10000 * t) N0) (10000 * t) (nx σ) = fun _ => 0 := u2_s
      have hty : newarray.typeOf atype = .long := by rw [← ht, h1]; rfl
      have he : wd_arr (mkA σ (10000 * t) N0) (10000 * t) (nx σ) N0 = (N0, .inr (.inl (fun _ => 0))) := by
        unfold wd_arr
        rw [hdiv, if_pos h1, ez]
      rw [hty, he]
      rfl
    · have ez : aI (mkA σ (10000 * t) N0) (10000 * t) (nx σ) = fun _ => 0 := u2_s
      simp only [wd_arr, hdiv, h1, if_false, h6, ez]
      have hdv : defaultValue (newarray.typeOf atype) = .int 0 := by
        rw [← ht]
        rcases (show t = 0 ∨ t = 2 ∨ t = 3 ∨ t = 4 ∨ t = 5 by omega) with rfl | rfl | rfl | rfl | rfl <;> rfl
      rw [hdv]
      rfl
  have hN' : wd_N d (mkA σ (10000 * t) N0) H1 := hW.1.new (by rw [z1, hz]) (fun q hq => o1 q (by rw [← hz]; exact hq)) (by rw [hz]; exact e1) (by rw [arrV_size]) ha1 hb1 rfl rfl rfl
  rw [xa_1 (τ := mkA σ (10000 * t) N0) rfl ha ha1, xb_1 (τ := mkA σ (10000 * t) N0) rfl hb hb1]
  have k := kk (wd_fresh hW).1 (wd_fresh hW).2 G (Nat.le_trans (Nat.sub_le _ _) ha) (Nat.le_trans (Nat.sub_le _ _) hb) (hE.trans (Ext.mkA (by omega))) H1 locs ls (wd_newA hN' hW (fun q hq => o1 q (by rw [← hz]; exact hq)) hcell) (wd_S1 hS (by rw [z1, hz]) (fun q hq => o1 q (by rw [← hz]; exact hq))) hl
  rw [hq'] at k
  exact k
theorem j_anew {C : String} {idx N0 : Nat} {n : Int32} (t : Nat) (hd : decode M.2.1 pc = .ok (.anewarray idx, 3)) (hq : Cond.classLink M.1.cls idx C ∈ lw_all) (hC : C ∈ wd_aos) (ht : wd_ft t = .object C) (ht6 : 6 ≤ t ∧ t < 12) (hn : ¬ n < 0) (hN : n.toNatClampNeg = N0) (hbytes : N0 * 4 ≤ 536870912) (ha1 : 1 ≤ rC σ) (hb1 : N0 ≤ rS σ)
    (kk : oC σ (nx σ) = 0 → (∀ g x n, aN σ g x = some n → aD σ g x ≠ nx σ) → J l d X D K Kx M (pc + 3) (mkA σ (10000 * t) N0) L (.ref (aD (mkA σ (10000 * t) N0) (10000 * t) (nx σ)) :: st)) : J l d X D K Kx M pc σ L (.int n :: st) := by
  subst hN
  intro G ha hb hE H locs ls hW hS hl
  have hz : H.size = nx σ := hW.1.1
  refine W.anew G.ex G.cd G.own (G.ws _ hq) (va_AO.use (G.kk.1.2.2.1 C hC)) rfl hd rfl hn hbytes (xr_1 ha ha1) (xr_2 hb hb1) fun cA kA comp f1 f2 f3 f4 => ?_
  have hcA : cA = d.2.1 t := by
    obtain ⟨_, _, _, _, _, h1⟩ := (show va_RA X.2.2.1 (d.2.1 t) (.object C) from by rw [← ht]; exact (wd_aC G.va ht6.2).2)
    exact Option.some.inj (f1.symm.trans h1)
  subst hcA
  have hdiv : 10000 * t / 10000 = t := by omega
  have hq' : aD (mkA σ (10000 * t) n.toNatClampNeg) (10000 * t) (nx σ) = nx σ := u2_s
  generalize hH1 : H.push ({ cls := d.2.1 t, slots := Array.replicate n.toNatClampNeg .null, vm := .none } : Cell) = H1
  have z1 : H1.size = H.size + 1 := by rw [← hH1, Array.size_push]
  have e1 : H1[H.size]? = some (arrV (d.2.1 t) n.toNatClampNeg (fun _ => .null)) := by rw [← hH1, Array.getElem?_push_size, ← arrV_new]
  have o1 : ∀ q : Nat, q < H.size → H1[q]? = H[q]? := fun q hq => by rw [← hH1, Array.getElem?_push, if_neg (Nat.ne_of_lt hq)]
  have hcell : H1[nx σ]? = some (vp_cell (d.2.1 (10000 * t / 10000)) (wd_arr (mkA σ (10000 * t) n.toNatClampNeg) (10000 * t) (nx σ) n.toNatClampNeg)) := by
    rw [← hz, e1, hdiv, hz]
    have ez : aR (mkA σ (10000 * t) n.toNatClampNeg) (10000 * t) (nx σ) = fun _ => none := u2_s
    have h1 : ¬ t = 1 := by omega
    simp only [wd_arr, hdiv, h1, if_false, ht6.1, if_true, ez]
    rfl
  have hN' : wd_N d (mkA σ (10000 * t) n.toNatClampNeg) H1 := hW.1.new z1 o1 e1 (by rw [arrV_size]) ha1 hb1 rfl rfl rfl
  rw [xa_1 (τ := mkA σ (10000 * t) n.toNatClampNeg) rfl ha ha1, xb_1 (τ := mkA σ (10000 * t) n.toNatClampNeg) rfl hb hb1]
  have k := kk (wd_fresh hW).1 (wd_fresh hW).2 G (Nat.le_trans (Nat.sub_le _ _) ha) (Nat.le_trans (Nat.sub_le _ _) hb) (hE.trans (Ext.mkA (by omega))) H1 locs ls (wd_newA hN' hW o1 hcell) (wd_S1 hS z1 o1) hl
  rw [hq'] at k
  rw [hz]
  exact k
/-! arrays -/
theorem wd_PA {H : Heap} {g x n : Nat} (hW : wd_H d σ H) (hN : aN σ g x = some n) : va_P d.1 vwCl [(aD σ g x, .inl (d.2.1 (g / 10000), wd_arr σ g x n))] H := by
  intro k q hk
  have hz : k < 1 := (List.getElem?_eq_some_iff.mp hk).1
  rw [show k = 0 by omega] at hk
  cases hk
  exact (hW.2.2.1 g x n hN).2.1
theorem wd_ai {g x n t : Nat} (hg : g / 10000 = t) (h : t ≠ 1 ∧ t < 6) : wd_arr σ g x n = (n, .inl (aI σ g x)) := by
  have h6 : ¬ 6 ≤ t := by omega
  simp only [wd_arr, hg, h.1, if_false, h6]
theorem wd_aj {g x n : Nat} (hg : g / 10000 = 1) : wd_arr σ g x n = (n, .inr (.inl (aJ σ g x))) := by
  simp only [wd_arr, hg, if_true]
theorem wd_ar {g x n t : Nat} (hg : g / 10000 = t) (h : 6 ≤ t) : wd_arr σ g x n = (n, .inr (.inr (.inr (.inr (aR σ g x))))) := by
  have h6 : ¬ t = 1 := by omega
  simp only [wd_arr, hg, h6, if_false, h, if_true]
theorem j_iald {g x n : Nat} {i : Int32} (hd : decode M.2.1 pc = .ok (.iaload, 1)) (hN : aN σ g x = some n) (hg : g / 10000 = 0) (hin : vp_in i n) (kk : J l d X D K Kx M (pc + 1) σ L (.int (aI σ g x i.toNatClampNeg) :: st)) : J l d X D K Kx M pc σ L (.int i :: .ref (aD σ g x) :: st) := by
  intro G ha hb hE H locs ls hW hS hl
  have hP := wd_PA hW hN
  rw [wd_ai hg (by decide), hg] at hP
  exact va_iald (D := d.1) G.ex G.cd G.va hP 0 0 rfl rfl hin hd (kk G ha hb hE H locs ls hW hS hl)
theorem j_iast {g x n : Nat} {i v : Int32} (hd : decode M.2.1 pc = .ok (.iastore, 1)) (hN : aN σ g x = some n) (hg : g / 10000 = 0) (hin : vp_in i n) (kk : J l d X D K Kx M (pc + 1) (sA σ g x (upd (aI σ g x) i.toNatClampNeg v)) L st) : J l d X D K Kx M pc σ L (.int v :: .int i :: .ref (aD σ g x) :: st) := by
  intro G ha hb hE H locs ls hW hS hl
  have hcell := (hW.2.2.1 g x n hN).2.1
  rw [wd_ai hg (by decide), hg, vp_cell_i] at hcell
  refine W.iast G.ex G.cd hcell ((wd_aC G.va (t := 0) (by decide)).1 n (fun j => .int (aI σ g x j))) (fun q => by cases q) (by rw [arrV_size]; exact hin) rfl rfl hd fun H1 e z oq => ?_
  refine kk G ha hb hE H1 _ ls (wd_putA (hW.1.put z oq hcell e (by rw [arrV_store, arrV_size, arrV_size]) rfl) (σ' := sA σ g x (upd (aI σ g x) i.toNatClampNeg v)) hW hN oq ?_ rfl rfl rfl rfl rfl rfl ?_) (hS.put z oq (hW.2.2.1 g x n hN).1) hl
  · rw [e, wd_ai hg (by decide), hg, vp_cell_i, arrV_store]
    have e1 : aI (sA σ g x (upd (aI σ g x) i.toNatClampNeg v)) g x = upd (aI σ g x) i.toNatClampNeg v := u2_s
    rw [e1]
    congr 2
    funext q
    by_cases hq : q = i.toNatClampNeg
    · subst hq
      simp [updV, upd, vp_nar]
      try rfl
    · simp [updV, upd, hq]
  · intro g' a' n' h
    have e3 : aI (sA σ g x (upd (aI σ g x) i.toNatClampNeg v)) g' a' = aI σ g' a' := mvA_E (by rintro ⟨rfl, rfl⟩; rcases h with h | h <;> exact h rfl)
    simp only [wd_arr, e3]
    rfl
theorem j_zald {g x n : Nat} {i : Int32} (hd : decode M.2.1 pc = .ok (.baload, 1)) (hN : aN σ g x = some n) (hg : g / 10000 = 2) (hin : vp_in i n) (kk : J l d X D K Kx M (pc + 1) σ L (.int (aI σ g x i.toNatClampNeg) :: st)) : J l d X D K Kx M pc σ L (.int i :: .ref (aD σ g x) :: st) := by
  intro G ha hb hE H locs ls hW hS hl
  have hP := wd_PA hW hN
  rw [wd_ai hg (by decide), hg] at hP
  exact va_zald (D := d.1) G.ex G.cd G.va hP 0 2 rfl rfl hin hd (kk G ha hb hE H locs ls hW hS hl)
theorem j_zast {g x n : Nat} {i v : Int32} (hd : decode M.2.1 pc = .ok (.bastore, 1)) (hN : aN σ g x = some n) (hg : g / 10000 = 2) (hin : vp_in i n) (kk : J l d X D K Kx M (pc + 1) (sA σ g x (upd (aI σ g x) i.toNatClampNeg (vp_nar .boolean v))) L st) : J l d X D K Kx M pc σ L (.int v :: .int i :: .ref (aD σ g x) :: st) := by
  intro G ha hb hE H locs ls hW hS hl
  have hcell := (hW.2.2.1 g x n hN).2.1
  rw [wd_ai hg (by decide), hg, vp_cell_i] at hcell
  refine W.zast G.ex G.cd hcell ((wd_aC G.va (t := 2) (by decide)).1 n (fun j => .int (aI σ g x j))) (fun q => by cases q) (by rw [arrV_size]; exact hin) rfl rfl hd fun H1 e z oq => ?_
  refine kk G ha hb hE H1 _ ls (wd_putA (hW.1.put z oq hcell e (by rw [arrV_store, arrV_size, arrV_size]) rfl) (σ' := sA σ g x (upd (aI σ g x) i.toNatClampNeg (vp_nar .boolean v))) hW hN oq ?_ rfl rfl rfl rfl rfl rfl ?_) (hS.put z oq (hW.2.2.1 g x n hN).1) hl
  · rw [e, wd_ai hg (by decide), hg, vp_cell_i, arrV_store]
    have e1 : aI (sA σ g x (upd (aI σ g x) i.toNatClampNeg (vp_nar .boolean v))) g x = upd (aI σ g x) i.toNatClampNeg (vp_nar .boolean v) := u2_s
    rw [e1]
    congr 2
    funext q
    by_cases hq : q = i.toNatClampNeg
    · subst hq
      simp [updV, upd, vp_nar]
      try rfl
    · simp [updV, upd, hq]
  · intro g' a' n' h
    have e3 : aI (sA σ g x (upd (aI σ g x) i.toNatClampNeg (vp_nar .boolean v))) g' a' = aI σ g' a' := mvA_E (by rintro ⟨rfl, rfl⟩; rcases h with h | h <;> exact h rfl)
    simp only [wd_arr, e3]
    rfl
theorem j_bald {g x n : Nat} {i : Int32} (hd : decode M.2.1 pc = .ok (.baload, 1)) (hN : aN σ g x = some n) (hg : g / 10000 = 3) (hin : vp_in i n) (kk : J l d X D K Kx M (pc + 1) σ L (.int (aI σ g x i.toNatClampNeg) :: st)) : J l d X D K Kx M pc σ L (.int i :: .ref (aD σ g x) :: st) := by
  intro G ha hb hE H locs ls hW hS hl
  have hP := wd_PA hW hN
  rw [wd_ai hg (by decide), hg] at hP
  exact va_bald (D := d.1) G.ex G.cd G.va hP 0 3 rfl rfl hin hd (kk G ha hb hE H locs ls hW hS hl)
theorem j_bast {g x n : Nat} {i v : Int32} (hd : decode M.2.1 pc = .ok (.bastore, 1)) (hN : aN σ g x = some n) (hg : g / 10000 = 3) (hin : vp_in i n) (kk : J l d X D K Kx M (pc + 1) (sA σ g x (upd (aI σ g x) i.toNatClampNeg (vp_nar .byte v))) L st) : J l d X D K Kx M pc σ L (.int v :: .int i :: .ref (aD σ g x) :: st) := by
  intro G ha hb hE H locs ls hW hS hl
  have hcell := (hW.2.2.1 g x n hN).2.1
  rw [wd_ai hg (by decide), hg, vp_cell_i] at hcell
  refine W.bast G.ex G.cd hcell ((wd_aC G.va (t := 3) (by decide)).1 n (fun j => .int (aI σ g x j))) (fun q => by cases q) (by rw [arrV_size]; exact hin) rfl rfl hd fun H1 e z oq => ?_
  refine kk G ha hb hE H1 _ ls (wd_putA (hW.1.put z oq hcell e (by rw [arrV_store, arrV_size, arrV_size]) rfl) (σ' := sA σ g x (upd (aI σ g x) i.toNatClampNeg (vp_nar .byte v))) hW hN oq ?_ rfl rfl rfl rfl rfl rfl ?_) (hS.put z oq (hW.2.2.1 g x n hN).1) hl
  · rw [e, wd_ai hg (by decide), hg, vp_cell_i, arrV_store]
    have e1 : aI (sA σ g x (upd (aI σ g x) i.toNatClampNeg (vp_nar .byte v))) g x = upd (aI σ g x) i.toNatClampNeg (vp_nar .byte v) := u2_s
    rw [e1]
    congr 2
    funext q
    by_cases hq : q = i.toNatClampNeg
    · subst hq
      simp [updV, upd, vp_nar]
      try rfl
    · simp [updV, upd, hq]
  · intro g' a' n' h
    have e3 : aI (sA σ g x (upd (aI σ g x) i.toNatClampNeg (vp_nar .byte v))) g' a' = aI σ g' a' := mvA_E (by rintro ⟨rfl, rfl⟩; rcases h with h | h <;> exact h rfl)
    simp only [wd_arr, e3]
    rfl
theorem j_cald {g x n : Nat} {i : Int32} (hd : decode M.2.1 pc = .ok (.caload, 1)) (hN : aN σ g x = some n) (hg : g / 10000 = 4) (hin : vp_in i n) (kk : J l d X D K Kx M (pc + 1) σ L (.int (aI σ g x i.toNatClampNeg) :: st)) : J l d X D K Kx M pc σ L (.int i :: .ref (aD σ g x) :: st) := by
  intro G ha hb hE H locs ls hW hS hl
  have hP := wd_PA hW hN
  rw [wd_ai hg (by decide), hg] at hP
  exact va_cald (D := d.1) G.ex G.cd G.va hP 0 4 rfl rfl hin hd (kk G ha hb hE H locs ls hW hS hl)
theorem j_cast {g x n : Nat} {i v : Int32} (hd : decode M.2.1 pc = .ok (.castore, 1)) (hN : aN σ g x = some n) (hg : g / 10000 = 4) (hin : vp_in i n) (kk : J l d X D K Kx M (pc + 1) (sA σ g x (upd (aI σ g x) i.toNatClampNeg (vp_nar .char v))) L st) : J l d X D K Kx M pc σ L (.int v :: .int i :: .ref (aD σ g x) :: st) := by
  intro G ha hb hE H locs ls hW hS hl
  have hcell := (hW.2.2.1 g x n hN).2.1
  rw [wd_ai hg (by decide), hg, vp_cell_i] at hcell
  refine W.cast G.ex G.cd hcell ((wd_aC G.va (t := 4) (by decide)).1 n (fun j => .int (aI σ g x j))) (fun q => by cases q) (by rw [arrV_size]; exact hin) rfl rfl hd fun H1 e z oq => ?_
  refine kk G ha hb hE H1 _ ls (wd_putA (hW.1.put z oq hcell e (by rw [arrV_store, arrV_size, arrV_size]) rfl) (σ' := sA σ g x (upd (aI σ g x) i.toNatClampNeg (vp_nar .char v))) hW hN oq ?_ rfl rfl rfl rfl rfl rfl ?_) (hS.put z oq (hW.2.2.1 g x n hN).1) hl
  · rw [e, wd_ai hg (by decide), hg, vp_cell_i, arrV_store]
    have e1 : aI (sA σ g x (upd (aI σ g x) i.toNatClampNeg (vp_nar .char v))) g x = upd (aI σ g x) i.toNatClampNeg (vp_nar .char v) := u2_s
    rw [e1]
    congr 2
    funext q
    by_cases hq : q = i.toNatClampNeg
    · subst hq
      simp [updV, upd, vp_nar]
      try rfl
    · simp [updV, upd, hq]
  · intro g' a' n' h
    have e3 : aI (sA σ g x (upd (aI σ g x) i.toNatClampNeg (vp_nar .char v))) g' a' = aI σ g' a' := mvA_E (by rintro ⟨rfl, rfl⟩; rcases h with h | h <;> exact h rfl)
    simp only [wd_arr, e3]
    rfl
theorem j_sald {g x n : Nat} {i : Int32} (hd : decode M.2.1 pc = .ok (.saload, 1)) (hN : aN σ g x = some n) (hg : g / 10000 = 5) (hin : vp_in i n) (kk : J l d X D K Kx M (pc + 1) σ L (.int (aI σ g x i.toNatClampNeg) :: st)) : J l d X D K Kx M pc σ L (.int i :: .ref (aD σ g x) :: st) := by
  intro G ha hb hE H locs ls hW hS hl
  have hP := wd_PA hW hN
  rw [wd_ai hg (by decide), hg] at hP
  exact va_sald (D := d.1) G.ex G.cd G.va hP 0 5 rfl rfl hin hd (kk G ha hb hE H locs ls hW hS hl)
theorem j_sast {g x n : Nat} {i v : Int32} (hd : decode M.2.1 pc = .ok (.sastore, 1)) (hN : aN σ g x = some n) (hg : g / 10000 = 5) (hin : vp_in i n) (kk : J l d X D K Kx M (pc + 1) (sA σ g x (upd (aI σ g x) i.toNatClampNeg (vp_nar .short v))) L st) : J l d X D K Kx M pc σ L (.int v :: .int i :: .ref (aD σ g x) :: st) := by
  intro G ha hb hE H locs ls hW hS hl
  have hcell := (hW.2.2.1 g x n hN).2.1
  rw [wd_ai hg (by decide), hg, vp_cell_i] at hcell
  refine W.sast G.ex G.cd hcell ((wd_aC G.va (t := 5) (by decide)).1 n (fun j => .int (aI σ g x j))) (fun q => by cases q) (by rw [arrV_size]; exact hin) rfl rfl hd fun H1 e z oq => ?_
  refine kk G ha hb hE H1 _ ls (wd_putA (hW.1.put z oq hcell e (by rw [arrV_store, arrV_size, arrV_size]) rfl) (σ' := sA σ g x (upd (aI σ g x) i.toNatClampNeg (vp_nar .short v))) hW hN oq ?_ rfl rfl rfl rfl rfl rfl ?_) (hS.put z oq (hW.2.2.1 g x n hN).1) hl
  · rw [e, wd_ai hg (by decide), hg, vp_cell_i, arrV_store]
    have e1 : aI (sA σ g x (upd (aI σ g x) i.toNatClampNeg (vp_nar .short v))) g x = upd (aI σ g x) i.toNatClampNeg (vp_nar .short v) := u2_s
    rw [e1]
    congr 2
    funext q
    by_cases hq : q = i.toNatClampNeg
    · subst hq
      simp [updV, upd, vp_nar]
      try rfl
    · simp [updV, upd, hq]
  · intro g' a' n' h
    have e3 : aI (sA σ g x (upd (aI σ g x) i.toNatClampNeg (vp_nar .short v))) g' a' = aI σ g' a' := mvA_E (by rintro ⟨rfl, rfl⟩; rcases h with h | h <;> exact h rfl)
    simp only [wd_arr, e3]
    rfl
theorem j_lald {g x n : Nat} {i : Int32} (hd : decode M.2.1 pc = .ok (.laload, 1)) (hN : aN σ g x = some n) (hg : g / 10000 = 1) (hin : vp_in i n) (kk : J l d X D K Kx M (pc + 1) σ L (.long (aJ σ g x i.toNatClampNeg) :: st)) : J l d X D K Kx M pc σ L (.int i :: .ref (aD σ g x) :: st) := by
  intro G ha hb hE H locs ls hW hS hl
  have hP := wd_PA hW hN
  rw [wd_aj hg, hg] at hP
  exact va_lald (D := d.1) G.ex G.cd G.va hP 0 1 rfl rfl hin hd (kk G ha hb hE H locs ls hW hS hl)
theorem j_last {g x n : Nat} {i : Int32} {v : Int64} (hd : decode M.2.1 pc = .ok (.lastore, 1)) (hN : aN σ g x = some n) (hg : g / 10000 = 1) (hin : vp_in i n) (kk : J l d X D K Kx M (pc + 1) (sAJ σ g x (vp_updL (aJ σ g x) i.toNatClampNeg v)) L st) : J l d X D K Kx M pc σ L (.long v :: .int i :: .ref (aD σ g x) :: st) := by
  intro G ha hb hE H locs ls hW hS hl
  have hcell := (hW.2.2.1 g x n hN).2.1
  rw [wd_aj hg, hg, vp_cell_l] at hcell
  refine W.last G.ex G.cd hcell ((wd_aC G.va (t := 1) (by decide)).1 n (fun j => .long (aJ σ g x j))) (fun q => by cases q) (by rw [arrV_size]; exact hin) rfl rfl hd fun H1 e z oq => ?_
  refine kk G ha hb hE H1 _ ls (wd_putA (hW.1.put z oq hcell e (by rw [arrV_store, arrV_size, arrV_size]) rfl) (σ' := sAJ σ g x (vp_updL (aJ σ g x) i.toNatClampNeg v)) hW hN oq ?_ rfl rfl rfl rfl rfl rfl ?_) (hS.put z oq (hW.2.2.1 g x n hN).1) hl
  · rw [e, wd_aj hg, hg, vp_cell_l, arrV_store]
    have e1 : aJ (sAJ σ g x (vp_updL (aJ σ g x) i.toNatClampNeg v)) g x = vp_updL (aJ σ g x) i.toNatClampNeg v := u2_s
    rw [e1]
    congr 2
    funext q
    by_cases hq : q = i.toNatClampNeg
    · subst hq
      simp [updV, vp_updL]
    · simp [updV, vp_updL, hq]
  · intro g' a' n' h
    have e3 : aJ (sAJ σ g x (vp_updL (aJ σ g x) i.toNatClampNeg v)) g' a' = aJ σ g' a' := mvA_E (by rintro ⟨rfl, rfl⟩; rcases h with h | h <;> exact h rfl)
    simp only [wd_arr, e3]
    rfl
theorem j_alen {g x n : Nat} (hd : decode M.2.1 pc = .ok (.arraylength, 1)) (hN : aN σ g x = some n) (hg : g / 10000 < 12) (kk : J l d X D K Kx M (pc + 1) σ L (.int (Int32.ofNat n) :: st)) : J l d X D K Kx M pc σ L (.ref (aD σ g x) :: st) := by
  intro G ha hb hE H locs ls hW hS hl
  have hcell := (hW.2.2.1 g x n hN).2.1
  have hsz : (vp_cell (d.2.1 (g / 10000)) (wd_arr σ g x n)).slots.size = n := by
    unfold wd_arr
    split
    · rw [vp_cell_l, arrV_size]
    · split
      · rw [vp_cell_q, arrV_size]
      · rw [vp_cell_i, arrV_size]
  have harr : X.2.2.1.isArrayOf (vp_cell (d.2.1 (g / 10000)) (wd_arr σ g x n)) (wd_ft (g / 10000)) := by
    unfold wd_arr
    split
    · rw [vp_cell_l]; exact (wd_aC G.va hg).1 _ _
    · split
      · rw [vp_cell_q]; exact (wd_aC G.va hg).1 _ _
      · rw [vp_cell_i]; exact (wd_aC G.va hg).1 _ _
  exact W.alen (n := Int32.ofNat n) G.ex G.cd hcell harr (by rw [hsz] <;> rfl) rfl rfl hd (kk G ha hb hE H locs ls hW hS hl)
theorem j_aaldq {g x n t : Nat} {i : Int32} {C : String} (hd : decode M.2.1 pc = .ok (.aaload, 1)) (hN : aN σ g x = some n) (hg : g / 10000 = t) (ht : 6 ≤ t ∧ t < 12) (hft : wd_ft t = .object C) (hin : vp_in i n) (kk : J l d X D K Kx M (pc + 1) σ L (va_rf (aR σ g x i.toNatClampNeg) :: st)) : J l d X D K Kx M pc σ L (.int i :: .ref (aD σ g x) :: st) := by
  intro G ha hb hE H locs ls hW hS hl
  have hP := wd_PA hW hN
  rw [wd_ar hg ht.1, hg] at hP
  exact va_aldq (D := d.1) (C := C) G.ex G.cd G.va hP 0 t rfl (by rw [← hft]; simp [wd_tys, ht.2]) hin hd (kk G ha hb hE H locs ls hW hS hl)
theorem j_aast {g x n t v c : Nat} {i : Int32} {E : String} {r : vw_C} (hd : decode M.2.1 pc = .ok (.aastore, 1)) (hN : aN σ g x = some n) (hg : g / 10000 = t) (ht : 6 ≤ t ∧ t < 12) (hft : wd_ft t = .object E) (hin : vp_in i n) (hC : oC σ v = c + 1) (hr : vwCl[c]? = some r) (hCl : r.1 = E ∨ (r.1, E) ∈ wd_casts) (kk : J l d X D K Kx M (pc + 1) (sAR σ g x (va_up (aR σ g x) i.toNatClampNeg (some v))) L st) : J l d X D K Kx M pc σ L (.ref v :: .int i :: .ref (aD σ g x) :: st) := by
  intro G ha hb hE H locs ls hW hS hl
  have hlt : i.toNatClampNeg < n := Nat.not_le.mp fun q => hin (Or.inr q)
  have h0 : ¬ i < 0 := fun q => hin (Or.inl q)
  obtain ⟨cellV, g1, g3, hclV⟩ := wd_recv G.va hW hC hr
  obtain ⟨kV, hkV, -⟩ := Vm.findClass_spec hclV
  have hRA : va_RA X.2.2.1 (d.2.1 t) (.object E) := by rw [← hft]; exact (wd_aC G.va ht.2).2
  obtain ⟨kA, comp, k1, k2, k3, -⟩ := hRA
  obtain ⟨kE, hkE, -⟩ := Vm.findClass_spec k3
  have hasg : X.2.2.1.vm.assignable cellV.cls comp = true := by
    rcases hCl with hCl | hCl
    · rw [hCl] at hclV
      have : cellV.cls = comp := Option.some.inj (hclV.symm.trans k3)
      rw [this]
      exact va_asg _ _
    · obtain ⟨c0, t0, f1, f2, f3⟩ := Cond.castable_spec (va_Nw.use (A := X.2.2.2.2.1) rfl (G.kk.1.2.1 _ hCl))
      cases hclV.symm.trans f1
      cases k3.symm.trans f2
      exact f3
  have hcell := (hW.2.2.1 g x n hN).2.1
  rw [wd_ar hg ht.1, hg, vp_cell_q] at hcell
  refine W.aast G.ex G.cd hcell (fun q h => by cases h) (fun h => by cases h) k1 k2 rfl hkE ⟨h0, by rw [arrV_size]; exact hlt⟩ g1 (fun q h => by rw [h] at g3; cases g3) hkV hasg rfl rfl hd fun H1 e z oq => ?_
  refine kk G ha hb hE H1 _ ls (wd_putA (hW.1.put z oq hcell e (by rw [arrV_store, arrV_size, arrV_size]) rfl) (σ' := sAR σ g x (va_up (aR σ g x) i.toNatClampNeg (some v))) hW hN oq ?_ rfl rfl rfl rfl rfl rfl ?_) (hS.put z oq (hW.2.2.1 g x n hN).1) hl
  · rw [e, wd_ar hg ht.1, hg, vp_cell_q, arrV_store]
    have e1 : aR (sAR σ g x (va_up (aR σ g x) i.toNatClampNeg (some v))) g x = va_up (aR σ g x) i.toNatClampNeg (some v) := u2_s
    rw [e1]
    congr 2
    funext q
    by_cases hq : q = i.toNatClampNeg
    · subst hq
      simp [updV, va_up, va_rf]
    · simp [updV, va_up, hq]
  · intro g' a' n' h
    have e3 : aR (sAR σ g x (va_up (aR σ g x) i.toNatClampNeg (some v))) g' a' = aR σ g' a' := mvA_E (by rintro ⟨rfl, rfl⟩; rcases h with h | h <;> exact h rfl)
    simp only [wd_arr, e3]
    rfl
/-! casts, literals -/
theorem j_castY {c x idx : Nat} {nm : String} {r : vw_C} (hd : decode M.2.1 pc = .ok (.checkcast idx, 3)) (hC : oC σ x = c + 1) (hr : vwCl[c]? = some r) (hq : Cond.classLink M.1.cls idx nm ∈ lw_all) (hCl : r.1 = nm ∨ (r.1, nm) ∈ wd_casts) (kk : J l d X D K Kx M (pc + 3) σ L (.ref x :: st)) : J l d X D K Kx M pc σ L (.ref x :: st) := by
  intro G ha hb hE H locs ls hW hS hl
  rcases hCl with hCl | hCl
  · have hr2 := wd_recv G.va hW hC hr
    rw [hCl] at hr2
    exact va_castE G.ex G.cd G.own (G.ws _ hq) hr2 hd (kk G ha hb hE H locs ls hW hS hl)
  · exact va_castY G.ex G.cd G.own (G.ws _ hq) (G.kk.1.2.1 _ hCl) (wd_recv G.va hW hC hr) hd (kk G ha hb hE H locs ls hW hS hl)
theorem j_castN {idx : Nat} (hd : decode M.2.1 pc = .ok (.checkcast idx, 3)) (kk : J l d X D K Kx M (pc + 3) σ L (.null :: st)) : J l d X D K Kx M pc σ L (.null :: st) := fun G ha hb hE H locs ls hW hS hl => lv_castN G.ex G.cd hd (kk G ha hb hE H locs ls hW hS hl)
theorem j_instY {c x idx : Nat} {nm : String} {r : vw_C} (hd : decode M.2.1 pc = .ok (.instanceof idx, 3)) (hC : oC σ x = c + 1) (hr : vwCl[c]? = some r) (hq : Cond.classLink M.1.cls idx nm ∈ lw_all) (hCl : r.1 = nm ∨ (r.1, nm) ∈ wd_casts) (kk : J l d X D K Kx M (pc + 3) σ L (.int 1 :: st)) : J l d X D K Kx M pc σ L (.ref x :: st) := by
  intro G ha hb hE H locs ls hW hS hl
  rcases hCl with hCl | hCl
  · have hr2 := wd_recv G.va hW hC hr
    rw [hCl] at hr2
    exact va_instE G.ex G.cd G.own (G.ws _ hq) hr2 hd (kk G ha hb hE H locs ls hW hS hl)
  · exact va_instY G.ex G.cd G.own (G.ws _ hq) (G.kk.1.2.1 _ hCl) (wd_recv G.va hW hC hr) hd (kk G ha hb hE H locs ls hW hS hl)
theorem j_instNo {c x idx : Nat} {nm : String} {r : vw_C} (hd : decode M.2.1 pc = .ok (.instanceof idx, 3)) (hC : oC σ x = c + 1) (hr : vwCl[c]? = some r) (hq : Cond.classLink M.1.cls idx nm ∈ lw_all) (hCl : (r.1, nm) ∈ wd_ncs) (kk : J l d X D K Kx M (pc + 3) σ L (.int 0 :: st)) : J l d X D K Kx M pc σ L (.ref x :: st) :=
  fun G ha hb hE H locs ls hW hS hl => va_instNo G.ex G.cd G.own (G.ws _ hq) (G.kk.2.2.1 _ hCl).1 (wd_recv G.va hW hC hr) hd (kk G ha hb hE H locs ls hW hS hl)
theorem j_instN {idx : Nat} (hd : decode M.2.1 pc = .ok (.instanceof idx, 3)) (kk : J l d X D K Kx M (pc + 3) σ L (.int 0 :: st)) : J l d X D K Kx M pc σ L (.null :: st) := fun G ha hb hE H locs ls hW hS hl => lv_instN G.ex G.cd hd (kk G ha hb hE H locs ls hW hS hl)
theorem j_ldcS {idx i : Nat} {tx : String} (hd : decode M.2.1 pc = .ok (.ldc idx, 2)) (hq : (M.1.cls, idx, tx, i) ∈ wd_lits) (kk : J l d X D K Kx M (pc + 2) σ L (.ref (d.2.2.1 i) :: st)) : J l d X D K Kx M pc σ L st :=
  fun G ha hb hE H locs ls hW hS hl => va_ldcS G.ex G.cd G.own (G.kk.2.2.2.1 _ hq) hd (kk G ha hb hE H locs ls hW hS hl)
theorem j_objInit {idx x : Nat} (hd : decode M.2.1 pc = .ok (.invokespecial idx, 3)) (hq : Cond.methodLink M.1.cls idx objectInit ∈ lw_all) (hq2 : Cond.instanceMethod objectInit ∈ lw_all) (hq3 : Cond.code objectInit ⟨#[0xb1]⟩ 1 none ∈ lw_all) (hst : (st.map fun v => v.category).sum ≤ 8) (kk : J l d X D K Kx M (pc + 3) σ L st) : J l d X D K Kx M pc σ L (.ref x :: st) := by
  intro G ha hb hE H locs ls hW hS hl
  refine W.objInit G.ex G.cd G.own (G.ws _ hq) (G.ws _ hq2) (G.ws _ hq3) rfl (by rw [G.ml]; exact hl.1) rfl hd (by show 1 ≤ D + 16; omega) (by first | (show 2 * 0 + _ + _ ≤ 16000 + 64 * D; omega) | (simp [rmD]; omega)) ?_
  exact kk G ha hb hE H locs ls hW hS hl
/-! starts -/
theorem wp_of {y : MethodName} {cc : ByteArray} {nL : Nat} {ret : Option FieldType} {as : List Value} (hy : plainName y.cls = true) (hL : (lg_sl as).length ≤ nL) (hA : lv_args 0 as = L)
    (k : ∀ X : jX, J l d X D K Kx (y, cc, nL, ret, []) 0 σ L []) : WP l d (ws_ y cc nL ret) D y σ as K Kx := by
  intro hnt
  refine vx_ofW (cc := cc) (maxL := nL) (ret := ret) hy rfl ?_
  intro p e s m args below meth c s₁ B hml hex hv
  obtain ⟨rfl, hB0, hKK, hWW⟩ := hv
  have hts := atoms_spec (ws := ws_ y cc nL ret) B.pre
  have hl := lv_entry as (n := nL) hL
  rw [lg_entry_eq]
  rw [hA] at hl
  have htb : c.exceptionTable.toList = [] := by
    cases hx : c.exceptionTable.toList with
    | nil => rfl
    | cons z zs => exact (hex z (by rw [hx]; exact List.mem_cons_self)).elim
  have h9 := k (p, e, s, m, as.toArray, below, meth, c, σ) ⟨⟨B.exec, B.bytes, hml, findClass_of_methodNamed B.named, fun w h => hts w (List.mem_cons_of_mem _ h)⟩, B.returns, B.notSynchronized, hnt, htb, (name_of_methodNamed B.named B.method).1, hB0, hWW.1, hKK⟩ (Nat.le_refl _) (Nat.le_refl _) (Ext.refl σ) s.heap [] _ hWW va_S.rf hl
  have ea : xa (p, e, s, m, as.toArray, below, meth, c, σ) σ = 0 := Nat.sub_self _
  have eb : xb (p, e, s, m, as.toArray, below, meth, c, σ) σ = 0 := Nat.sub_self _
  rw [ea, eb] at h9
  exact h9
theorem wp_ofH {y : MethodName} {cc : ByteArray} {nL : Nat} {ret : Option FieldType} {hh : List (Nat × Nat × Nat × Nat)} {as : List Value} (hy : plainName y.cls = true) (hL : (lg_sl as).length ≤ nL) (hA : lv_args 0 as = L)
    (k : ∀ X : jX, J l d X D K Kx (y, cc, nL, ret, hh) 0 σ L []) : WP l d (wsW_ y cc nL ret hh) D y σ as K Kx := by
  intro hnt
  refine vx_ofWH (cc := cc) (maxL := nL) (ret := ret) (hh := hh) hy rfl ?_
  intro p e s m args below meth c s₁ B hml hv
  obtain ⟨rfl, hB0, hKK, hWW⟩ := hv
  have hts := atoms_spec (ws := wsW_ y cc nL ret hh) B.pre
  have hl := lv_entry as (n := nL) hL
  rw [lg_entry_eq]
  rw [hA] at hl
  have h9 := k (p, e, s, m, as.toArray, below, meth, c, σ) ⟨⟨B.exec, B.bytes, hml, findClass_of_methodNamed B.named, fun w h => hts w (List.mem_cons_of_mem _ h)⟩, B.returns, B.notSynchronized, hnt, vx_table (x := y) B (hts _ List.mem_cons_self), (name_of_methodNamed B.named B.method).1, hB0, hWW.1, hKK⟩ (Nat.le_refl _) (Nat.le_refl _) (Ext.refl σ) s.heap [] _ hWW va_S.rf hl
  have ea : xa (p, e, s, m, as.toArray, below, meth, c, σ) σ = 0 := Nat.sub_self _
  have eb : xb (p, e, s, m, as.toArray, below, meth, c, σ) σ = 0 := Nat.sub_self _
  rw [ea, eb] at h9
  exact h9
/-! calls -/
theorem wd_Pc {H : Heap} {locs : List Loc} (G : jG l d X M) (hW : wd_H d σ H) (hS : va_S (wd_A d) X.2.2.1.heap H locs) {as : List Value} : ∀ U : State, U.heap = H → X.2.2.1.WarmedH U.vm → va_Pc as (wd_P d σ) as.toArray U := by
  intro U hU hWm
  refine ⟨rfl, by rw [hU]; exact Nat.le_trans G.sz hS.1, ?_, by rw [hU]; exact hW⟩
  exact G.kk.go hWm (fun q h1 h2 => by rw [hU]; exact hS.2.1 q h1 h2)
theorem stand_fit {T : State} {locs : List Loc} {k n : Nat} {τ : wS} (G : jG l d X M) (Y : Stand X.1 l X.2.1 (xR X D) X.2.2.1 X.2.2.2.1 X.2.2.2.2.1 X.2.2.2.2.2.1 X.2.2.2.2.2.2.1 X.2.2.2.2.2.2.2.1 T locs k n) (hN : wd_N d τ T.heap) :
    Stand X.1 l X.2.1 (xR X D) X.2.2.1 X.2.2.2.1 X.2.2.2.2.1 X.2.2.2.2.2.1 X.2.2.2.2.2.2.1 X.2.2.2.2.2.2.2.1 T locs (xa X τ) (xb X τ) ∧ rC τ ≤ rC (xE X) ∧ rS τ ≤ rS (xE X) := by
  obtain ⟨e1, e2, e3, e4, e5, e6⟩ := Y.same
  obtain ⟨k1, k2, k3, k4⟩ := hN
  obtain ⟨m1, m2, m3, m4⟩ := G.nn
  have e2' : X.2.2.1.heap.size ≤ T.heap.size := e2
  have hsp : hsum (dB d) T.heap = hsum (dB d) X.2.2.1.heap + hsum X.2.2.1.heap.size T.heap := hsum_split (by omega) e2 (fun q hq => by
    obtain ⟨c', f1, -, f2, -⟩ := e6 q _ (Array.getElem?_eq_getElem hq)
    have f1' : T.heap[q]? = some c' := f1
    rw [f1', Array.getElem?_eq_getElem hq]
    simp [f2])
  refine ⟨{ Y with same := ⟨e1, e2, ?_, e4, ?_, e6⟩ }, by omega, by omega⟩
  · show T.heap.size ≤ X.2.2.1.heap.size + (rC (xE X) - rC τ)
    omega
  · show hsum X.2.2.1.heap.size T.heap ≤ rS (xE X) - rS τ
    omega
theorem j_after {H : Heap} {locs : List Loc} {ls : Array Slot} {K' : jK} {Kx' : jKx} {aa : Array Value} {st0 rest : List Value} (G : jG l d X M) (hS : va_S (wd_A d) X.2.2.1.heap H locs) (hl : lv_has ls M.2.2.1 L) (hE : Ext (xE X) σ)
    (hr : vx_Run X.1 l X.2.1 (xR X D) X.2.2.1 X.2.2.2.1 X.2.2.2.2.1 X.2.2.2.2.2.1 X.2.2.2.2.2.2.1 X.2.2.2.2.2.2.2.1 H locs (xa X σ) (xb X σ) (rC σ) (rS σ) (F0 X.2.2.2.1 pc ls st0) rest (wd_Q d σ K' aa) (wd_X d σ Kx') (wd_A d))
    (kk : ∀ (v : Option Value) (σ' : wS), Ext σ σ' → K' v σ' → J l d X D K Kx M (pc + 3) σ' L (v.toList ++ rest))
    (kx : ∀ (E : String) (q : Nat) (σ' : wS), Ext σ σ' → Kx' E q σ' → JX l d X D K Kx M pc σ' L E q) :
    W X.1 l X.2.1 (xR X D) X.2.2.1 X.2.2.2.1 X.2.2.2.2.1 X.2.2.2.2.2.1 X.2.2.2.2.2.2.1 X.2.2.2.2.2.2.2.1 H locs (xa X σ) (xb X σ) (vx_MQ X.2.2.2.2.2.1 (wd_Q d X.2.2.2.2.2.2.2.2 K) (wd_X d X.2.2.2.2.2.2.2.2 Kx) X.2.2.2.2.1 X.2.2.1 (rC (xE X)) (rS (xE X)) (wd_A d)) (F0 X.2.2.2.1 pc ls st0) := by
  intro T hT Y
  rcases hr T hT Y with ⟨v, st₀, t, T', L', h0, X', hL, e1, e2, ⟨⟨v', σ', hv, hx, hk, hw⟩, hF⟩, st⟩ | ⟨q, st₀, t, T', L', E, ce, h0, X', hL, e1, e2, ⟨⟨σ', hx, hk, hw⟩, hF⟩, hce, hcv, hcl, st⟩
  · cases hv
    obtain ⟨k1, k2, k3⟩ := vx_keep h0 e1 hS (fun _ _ h => h) (fun _ h => h) hL hF
    obtain ⟨X2, p1, p2⟩ := stand_fit G X' (by rw [e1]; exact hw.1)
    obtain ⟨t2, a1, b1⟩ := kk v σ' hx hk G p1 p2 (hE.trans hx) T'.heap (locs ++ L') ls (by rw [e1]; exact hw) k3 hl T' rfl X2
    exact ⟨t2, st t2 a1, b1⟩
  · obtain ⟨k1, k2, k3⟩ := vx_keep h0 e1 hS (fun _ _ h => h) (fun _ h => h) hL hF
    obtain ⟨X2, p1, p2⟩ := stand_fit G X' (by rw [e1]; exact hw.1)
    obtain ⟨t2, a1, b1⟩ := kx E q σ' hx hk G p1 p2 (hE.trans hx) T'.heap (locs ++ L') ls ce rest (by rw [e1]; exact hw) k3 hl (by rw [e1]; exact hce) hcv hcl T' rfl X2
    exact ⟨t2, st.trans a1, b1⟩
/-- the same behind an interface's call -/
theorem j_after5 {H : Heap} {locs : List Loc} {ls : Array Slot} {K' : jK} {Kx' : jKx} {aa : Array Value} {st0 rest : List Value} (G : jG l d X M) (hS : va_S (wd_A d) X.2.2.1.heap H locs) (hl : lv_has ls M.2.2.1 L) (hE : Ext (xE X) σ)
    (hr : vx_Run5 X.1 l X.2.1 (xR X D) X.2.2.1 X.2.2.2.1 X.2.2.2.2.1 X.2.2.2.2.2.1 X.2.2.2.2.2.2.1 X.2.2.2.2.2.2.2.1 H locs (xa X σ) (xb X σ) (rC σ) (rS σ) (F0 X.2.2.2.1 pc ls st0) rest (wd_Q d σ K' aa) (wd_X d σ Kx') (wd_A d))
    (kk : ∀ (v : Option Value) (σ' : wS), Ext σ σ' → K' v σ' → J l d X D K Kx M (pc + 5) σ' L (v.toList ++ rest))
    (kx : ∀ (E : String) (q : Nat) (σ' : wS), Ext σ σ' → Kx' E q σ' → JX l d X D K Kx M pc σ' L E q) :
    W X.1 l X.2.1 (xR X D) X.2.2.1 X.2.2.2.1 X.2.2.2.2.1 X.2.2.2.2.2.1 X.2.2.2.2.2.2.1 X.2.2.2.2.2.2.2.1 H locs (xa X σ) (xb X σ) (vx_MQ X.2.2.2.2.2.1 (wd_Q d X.2.2.2.2.2.2.2.2 K) (wd_X d X.2.2.2.2.2.2.2.2 Kx) X.2.2.2.2.1 X.2.2.1 (rC (xE X)) (rS (xE X)) (wd_A d)) (F0 X.2.2.2.1 pc ls st0) := by
  intro T hT Y
  rcases hr T hT Y with ⟨v, st₀, t, T', L', h0, X', hL, e1, e2, ⟨⟨v', σ', hv, hx, hk, hw⟩, hF⟩, st⟩ | ⟨q, st₀, t, T', L', E, ce, h0, X', hL, e1, e2, ⟨⟨σ', hx, hk, hw⟩, hF⟩, hce, hcv, hcl, st⟩
  · cases hv
    obtain ⟨k1, k2, k3⟩ := vx_keep h0 e1 hS (fun _ _ h => h) (fun _ h => h) hL hF
    obtain ⟨X2, p1, p2⟩ := stand_fit G X' (by rw [e1]; exact hw.1)
    obtain ⟨t2, a1, b1⟩ := kk v σ' hx hk G p1 p2 (hE.trans hx) T'.heap (locs ++ L') ls (by rw [e1]; exact hw) k3 hl T' rfl X2
    exact ⟨t2, st t2 a1, b1⟩
  · obtain ⟨k1, k2, k3⟩ := vx_keep h0 e1 hS (fun _ _ h => h) (fun _ h => h) hL hF
    obtain ⟨X2, p1, p2⟩ := stand_fit G X' (by rw [e1]; exact hw.1)
    obtain ⟨t2, a1, b1⟩ := kx E q σ' hx hk G p1 p2 (hE.trans hx) T'.heap (locs ++ L') ls ce rest (by rw [e1]; exact hw) k3 hl (by rw [e1]; exact hce) hcv hcl T' rfl X2
    exact ⟨t2, st.trans a1, b1⟩
def yok (y : MethodName) (n : Nat) : Prop := y.cls ≠ "java/lang/invoke/MethodHandle" ∧ y.cls ≠ "java/lang/invoke/VarHandle" ∧ (parseMethodDescriptor y.desc).map (fun d => d.parameters.length) = some n
theorem wd_room {D' maxL : Nat} {σ : wS} (hD : D' + 1 ≤ D) (hmax : maxL ≤ 45) : (rmD D' (rC σ) (rS σ)).frames + 1 ≤ (xR X D).frames ∧ 8 + (maxL + 11) + (rmD D' (rC σ) (rS σ)).locals ≤ (xR X D).locals := by
  constructor
  · show D' + 16 + 1 ≤ D + 16; omega
  · show 8 + (maxL + 11) + (16000 + 64 * D') ≤ 16000 + 64 * D; omega
variable {idx D' x c maxL n : Nat} {y : MethodName} {bytes : ByteArray} {ret : Option FieldType} {hh : List (Nat × Nat × Nat × Nat)} {rv : vw_C} {st0 : List Value} {K' : jK} {Kx' : jKx}
theorem j_callV (As rest : List Value) (hd : decode M.2.1 pc = .ok (.invokevirtual idx, 3)) (hT : GoodIn lw_all (wsV M.1.cls idx y.cls y (ws_ y bytes maxL ret))) (hy : yok y n) (hn : As.length = n) (hmax : maxL ≤ 45) (hst : st0 = As.reverse ++ .ref x :: rest) (hrest : (rest.map fun v => v.category).sum ≤ 8) (hC : oC σ x = c + 1) (hr : vwCl[c]? = some rv) (hrv : rv.1 = y.cls) (hD : D' + 1 ≤ D)
    (hwp : WP l d (ws_ y bytes maxL ret) D' y σ (.ref x :: As) K' Kx') (kk : ∀ (v : Option Value) (σ' : wS), Ext σ σ' → K' v σ' → J l d X D K Kx M (pc + 3) σ' L (v.toList ++ rest)) (kx : ∀ (E : String) (q : Nat) (σ' : wS), Ext σ σ' → Kx' E q σ' → JX l d X D K Kx M pc σ' L E q) : J l d X D K Kx M pc σ L st0 := by
  intro G ha hb hE H locs ls hW hS hl
  exact j_after G hS hl hE (vx_runV (As := As) (rest := rest) ⟨G.ex, G.cd, G.ml, G.own, G.ws⟩ (hwp G.nt) (cwV n G.ws hT rfl rfl rfl ⟨rfl, hy⟩ (wd_room hD hmax)) ⟨wd_blind, by rw [← hrv]; exact wd_recv G.va hW hC hr, wd_Pc G hW hS⟩ rfl hn hl.1 hst (lv_room hrest) hd ⟨xr_1 ha (Nat.le_refl _), xr_2 hb (Nat.le_refl _)⟩) kk kx
theorem j_callVW (As rest : List Value) (hd : decode M.2.1 pc = .ok (.invokevirtual idx, 3)) (hT : GoodIn lw_all (wsV M.1.cls idx y.cls y (wsW_ y bytes maxL ret hh))) (hy : yok y n) (hn : As.length = n) (hmax : maxL ≤ 45) (hst : st0 = As.reverse ++ .ref x :: rest) (hrest : (rest.map fun v => v.category).sum ≤ 8) (hC : oC σ x = c + 1) (hr : vwCl[c]? = some rv) (hrv : rv.1 = y.cls) (hD : D' + 1 ≤ D)
    (hwp : WP l d (wsW_ y bytes maxL ret hh) D' y σ (.ref x :: As) K' Kx') (kk : ∀ (v : Option Value) (σ' : wS), Ext σ σ' → K' v σ' → J l d X D K Kx M (pc + 3) σ' L (v.toList ++ rest)) (kx : ∀ (E : String) (q : Nat) (σ' : wS), Ext σ σ' → Kx' E q σ' → JX l d X D K Kx M pc σ' L E q) : J l d X D K Kx M pc σ L st0 := by
  intro G ha hb hE H locs ls hW hS hl
  exact j_after G hS hl hE (vx_runVX (As := As) (rest := rest) ⟨G.ex, G.cd, G.ml, G.own, G.ws⟩ (hwp G.nt) (vx_cwVW n G.ws hT rfl rfl rfl ⟨rfl, hy⟩ (wd_room hD hmax)) ⟨wd_blind, by rw [← hrv]; exact wd_recv G.va hW hC hr, wd_Pc G hW hS⟩ rfl hn hl.1 hst (lv_room hrest) hd ⟨xr_1 ha (Nat.le_refl _), xr_2 hb (Nat.le_refl _)⟩) kk kx
theorem j_callS (As rest : List Value) (hd : decode M.2.1 pc = .ok (.invokestatic idx, 3)) (hT : GoodIn lw_all (va_wsS M.1.cls idx y (ws_ y bytes maxL ret))) (hy : yok y n) (hn : As.length = n) (hmax : maxL ≤ 45) (hst : st0 = As.reverse ++ rest) (hrest : (rest.map fun v => v.category).sum ≤ 8) (hD : D' + 1 ≤ D)
    (hwp : WP l d (ws_ y bytes maxL ret) D' y σ As K' Kx') (kk : ∀ (v : Option Value) (σ' : wS), Ext σ σ' → K' v σ' → J l d X D K Kx M (pc + 3) σ' L (v.toList ++ rest)) (kx : ∀ (E : String) (q : Nat) (σ' : wS), Ext σ σ' → Kx' E q σ' → JX l d X D K Kx M pc σ' L E q) : J l d X D K Kx M pc σ L st0 := by
  intro G ha hb hE H locs ls hW hS hl
  exact j_after G hS hl hE (vx_runS (As := As) (rest := rest) ⟨G.ex, G.cd, G.ml, G.own, G.ws⟩ (hwp G.nt) (va_cwS n G.ws hT rfl rfl rfl hy (wd_room hD hmax)) ⟨wd_blind, wd_Pc G hW hS⟩ rfl hn hl.1 hst (lv_room hrest) hd ⟨xr_1 ha (Nat.le_refl _), xr_2 hb (Nat.le_refl _)⟩) kk kx
theorem j_callSW (As rest : List Value) (hd : decode M.2.1 pc = .ok (.invokestatic idx, 3)) (hT : GoodIn lw_all (va_wsS M.1.cls idx y (wsW_ y bytes maxL ret hh))) (hy : yok y n) (hn : As.length = n) (hmax : maxL ≤ 45) (hst : st0 = As.reverse ++ rest) (hrest : (rest.map fun v => v.category).sum ≤ 8) (hD : D' + 1 ≤ D)
    (hwp : WP l d (wsW_ y bytes maxL ret hh) D' y σ As K' Kx') (kk : ∀ (v : Option Value) (σ' : wS), Ext σ σ' → K' v σ' → J l d X D K Kx M (pc + 3) σ' L (v.toList ++ rest)) (kx : ∀ (E : String) (q : Nat) (σ' : wS), Ext σ σ' → Kx' E q σ' → JX l d X D K Kx M pc σ' L E q) : J l d X D K Kx M pc σ L st0 := by
  intro G ha hb hE H locs ls hW hS hl
  exact j_after G hS hl hE (vx_runSX (As := As) (rest := rest) ⟨G.ex, G.cd, G.ml, G.own, G.ws⟩ (hwp G.nt) (vx_cwSW n G.ws hT rfl rfl rfl hy (wd_room hD hmax)) ⟨wd_blind, wd_Pc G hW hS⟩ rfl hn hl.1 hst (lv_room hrest) hd ⟨xr_1 ha (Nat.le_refl _), xr_2 hb (Nat.le_refl _)⟩) kk kx
theorem j_callI (As rest : List Value) (hd : decode M.2.1 pc = .ok (.invokespecial idx, 3)) (hT : Cond.code y bytes maxL none ∈ lw_all) (hini : Cond.initialized y.cls ∈ lw_all) (hlk : Cond.methodLink M.1.cls idx y ∈ lw_all) (him : Cond.instanceMethod y ∈ lw_all) (hy : yok y n) (hyi : y.name = "<init>") (hn : As.length = n) (hmax : maxL ≤ 45) (hst : st0 = As.reverse ++ .ref x :: rest) (hrest : (rest.map fun v => v.category).sum ≤ 8) (hD : D' + 1 ≤ D)
    (hwp : WP l d (ws_ y bytes maxL none) D' y σ (.ref x :: As) K' Kx') (kk : ∀ (v : Option Value) (σ' : wS), Ext σ σ' → K' v σ' → J l d X D K Kx M (pc + 3) σ' L (v.toList ++ rest)) (kx : ∀ (E : String) (q : Nat) (σ' : wS), Ext σ σ' → Kx' E q σ' → JX l d X D K Kx M pc σ' L E q) : J l d X D K Kx M pc σ L st0 := by
  intro G ha hb hE H locs ls hW hS hl
  exact j_after G hS hl hE (vx_runI (As := As) (rest := rest) ⟨G.ex, G.cd, G.ml, G.own, G.ws⟩ (hwp G.nt) (cwI n G.ws (lw_meth hT) rfl rfl rfl (G.ws _ hini) (G.ws _ hlk) (G.ws _ him) hyi hy (wd_room hD hmax)) ⟨wd_blind, wd_Pc G hW hS⟩ rfl hn hl.1 hst (lv_room hrest) hd ⟨xr_1 ha (Nat.le_refl _), xr_2 hb (Nat.le_refl _)⟩) kk kx
/-- super.y(..) -/
theorem j_callU (As rest : List Value) (hd : decode M.2.1 pc = .ok (.invokespecial idx, 3)) (hT : GoodIn lw_all (va_wsSU M.1.cls idx y (ws_ y bytes maxL ret))) (hy : yok y n) (hyi : y.name ≠ "<init>") (hn : As.length = n) (hmax : maxL ≤ 45) (hst : st0 = As.reverse ++ .ref x :: rest) (hrest : (rest.map fun v => v.category).sum ≤ 8) (hC : oC σ x = c + 1) (hr : vwCl[c]? = some rv) (hD : D' + 1 ≤ D)
    (hwp : WP l d (ws_ y bytes maxL ret) D' y σ (.ref x :: As) K' Kx') (kk : ∀ (v : Option Value) (σ' : wS), Ext σ σ' → K' v σ' → J l d X D K Kx M (pc + 3) σ' L (v.toList ++ rest)) (kx : ∀ (E : String) (q : Nat) (σ' : wS), Ext σ σ' → Kx' E q σ' → JX l d X D K Kx M pc σ' L E q) : J l d X D K Kx M pc σ L st0 := by
  intro G ha hb hE H locs ls hW hS hl
  exact j_after G hS hl hE (vx_runSU (As := As) (rest := rest) (G.va.1 c rv hr).2 ⟨G.ex, G.cd, G.ml, G.own, G.ws⟩ (hwp G.nt) (va_cwSU n G.ws hT rfl rfl rfl ⟨hyi, hy.2.2⟩ (wd_room hD hmax)) ⟨wd_blind, wd_recv G.va hW hC hr, wd_Pc G hW hS⟩ rfl hn hl.1 hst (lv_room hrest) hd ⟨xr_1 ha (Nat.le_refl _), xr_2 hb (Nat.le_refl _)⟩) kk kx
/-! exceptions -/
theorem jx_out {E : String} {q : Nat} (hpass : ∀ z ∈ tableOf M.2.2.2.2, covers z pc = false ∨ (z.catchType ≠ 0 ∧ ∃ nm : String, Cond.classLink M.1.cls z.catchType nm ∈ lw_all ∧ (E, nm) ∈ wd_ncs)) (k : Kx E q σ) : JX l d X D K Kx M pc σ L E q :=
  fun G ha hb hE H locs ls ce st hW hS hl h1 h2 h3 => vx_outP G.own G.lk (by rw [G.tb]; exact fun z hz => (hpass z hz).imp id (fun ⟨g1, nm, g2, g3⟩ => ⟨g1, nm, G.ws _ g2, (G.kk.2.2.1 _ g3).1⟩)) h1 h2 h3 (fun t ht hal => ⟨⟨σ, hE, k, by rw [ht]; exact hW⟩, hS.F ht⟩) hS.2.2 (Nat.sub_le _ _) (Nat.sub_le _ _)
theorem jx_out0 {E : String} {q : Nat} (hM : M.2.2.2.2 = []) (k : Kx E q σ) : JX l d X D K Kx M pc σ L E q := jx_out (by rw [hM]; intro z hz; cases hz) k
theorem jx_catch {E name : String} {q : Nat} (pre : List ExceptionTableEntry) (z : ExceptionTableEntry) (suf : List ExceptionTableEntry) (hsplit : tableOf M.2.2.2.2 = pre ++ z :: suf) (hpass : ∀ z ∈ pre, covers z pc = false ∨ (z.catchType ≠ 0 ∧ ∃ nm : String, Cond.classLink M.1.cls z.catchType nm ∈ lw_all ∧ (E, nm) ∈ wd_ncs)) (hx : covers z pc = true) (h0 : z.catchType ≠ 0) (hlink : Cond.classLink M.1.cls z.catchType name ∈ lw_all) (hcast : (E, name) ∈ wd_casts)
    (k : J l d X D K Kx M z.handlerPc σ L [.ref q]) : JX l d X D K Kx M pc σ L E q :=
  fun G ha hb hE H locs ls ce st hW hS hl h1 h2 h3 => vx_catch G.own pre z suf (by rw [G.tb]; exact hsplit) (fun z hz => (hpass z hz).imp id (fun ⟨g1, nm, g2, g3⟩ => ⟨g1, nm, G.ws _ g2, (G.kk.2.2.1 _ g3).1⟩)) hx h0 (G.ws _ hlink) (va_Nw.use rfl (G.kk.1.2.1 _ hcast)) h1 h2 h3 (k G ha hb hE H locs ls hW hS hl)
/-- athrow of an object of the world -/
theorem j_athrow {C : String} (hd : decode M.2.1 pc = .ok (.athrow, 1)) (hC : oC σ x = c + 1) (hr : vwCl[c]? = some rv) (hrv : rv.1 = C) (k : JX l d X D K Kx M pc σ L C x) : J l d X D K Kx M pc σ L (.ref x :: st) := by
  intro G ha hb hE H locs ls hW hS hl
  obtain ⟨-, r', e1, cell, q1, q2, q3, -⟩ := hW.2.1 x c hC
  cases hr.symm.trans e1
  exact vx_athrow G.ex G.cd hd (k G ha hb hE H locs ls cell st hW hS hl q1 q3 (by rw [← hrv, q2]; exact (G.va.1 c rv hr).2.1))
theorem wp_mono {ws : List Cond} {D : Nat} {y : MethodName} {as : List Value} (h : WP l d ws D y σ as K Kx) (hk : ∀ v σ', Ext σ σ' → K v σ' → K' v σ') (hx : ∀ E q σ', Ext σ σ' → Kx E q σ' → Kx' E q σ') : WP l d ws D y σ as K' Kx' := by
  intro hnt p e ha hc hkk s m args below hf happ hP hQ
  obtain ⟨t, o, h1, h2, h3, h4⟩ := h hnt p e ha hc hkk s m args below hf happ hP hQ
  refine ⟨t, o, h1, h2, h3, ?_⟩
  rcases h4 with ⟨⟨⟨v, σ', g1, ge, g2, g3⟩, gF⟩, g4⟩ | ⟨q, g0, E, ce, Lq, ⟨⟨σ', ge, g2, g3⟩, gF⟩, g4⟩
  · exact Or.inl ⟨⟨⟨v, σ', g1, ge, hk _ _ ge g2, g3⟩, gF⟩, g4⟩
  · exact Or.inr ⟨q, g0, E, ce, Lq, ⟨⟨σ', ge, hx _ _ _ ge g2, g3⟩, gF⟩, g4⟩
end JR2
