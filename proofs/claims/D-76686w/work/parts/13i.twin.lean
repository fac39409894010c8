set_option linter.unusedVariables false
set_option maxRecDepth 10000
section PT
variable {σ τ υ : wS} {t F : Nat} {s : mS}
theorem t_isColumn {Q : Int32 → wS → Prop} {C c : Nat} (hC : C < 2 ^ 31) (hc : c < 4) (h : Q (if C.testBit c = true then 1 else 0) σ) : w_X24_isColumn σ t (nI C) (nI c) Q := by
  unfold w_X24_isColumn
  rw [if_neg (nI_pos (lt31 (by omega))), if_neg (show ¬ (4 : Int32) ≤ nI c from nI_ge (b := 4) hc (by decide)), bitI hC (by omega)]
  by_cases q : C.testBit c = true
  · rw [if_pos q, if_pos rfl]; rw [if_pos q] at h; exact h
  · rw [if_neg q, if_neg (by decide)]; rw [if_neg q] at h; exact h
theorem t_waysOf {Q : wS → Prop} {d : Nat} (hw : Wx σ t s) (hs : Sh s) (l : Lo s) (hb : Tb s) (hX : Xo s) (hN : mN s ≤ 64) (hd : Dm s d) (hF : 200 ≤ F) (hQ : ∀ τ, Tv GW t σ τ → WL τ t (wys s d) → Q τ) : w_X24_waysOf F σ t (nI d) Q := by
  have b1 := hs.2.1
  have hg := hd.1
  have hdl : d < 1920 := dm_lt (by omega) hd
  have r := rw_le hs l hb hg
  rw [hd.2] at r
  unfold w_X24_waysOf
  have e1 : ((nI d - nI d / (30 : Int32) * (30 : Int32)) / (6 : Int32)) - (1 : Int32) = eI (d % 30 / 6) := by
    rw [nIl_30, pk_rem (lt31 (by omega)) (by decide) (by decide), show (6 : Int32) = nI 6 from rfl, pk_div (lt31 (by omega)) (by decide) (by decide), eI_sub]
  have e2 : (nI d - nI d / (6 : Int32) * (6 : Int32)) - (1 : Int32) = eI (d % 6) := by
    rw [show (6 : Int32) = nI 6 from rfl, pk_rem (lt31 (by omega)) (by decide) (by decide), eI_sub]
  have e3 : nI d / (30 : Int32) = nI (d / 30) := by
    rw [nIl_30, pk_div (lt31 (by omega)) (by decide) (by decide)]
  rw [e1, e2, e3, bnd_eq, bnd_eq]
  refine ⟨hw.1.1.1, bnd_sI fun σ0 w0 v0 a0 j0 => ?_⟩
  have V0 : Tv GW t σ σ0 := ⟨w0.mono (by simp), w0.I (by decide), by rw [a0]⟩
  have vg : vp_in (nI (d / 30)) 144 := vp_in_nI (by omega) (by decide)
  have cg : (nI (d / 30)).toNatClampNeg = d / 30 := nI_clamp (lt31 (by omega))
  have ho : d % 30 / 6 < 5 := by omega
  have hp : d % 6 < 6 := by omega
  -- behind the expressions
  have fin : ∀ τ L, Tv GW t σ τ → WL τ t L → L.length < 399 → (∀ τ, Tv GW t σ τ → WL τ t (L ++ wyN2 s d) → Q τ) → b_X24_waysOf_130 F t Q τ (nI (d / 30)) (eI (d % 30 / 6)) (eI (d % 6)) (nI (rw' s (d / 30))) := by
    intro τ L w W hn hK
    have hw' := hw.tv w
    unfold wyN2 at hK
    unfold b_X24_waysOf_130
    by_cases c0 : d % 30 / 6 = 0
    · rw [if_pos (by rw [c0]; rfl)]
      by_cases c1 : d % 6 = 0
      · rw [if_pos (by rw [c1]; rfl)]
        rw [if_neg (fun z => z.2.1 c1), List.append_nil] at hK
        exact hK τ w W
      · rw [if_neg (eI_n (by omega) c1)]
        have wy : (d % 6 = 5 ∨ (s 9 (d / 30)).testBit (d % 6 - 1) = true) → b_X24_waysOf_162 F t Q τ (nI (d / 30)) (nI (rw' s (d / 30))) := by
          intro z
          rw [if_pos ⟨c0, c1, z⟩] at hK
          refine t_demand (o := 0) (p := 0) ⟨hw'.1.1.1, ?_⟩
          exact t_way (k := 11) (e := none) (one := some _) (two := none) (pl := none) hw'.1.1.1 hw'.2.2.1 hX.1 W (by omega) (by decide) (by omega) (by omega) (nI_l (lt31 (by omega))) rfl (nI_l (lt31 (by omega))) rfl rfl rfl rfl (fun υ w2 W2 => hK υ (w.trans w2) W2)
        by_cases c5 : d % 6 = 5
        · rw [if_pos (by rw [c5]; rfl)]
          exact wy (Or.inl c5)
        · rw [if_neg (show ¬ eI (d % 6) = (4 : Int32) from fun z => c5 ((eI_inj (b := 5) (by omega) (by decide)).mp z))]
          obtain ⟨q, hq⟩ : ∃ q, d % 6 = q + 1 := ⟨d % 6 - 1, by omega⟩
          refine ⟨hw'.1.1.1, vg, ?_⟩
          have hcl := hw'.cl hs hg
          rw [hd.2] at hcl
          have h16 := l.2.2.2 _ hg
          rw [hd.2] at h16
          rw [cg, hcl]
          rw [hq] at wy hK ⊢
          refine t_isColumn (c := q) (lt31 (by omega)) (by omega) ?_
          by_cases cb : (s 9 (d / 30)).testBit q = true
          · rw [if_pos cb, if_neg (by decide)]
            exact wy (Or.inr cb)
          · rw [if_neg cb, if_pos rfl]
            rw [if_neg (fun z => z.2.2.elim (fun y => c5 (by omega)) cb), List.append_nil] at hK
            exact hK τ w W
    · rw [if_neg (eI_n (by omega) c0)]
      rw [if_neg (fun z => c0 z.1), List.append_nil] at hK
      exact hK τ w W
  have key : ∀ n i τ, i ≤ mN s → mN s - i < n → Tv GW t σ τ → WL τ t (wyU s d i) → l_X24_waysOf_31 F t Q (fun σ22 y23 y24 y25 => ok24 σ22 t ∧ vp_in y23 144 ∧ bnd (aI σ22 2530 t y23.toNatClampNeg) fun v28 => (if y24 = (-1 : Int32) then b_X24_waysOf_130 F t Q σ22 y23 y24 y25 v28 else w_X24_isColumn σ22 t (aI σ22 2531 t y23.toNatClampNeg) y24 (fun r50 σ51 => (if r50 = 0 then b_X24_waysOf_130 F t Q σ51 y23 y24 y25 v28 else w_X24_demand σ51 y23 (-1 : Int32) y25 (fun r54 σ55 => w_X24_way F σ55 t (10 : Int32) (-1 : Int32) r54 (-1 : Int32) (-1 : Int32) v28.toInt64 (0 : Int64) v28.toInt64 (fun σ58 => b_X24_waysOf_130 F t Q σ58 y23 y24 y25 v28)))))) n τ (nI (d / 30)) (eI (d % 30 / 6)) (eI (d % 6)) (nI i) := by
    intro n
    induction n with
    | zero => intro i τ _ h; omega
    | succ n ih =>
      intro i τ hi hn w W
      have hw' := hw.tv w
      have T := hw'.1
      have hlen := wyU_len (s := s) (d := d) i
      refine ⟨T.1.1, ?_⟩
      rw [T.1.2.2.1]
      by_cases c : mN s ≤ i
      · rw [if_pos (nI_le c (lt31 (by omega)))]
        have ei : i = mN s := by omega
        subst ei
        refine ⟨T.1.1, vg, ?_⟩
        have hr := hw'.row hs hg
        rw [hd.2] at hr
        have hcl := hw'.cl hs hg
        rw [hd.2] at hcl
        have h16 := l.2.2.2 _ hg
        rw [hd.2] at h16
        rw [cg, hr, bnd_eq, hcl]
        by_cases c0 : d % 30 / 6 = 0
        · have e0 : wyN1 s d = [] := by unfold wyN1; rw [if_neg (fun z => z.1 c0)]
          rw [if_pos (by rw [c0]; rfl)]
          refine fin τ _ w W (by omega) (fun υ w2 W2 => hQ υ w2 ?_)
          unfold wys
          rw [e0, List.nil_append]
          exact W2
        · rw [if_neg (eI_n (by omega) c0)]
          obtain ⟨q, hq⟩ : ∃ q, d % 30 / 6 = q + 1 := ⟨d % 30 / 6 - 1, by omega⟩
          have hcol : ∀ K : Int32 → wS → Prop, K (if (s 9 (d / 30)).testBit q = true then 1 else 0) τ → w_X24_isColumn τ t (nI (s 9 (d / 30))) (eI (d % 30 / 6)) K := by
            intro K h
            rw [hq]
            exact t_isColumn (c := q) (lt31 (by omega)) (by omega) h
          refine hcol _ ?_
          by_cases cb : (s 9 (d / 30)).testBit q = true
          · rw [if_pos cb, if_neg (by decide)]
            have e1 : wyN1 s d = wyk (s 19 0) 10 (10, none, some (dm (d / 30) 0 (d % 6)), none, none, prc 10 (rw' s (d / 30)) 0 (rw' s (d / 30))) := by
              unfold wyN1
              rw [if_pos ⟨c0, by rw [hq]; exact cb⟩]
            refine t_demand (o := 0) ?_
            refine t_way (k := 10) (e := none) (one := some _) (two := none) (pl := none) T.1.1 hw'.2.2.1 hX.1 W (by omega) (by decide) (by omega) (by omega) (nI_l (lt31 (by omega))) rfl (nI_l (lt31 (by omega))) rfl rfl rfl rfl (fun υ w2 W2 => ?_)
            rw [← e1] at W2
            have hl1 : (wyN1 s d).length ≤ 1 := by rw [e1]; exact wyk_len
            refine fin υ _ (w.trans w2) W2 (by rw [List.length_append]; omega) (fun υ' w3 W3 => hQ υ' w3 ?_)
            unfold wys
            rw [← List.append_assoc]
            exact W3
          · rw [if_neg cb, if_pos rfl]
            have e0 : wyN1 s d = [] := by unfold wyN1; rw [if_neg (fun z => cb (by have := z.2; rw [hq] at this; exact this))]
            refine fin τ _ w W (by omega) (fun υ w2 W2 => hQ υ w2 ?_)
            unfold wys
            rw [e0, List.nil_append]
            exact W2
      · rw [if_neg (nI_ge (by omega) (lt31 (by omega)))]
        have hi' : i < mN s := by omega
        refine ⟨vp_in_nI (by omega) (by decide), ?_⟩
        have d8 := (sh_bnd hs hi').2.2.2
        have B6 := sx_6 hs hi'
        rw [nI_clamp (n := i) (lt31 (by omega)), (T.2.1 i hi').2.2.2.2.2, (T.2.1 i hi').2.2.2.2.1]
        have nxt : (s 8 i = 0 ∧ R s (s 6 i) = d / 30 → False) → l_X24_waysOf_31 F t Q _ n τ (nI (d / 30)) (eI (d % 30 / 6)) (eI (d % 6)) (nI i + 1) := fun z => by
          rw [← nI_succ]
          refine ih (i + 1) τ (by omega) (by omega) w ?_
          unfold wyU
          rw [if_neg z, List.append_nil]
          exact W
        by_cases c8 : s 8 i = 0
        · rw [if_pos ((nI_n0 (lt31 (by omega))).mpr c8)]
          have g6 := sh_lt hs B6
          refine t_root T hs B6 (by omega) ?_
          by_cases cR : R s (s 6 i) = d / 30
          · rw [if_pos (by rw [cR])]
            refine t_waysBy hw' hs l hb hX W (by omega) hi' ho hp hF (fun υ w2 W2 => ?_)
            rw [← nI_succ]
            refine ih (i + 1) υ (by omega) (by omega) (w.trans w2) ?_
            unfold wyU
            rw [if_pos ⟨c8, cR⟩]
            exact W2
          · rw [if_neg (nI_eqf (by omega) (by omega) cR)]
            exact nxt (fun z => cR z.2)
        · rw [if_neg (fun z => c8 ((nI_n0 (lt31 (by omega))).mp z))]
          exact nxt (fun z => c8 z.1)
  refine key F 0 σ0 (Nat.zero_le _) (by omega) V0 ⟨v0, fun i hi => absurd hi (Nat.not_lt_zero _)⟩
def CW (σ : wS) (t : Nat) (c : Nat → Nat) : Prop := ∀ d, d < 1920 → aJ σ 12533 t d = lN (c d)
theorem CW.tw {G : List Nat} {c : Nat → Nat} (h : CW σ t c) (k : Tw G t σ τ) (d : 12533 ∉ G) : CW τ t c := fun x hx => by rw [k.AJ d]; exact h x hx
theorem t_sum {Q : Int64 → wS → Prop} {c : Nat → Nat} {L : List Wy} {i : Nat} (ok : ok24 σ t) (hW : WL σ t L) (hC : CW σ t c) (hc : ∀ d, c d ≤ OVR) (hn : L.length < 400) (hi : i < L.length) (hw : okW s L[i]) (hG : mG s ≤ 64) (hQ : Q (lN (sm c L[i])) σ) : w_X24_sum σ t (nI i) Q := by
  have mo := MO
  obtain ⟨-, hp, h1, h2, -⟩ := hw
  obtain ⟨-, -, f38, f39, -, f41⟩ := hW.2 i hi
  have vi : vp_in (nI i) 400 := vp_in_nI (by omega) (by decide)
  have ci : (nI i).toNatClampNeg = i := nI_clamp (lt31 (by omega))
  have le : ∀ o, oc c o ≤ OVR := fun o => by cases o with | none => exact Nat.zero_le _ | some d => exact hc d
  have l1 := le L[i].2.2.1
  have l2 := le L[i].2.2.2.1
  have last : ∀ x, x = L[i].2.2.2.2.2 + oc c L[i].2.2.1 + oc c L[i].2.2.2.1 → b_X24_sum_55 Q σ (lN x) := by
    intro x hx
    unfold b_X24_sum_55
    unfold sm at hQ
    rw [← hx] at hQ
    unfold cap at hQ
    have em : (1000000000000 : Int64) = lN MCH := rfl
    rw [em]
    by_cases q : x ≤ MCH
    · rw [if_pos ((pk_lLE (by omega) (by omega)).mpr q)]
      rw [if_pos q] at hQ; exact hQ
    · rw [if_neg (fun z => q ((pk_lLE (by omega) (by omega)).mp z))]
      rw [if_neg q] at hQ; exact hQ
  have second : ∀ x, x = L[i].2.2.2.2.2 + oc c L[i].2.2.1 → b_X24_sum_31 t (nI i) Q σ (lN x) := by
    intro x hx
    refine ⟨ok, vi, ?_⟩
    rw [ci, f39]
    cases q : L[i].2.2.2.1 with
    | none =>
      rw [if_pos (show oN none = (-1 : Int32) from rfl)]
      exact last x (by rw [q]; exact hx)
    | some d2 =>
      have := dm_lt hG (h2 d2 q)
      rw [show oN (some d2) = nI d2 from rfl, if_neg (nI_m1 (lt31 (by omega)))]
      refine ⟨vp_in_nI this (by decide), ?_⟩
      rw [nI_clamp (n := d2) (lt31 (by omega)), hC d2 this, lN_add, bnd_eq]
      exact last _ (by rw [q, hx]; rfl)
  refine ⟨ok, vi, ?_⟩
  rw [ci, f41, f38, bnd_eq]
  cases q : L[i].2.2.1 with
  | none =>
    rw [if_pos (show oN none = (-1 : Int32) from rfl)]
    exact second _ (by rw [q]; rfl)
  | some d1 =>
    have := dm_lt hG (h1 d1 q)
    rw [show oN (some d1) = nI d1 from rfl, if_neg (nI_m1 (lt31 (by omega)))]
    refine ⟨vp_in_nI this (by decide), ?_⟩
    rw [nI_clamp (n := d1) (lt31 (by omega)), hC d1 this, lN_add, bnd_eq]
    exact second _ (by rw [q]; rfl)
end PT
