set_option linter.unusedVariables false
set_option maxRecDepth 10000
section PC
variable {σ τ υ σ0 : wS} {m F : Nat} {s : mS} {P P' : Nat → Nat → Prop} {a b c d : Nat}
abbrev GTe : List Nat := [102308, 2309, 2310, 22311, 2315, 12313, 2301, 2318, 2302, 2316, 2312]
theorem CFd.nwx (h : CFd σ m s) (hW : MW s) (e : aJ τ 12313 m = fil (mN s * 7) ((mN s + 1) * 7) 0 (aJ σ 12313 m)) (e1 : aI τ 2314 m = aI σ 2314 m) (e2 : oI τ 2303 m = oI σ 2303 m) (e3 : oI τ 2304 m = oI σ 2304 m) (e4 : oI τ 2305 m = oI σ 2305 m) {s' : mS} (ek : ∀ k, 10 ≤ k → s' k = s k) (eN : mN s' = mN s + 1) : CFd τ m s' := by
  obtain ⟨h1, h2, h3, h4, h5⟩ := h
  refine ⟨fun e' he r hr => ?_, ?_, ?_, ?_, ?_⟩
  · rw [ek 16 (by decide), e]
    by_cases z : e' < mN s
    · obtain ⟨n, n1, n2, n3⟩ := h1 e' z r hr
      refine ⟨n, n1, ?_, n3⟩
      show (if mN s * 7 ≤ e' * 7 + r ∧ e' * 7 + r < (mN s + 1) * 7 then (0 : Int64) else _) = _
      rw [if_neg (by omega)]
      exact n2
    · have ze : e' = mN s := by omega
      subst ze
      refine ⟨0, by decide, ?_, fun _ => (hW.2.2 _ 0 64 (Nat.le_refl _) (by decide) (by decide)).symm, fun _ f hf => ?_⟩
      · show (if mN s * 7 ≤ mN s * 7 + r ∧ mN s * 7 + r < (mN s + 1) * 7 then (0 : Int64) else _) = _
        rw [if_pos (by omega)]; rfl
      · rw [hW.2.2 _ r f (Nat.le_refl _) hr (by omega)]
        simp
  · rw [ek 17 (by decide), e1]; exact h2
  · rw [ek 18 (by decide), e2]; exact h3
  · rw [ek 19 (by decide), e3]; exact h4
  · rw [ek 20 (by decide), e4]; exact h5
theorem c_tell {Q : Int32 → wS → Prop} {Xh : Nat → Nat → wS → Prop} {k p x y : Nat} {X Y : Int32} (hC : CM σ m s) (hf : CFd σ m s) (hW : MW s) (ho : okx s k p x y) (hx : Im (k ≠ 1) (∃ g, X = nI g ∧ g < mG s ∧ R s g = R s x)) (hy : Im (5 ≤ k) (∃ g, Y = nI g ∧ g < mG s ∧ R s g = R s y)) (hr : 1 ≤ rC σ ∧ 7 ≤ rS σ) (hF : 200 ≤ F)
    (h1 : ∀ e, lik s k p x y = some e → Q (nI (R s (s 6 e))) σ)
    (h2 : lik s k p x y = none → mN s = 64 → ∀ q τ, Fr (fun _ _ => False) 1 7 σ τ → RfX 7 σ τ q → Xh 25 q τ)
    (h3 : lik s k p x y = none → mN s < 64 → ∀ τ, Fr (fun g o => o = m ∧ g ∈ GTe) 1 7 σ τ → CM τ m (nwx s k p x y) → CFd τ m (nwx s k p x y) → oI τ 2318 m = 0 → Q (nI (mG s)) τ) : w_X22_tell F σ m (nI k) (nI p) X Y Q Xh := by
  obtain ⟨⟨⟨hs, l, no⟩, ⟨hb, -⟩, hN⟩, hw1, hw2⟩ := (show MW s from hW)
  have hG := hs.2.1
  have hs8 := hs.2.2.2.1
  have ok := hC.1.1
  have hm : oC σ m ≠ 0 := by rw [ok.1]; decide
  have ho' := ho
  obtain ⟨o1, o2, o3, o4, o5, o6, o7⟩ := ho'
  have hk7 : k < 7 := by omega
  have hp8 : p < 8 := by
    rcases o1 with z | z | z | z | z
    · have := (o2 z).1; omega
    · exact o3 z
    · have := o4 (by omega); omega
    · have := o4 (by omega); omega
    · have := o4 (by omega); omega
  unfold w_X22_tell
  refine ⟨ok, c_alike hC hs hN hk7 (by omega) hx hy hF ?_⟩
  cases hl : lik s k p x y with
  | some e =>
    have he := lik_lt hl
    rw [show oN (some e) = nI e from rfl, if_neg (nI_m1 (by omega))]
    exact c_home hC hs hN he (by omega) (h1 e hl)
  | none =>
    rw [if_pos (show oN none = (-1 : Int32) from rfl)]
    refine c_need (b := 7) hr (fun z => ?_) (fun z q τ f r => ?_)
    · have hlt : mN s < 64 := by
        rcases Nat.lt_or_ge (mN s) 64 with y | y
        · exact y
        · exact absurd (if_pos (by rw [hC.1.2.2.1]; exact nI_le (a := 64) y (by omega))) z
      have nw := nwx_ok hs l no (by omega) ho hl
      obtain ⟨n1, n2, n3, n4, n5⟩ := nwx_old (s := s) (k := k) (p := p) (x := x) (y := y) hs
      obtain ⟨nO, nR⟩ : OldR s (nwx s k p x y) := ⟨n1, fun g hg => by show up (s 7) (mG s) (mG s) g = s 7 g; exact up_n (by omega)⟩
      have q2 : nwx s k p x y 2 (mN s) = k := up_s
      have q3 : nwx s k p x y 3 (mN s) = p := up_s
      have q4 : nwx s k p x y 4 (mN s) = R s x := up_s
      have q5 : nwx s k p x y 5 (mN s) = R s y := up_s
      have q6 : nwx s k p x y 6 (mN s) = mG s := up_s
      have q8 : nwx s k p x y 8 (mN s) = 0 := up_s
      have q7 : nwx s k p x y 7 (mG s) = mG s := up_s
      have n9 : ∀ g, g < mG s → nwx s k p x y 9 g = s 9 g := fun g hg => up_n (by omega)
      have h3' := h3 hl hlt
      generalize nwx s k p x y = s' at nw n1 n2 n3 n4 n5 nO nR q2 q3 q4 q5 q6 q8 q7 n9 h3'
      obtain ⟨w1, w2, w3⟩ := nw
      have e10 : s' 10 = s 10 := nO.2.2.2 10 (by decide)
      rw [hC.1.2.2.2]
      refine bnd_I fun τ1 u1 v1 => ⟨vp_inN (by omega) (by decide), bnd_A fun τ2 u2' v2 => ?_⟩
      rw [nI_clamp (by omega)] at v2
      have U : Wq [2302, 2316] m σ τ2 := (u1.mono (by decide)).up u2' (by decide)
      have S := fun g (hg : g ∉ [2302, 2316]) o => (U.sam hg) o
      have C0 : CM0 τ2 m s' (mN s) := by
        refine ⟨⟨ok22.ext ok U.ext, ?_, ?_, ?_⟩, fun e he => ?_, fun g hg => ?_, fun i hi => ?_, fun i hi => ?_⟩
        · rw [(S 2300 (by decide) m).1.1, e10]; exact hC.1.2.1
        · rw [(S 2301 (by decide) m).1.1]; exact hC.1.2.2.1
        · rw [((u2'.sam (by decide)) m).1.1, v1, nIl_1, nI_add, n5]
        · obtain ⟨p2, p3, p4, p5, p6, p8⟩ := nO.2.1 e he
          obtain ⟨z1, z2, z3, z4, z5⟩ := (hC.2.1 e he).wq U (by decide)
          unfold CE1
          rw [p2, p3, p4, p5, p6, p8]
          refine ⟨z1, fun k1 => ?_, fun k5 => ?_, z4, z5⟩
          · obtain ⟨g, g1, g2, g3⟩ := z2 k1
            exact ⟨g, g1, by omega, by rw [(nO.2.2.1 g g2).1, (nO.2.2.1 _ (sx_4 hs he k1)).1]; exact g3⟩
          · obtain ⟨g, g1, g2, g3⟩ := z3 k5
            exact ⟨g, g1, by omega, by rw [(nO.2.2.1 g g2).1, (nO.2.2.1 _ (sx_5 hs he k5)).1]; exact g3⟩
        · rw [v2, ((u1.sam (by decide)) m).1.2.2.2]
          by_cases y : g = mG s
          · rw [y, upd_s, q7]
          · rw [upd_n y, nR g (by omega)]; exact (hC.2.2.1 g (by omega)).1
        · rw [e10] at hi
          obtain ⟨o, t1, t2, t3, t4, t5, t6⟩ := hC.2.2.2.1 i hi
          unfold TO
          rw [nO.2.2.2 11 (by decide), nO.2.2.2 12 (by decide), nO.2.2.2 13 (by decide), nO.2.2.2 14 (by decide)]
          exact ⟨o, by rw [(S 92306 (by decide) m).2.2]; exact t1, by rw [U.1.1]; exact t2, by rw [(S 3200 (by decide) o).1.1]; exact t3, by rw [(S 3201 (by decide) o).1.1]; exact t4, by rw [(S 3202 (by decide) o).1.1]; exact t5, by rw [(S 3203 (by decide) o).1.1]; exact t6⟩
        · rw [(S 2307 (by decide) m).1.2.2.2, nO.2.2.2 15 (by decide)]; exact hC.2.2.2.2 i hi
      have rr : ∀ g, g < mG s → R s' (R s g) = R s g := fun g hg => by rw [(nO.2.2.1 _ (sh_lt hs hg)).1, sh_RR hs hg]
      have U2 : nx τ2 = nx σ ∧ rC τ2 = rC σ ∧ rS τ2 = rS σ := ⟨U.1.2.2.2.1, U.1.2.2.2.2.1, U.1.2.2.2.2.2⟩
      have add : ∀ (kk : wS → Prop), (∀ τ, Fr (fun g o => o = m ∧ g ∈ GAd) 1 2 τ2 τ → CM0 τ m s' (mN s + 1) → oI τ 2318 m = 0 → aJ τ 12313 m = fil (mN s * 7) ((mN s + 1) * 7) 0 (aJ τ2 12313 m) → kk τ) → w_X22_add τ2 m (nI k) (nI p) X Y (nI (mG s)) kk := by
        intro kk hkk
        rw [← q2, ← q3, ← q6]
        by_cases k1 : k = 1
        · exact c_add (x := 0) (y := 0) C0 hlt (by rw [q2]; exact o1) q8 (fun z => by rw [q2] at z; exact absurd k1 z) (fun z => by rw [q2] at z; omega) (by omega) hkk
        · obtain ⟨g, g1, g2, g3⟩ := hx k1
          by_cases k5 : 5 ≤ k
          · obtain ⟨g', g1', g2', g3'⟩ := hy k5
            exact c_add (x := g) (y := g') C0 hlt (by rw [q2]; exact o1) q8 (fun _ => ⟨g1, by omega, by rw [q4, rr x (o5 k1), (nO.2.2.1 g g2).1]; exact g3⟩) (fun _ => ⟨g1', by omega, by rw [q5, rr y (o6 k5), (nO.2.2.1 g' g2').1]; exact g3'⟩) (by omega) hkk
          · exact c_add (x := g) (y := 0) C0 hlt (by rw [q2]; exact o1) q8 (fun _ => ⟨g1, by omega, by rw [q4, rr x (o5 k1), (nO.2.2.1 g g2).1]; exact g3⟩) (fun z => by rw [q2] at z; exact absurd z k5) (by omega) hkk
      refine add _ (fun τ3 f3 C3 n0 fJ => ?_)
      have F3 : Fr (fun g o => o = m ∧ g ∈ GTe) 1 7 σ τ3 := ((U.fr (P := fun g o => o = m ∧ g ∈ GTe) (fun g hg => ⟨rfl, by revert g; decide⟩)).trans (f3.mono (fun g o z => ⟨z.1, (show ∀ g ∈ GAd, g ∈ GTe by decide) g z.2⟩) (Nat.le_refl _) (Nat.le_refl _))).mono (fun _ _ z => z) (by decide) (by decide)
      have hm2 : oC τ2 m ≠ 0 := by rw [U.1.1]; exact hm
      rw [C3.1.2.2.1, show nI (mN s + 1) - (1 : Int32) = nI (mN s) from nI_pred _, nI_clamp (by omega)]
      obtain ⟨⟨o, a1, a2⟩, -⟩ := C3.2.1 (mN s) (by omega)
      have old12 : aI τ3 2312 m = aI σ 2312 m := by
        rw [(f3.2.1 2312 m hm2 (fun z => absurd z.2 (by decide))).1.1.2.2.2, (S 2312 (by decide) m).1.2.2.2]
      have s9 : ∀ g, g < mG s → aI σ 2312 m g = nI (s 9 g) := fun g hg => (hC.2.2.1 g hg).2
      have r9 : ∀ g, g < mG s → aI τ3 2312 m (R s' (R s g)) = nI (s' 9 (R s' (R s g))) := fun g hg => by
        rw [rr g hg, old12, s9 _ (sh_lt hs hg), (nO.2.2.1 g hg).2]
      have hxc : xc s' (s' 9) (mN s) = s' 9 (mG s) := by
        have := (w2.2.2.1 (mN s) (by omega) q8).1
        rw [q6, n2] at this
        exact this.symm
      rw [a1]
      refine ⟨vp_inN hlt (by decide), o, rfl, c_xcol C3 (sh_dn w1) (by omega) (by omega) (by omega) (by rw [q2]; exact o1) a1 (fun z => ?_) (fun z => ?_) (fun z => ?_) (fun z => ?_) (fun z => ?_) (fun z => ?_) hF ?_⟩
      · rw [q2] at z
        have := sh_lt hs (o5 z)
        rw [q4]; omega
      · rw [q2] at z
        have := sh_lt hs (o6 z)
        rw [q5]; omega
      · rw [q2] at z
        rw [q3, e10]
        exact ⟨(o2 z).1, hs8⟩
      · rw [q2] at z
        rw [q3, q4, rr x (o5 (by omega)), (nO.2.2.1 x (o5 (by omega))).2]
        exact ⟨o4 (by omega), o7 z⟩
      · rw [q2] at z
        rw [q4]; exact r9 x (o5 z)
      · rw [q2] at z
        rw [q5]; exact r9 y (o6 z)
      · rw [hxc]
        refine bnd_A fun τ4 u4 v4 => ?_
        rw [nI_clamp (by omega)] at v4
        have F4 : Fr (fun g o => o = m ∧ g ∈ GTe) 1 7 σ τ4 := F3.w u4 (Or.inr (fun g hg => ⟨rfl, by rw [List.mem_singleton.mp hg]; decide⟩))
        have C4 : CM0 τ4 m s' (mN s + 1) := by
          refine ⟨⟨ok22.ext C3.1.1 u4.ext, ?_, ?_, ?_⟩, fun e he => (C3.2.1 e he).wq u4 (by decide), fun g hg => ?_, fun i hi => ?_, fun i hi => ?_⟩
          · rw [((u4.sam (by decide)) m).1.1]; exact C3.1.2.1
          · rw [((u4.sam (by decide)) m).1.1]; exact C3.1.2.2.1
          · rw [((u4.sam (by decide)) m).1.1]; exact C3.1.2.2.2
          · rw [((u4.sam (by decide)) m).1.2.2.2]; exact C3.2.2.1 g hg
          · obtain ⟨o, t1, t2, t3, t4, t5, t6⟩ := C3.2.2.2.1 i hi
            exact ⟨o, by rw [((u4.sam (by decide)) m).2.2]; exact t1, by rw [u4.1.1]; exact t2, by rw [((u4.sam (by decide)) o).1.1]; exact t3, by rw [((u4.sam (by decide)) o).1.1]; exact t4, by rw [((u4.sam (by decide)) o).1.1]; exact t5, by rw [((u4.sam (by decide)) o).1.1]; exact t6⟩
          · rw [((u4.sam (by decide)) m).1.2.2.2]; exact C3.2.2.2.2 i hi
        rw [← n4] at C4
        refine h3' τ4 F4 (C4.cm (fun g hg => ?_)) ?_ ?_
        · rw [v4, old12]
          by_cases y : g = mG s
          · rw [y, upd_s]
          · rw [upd_n y, s9 g (by omega)]
            congr 1
            exact (n9 g (by omega)).symm
        · refine CFd.nwx hf hW ?_ ?_ ?_ ?_ ?_ nO.2.2.2 n4
          · rw [((u4.sam (by decide)) m).2.1, fJ, (S 12313 (by decide) m).2.1]
          · rw [((u4.sam (by decide)) m).1.2.2.2, (f3.2.1 2314 m hm2 (fun z => absurd z.2 (by decide))).1.1.2.2.2, (S 2314 (by decide) m).1.2.2.2]
          · rw [((u4.sam (by decide)) m).1.1, (f3.2.1 2303 m hm2 (fun z => absurd z.2 (by decide))).1.1.1, (S 2303 (by decide) m).1.1]
          · rw [((u4.sam (by decide)) m).1.1, (f3.2.1 2304 m hm2 (fun z => absurd z.2 (by decide))).1.1.1, (S 2304 (by decide) m).1.1]
          · rw [((u4.sam (by decide)) m).1.1, (f3.2.1 2305 m hm2 (fun z => absurd z.2 (by decide))).1.1.1, (S 2305 (by decide) m).1.1]
        · rw [((u4.sam (by decide)) m).1.1]; exact n0
    · have h64 : mN s = 64 := by
        rcases Nat.lt_or_ge (mN s) 64 with y | y
        · rw [hC.1.2.2.1, if_neg (show ¬ (64 : Int32) ≤ nI (mN s) from nI_ge (b := 64) y (by decide))] at z
          exact absurd z (by decide)
        · omega
      exact h2 hl h64 q τ f r
end PC
