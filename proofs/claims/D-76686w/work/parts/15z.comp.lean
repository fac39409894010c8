set_option linter.unusedVariables false
set_option maxRecDepth 10000
/-! ===== component: firing ===== -/
section PC
variable {σ τ υ σ0 : wS} {x m F : Nat} {s s1 : mS} {S : gS} {K K' : Nat → Nat} {P P' : Nat → Nat → Prop} {a b c d r : Nat}
abbrev GFw : List Nat := [102308, 2309, 2310, 22311, 2315, 12313, 2301, 2318, 2302, 2316, 2312, 2314, 2303]
theorem CFd.k {s' : mS} (h : CFd σ m s) (e : ∀ k, 16 ≤ k → s' k = s k) (eN : mN s' = mN s) : CFd σ m s' := by
  unfold CFd
  rw [eN, e 16 (by decide), e 17 (by decide), e 18 (by decide), e 19 (by decide), e 20 (by decide)]
  exact h
theorem c_nwa {Q : wS → Prop} {k p x y g : Nat} {X Y : Int32} (hC : CM σ m s) (hf : CFd σ m s) (hW : MW s) (ho : okx s k p x y) (hx : Im (k ≠ 1) (Po s X x)) (hy : Im (5 ≤ k) (Po s Y y)) (hlt : mN s < 64) (hr : 1 ≤ rC σ ∧ 2 ≤ rS σ) (hQ : ∀ τ, Fr (fun g o => o = m ∧ g ∈ GAd) 1 2 σ τ → CM τ m (nwa s k p x y g) → CFd τ m (nwa s k p x y g) → oI τ 2318 m = 0 → Q τ) : w_X22_add σ m (nI k) (nI p) X Y (nI g) Q := by
  have hs := hW.1.1.1
  have hm : oC σ m ≠ 0 := by rw [hC.1.1.1]; decide
  have q2 : nwa s k p x y g 2 (mN s) = k := up_s
  have q3 : nwa s k p x y g 3 (mN s) = p := up_s
  have q4 : nwa s k p x y g 4 (mN s) = R s x := up_s
  have q5 : nwa s k p x y g 5 (mN s) = R s y := up_s
  have q6 : nwa s k p x y g 6 (mN s) = g := up_s
  have q8 : nwa s k p x y g 8 (mN s) = 0 := up_s
  have eN : mN (nwa s k p x y g) = mN s + 1 := show up (s 0) 0 (mN s + 1) 0 = mN s + 1 from up_s
  have eG : mG (nwa s k p x y g) = mG s := rfl
  have eR : ∀ h, R (nwa s k p x y g) h = R s h := fun h => rfl
  have e7 : nwa s k p x y g 7 = s 7 := rfl
  have e9 : nwa s k p x y g 9 = s 9 := rfl
  have ek : ∀ j, 10 ≤ j → nwa s k p x y g j = s j := fun j hj => by
    unfold nwa adx
    rw [st_n (by omega), st_n (by omega), st_n (by omega), st_n (by omega), st_n (by omega), st_n (by omega), st_n (by omega)]
  have eo : ∀ e, e < mN s → nwa s k p x y g 2 e = s 2 e ∧ nwa s k p x y g 3 e = s 3 e ∧ nwa s k p x y g 4 e = s 4 e ∧ nwa s k p x y g 5 e = s 5 e ∧ nwa s k p x y g 6 e = s 6 e ∧ nwa s k p x y g 8 e = s 8 e := fun e he => ⟨up_n (by omega), up_n (by omega), up_n (by omega), up_n (by omega), up_n (by omega), up_n (by omega)⟩
  generalize nwa s k p x y g = s' at q2 q3 q4 q5 q6 q8 eN eG eR e7 e9 ek eo hQ
  have C0 : CM0 σ m s' (mN s) := by
    refine ⟨⟨hC.1.1, ?_, hC.1.2.2.1, by rw [eG]; exact hC.1.2.2.2⟩, fun e he => ?_, fun h hh => ?_, fun i hi => ?_, fun i hi => ?_⟩
    · rw [ek 10 (by decide)]; exact hC.1.2.1
    · obtain ⟨p2, p3, p4, p5, p6, p8⟩ := eo e he
      obtain ⟨z1, z2, z3, z4, z5⟩ := hC.2.1 e he
      unfold CE1
      rw [p2, p3, p4, p5, p6, p8, eG, show R s' = R s from funext eR]
      exact ⟨z1, z2, z3, z4, z5⟩
    · rw [e7]; rw [eG] at hh; exact (hC.2.2.1 h hh).1
    · rw [ek 10 (by decide)] at hi
      unfold TO
      rw [ek 11 (by decide), ek 12 (by decide), ek 13 (by decide), ek 14 (by decide)]
      exact hC.2.2.2.1 i hi
    · rw [ek 15 (by decide)]; exact hC.2.2.2.2 i hi
  obtain ⟨o1, o2, o3, o4, o5, o6, o7⟩ := ho
  have s9 : ∀ h, h < mG s → aI σ 2312 m h = nI (s 9 h) := fun h hh => (hC.2.2.1 h hh).2
  have fin : ∀ τ, Fr (fun g o => o = m ∧ g ∈ GAd) 1 2 σ τ → CM0 τ m s' (mN s + 1) → oI τ 2318 m = 0 → aJ τ 12313 m = fil (mN s * 7) ((mN s + 1) * 7) 0 (aJ σ 12313 m) → Q τ := fun τ f C1 n0 fJ => by
    have no : ∀ g, g ∉ GAd → ¬ (m = m ∧ g ∈ GAd) := fun g hg z => hg z.2
    rw [← eN] at C1
    refine hQ τ f (C1.cm (fun h hh => ?_)) ?_ n0
    · rw [(f.2.1 2312 m hm (no _ (by decide))).1.1.2.2.2, e9]
      exact s9 h (by rw [← eG]; exact hh)
    · refine CFd.nwx hf hW fJ ?_ ?_ ?_ ?_ ek eN
      · rw [(f.2.1 2314 m hm (no _ (by decide))).1.1.2.2.2]
      · rw [(f.2.1 2303 m hm (no _ (by decide))).1.1.1]
      · rw [(f.2.1 2304 m hm (no _ (by decide))).1.1.1]
      · rw [(f.2.1 2305 m hm (no _ (by decide))).1.1.1]
  rw [← q2, ← q3, ← q6]
  by_cases k1 : k = 1
  · exact c_add (x := 0) (y := 0) C0 hlt (by rw [q2]; exact o1) q8 (fun z => by rw [q2] at z; exact absurd k1 z) (fun z => by rw [q2] at z; omega) hr fin
  · obtain ⟨g', g1, g2, g3⟩ := hx k1
    by_cases k5 : 5 ≤ k
    · obtain ⟨g'', g1', g2', g3'⟩ := hy k5
      exact c_add (x := g') (y := g'') C0 hlt (by rw [q2]; exact o1) q8 (fun _ => ⟨g1, by rw [eG]; exact g2, by rw [q4, eR, eR, sh_RR hs (o5 k1)]; exact g3⟩) (fun _ => ⟨g1', by rw [eG]; exact g2', by rw [q5, eR, eR, sh_RR hs (o6 k5)]; exact g3'⟩) hr fin
    · exact c_add (x := g') (y := 0) C0 hlt (by rw [q2]; exact o1) q8 (fun _ => ⟨g1, by rw [eG]; exact g2, by rw [q4, eR, eR, sh_RR hs (o5 k1)]; exact g3⟩) (fun z => by rw [q2] at z; exact absurd z k5) hr fin
theorem mrg_RR {g h : Nat} (hs : Sh s) (hg : g < mG s) (hh : h < mG s) : mrg s (R s g) (R s h) = mrg s g h := by
  unfold mrg uni
  rw [sh_RR hs hg, sh_RR hs hh]
/-- the last of a firing -/
theorem c_fin {Q : wS → Prop} {Xh : Nat → Nat → wS → Prop} {y : mS × Nat} {e r f : Nat} {v : Int32} (hC : CM σ m y.1) (hf : CFd σ m y.1) (hW : MW y.1) (hs : Sh s) (l : Lo s) (hk : NK s e r f) (h4 : r ≠ 4) (ho : Old s y.1) (hg : 1 ≤ r → y.2 < mG y.1 ∧ R y.1 y.2 = y.2 ∧ y.1 9 y.2 = col4 s (brk s e r f)) (hroom : lk4 y.1 (cms y.1 e r f y.2) = none → mN y.1 < 64) (hv : r = 0 ∨ v = nI y.2) (k2 : ok2 σ (K 2)) (c2 : oR σ 302 (K 2) = some (K 5)) (c3 : oR σ 303 (K 2) = some m) (ok5 : ok3 σ (K 5)) (e4 : oI σ 304 (K 2) = nI e) (do' : DO σ (K 5) s e r f) (hr : 1 ≤ rC σ ∧ 2 ≤ rS σ) (hF : 1000 ≤ F) (hQ : ∀ τ, Fr (fun g o => o = m ∧ g ∈ GFw) 1 2 σ τ → CM τ m (fin2 y e r f) → CFd τ m (fin2 y e r f) → oI τ 2318 m = 0 → (∀ i, i < mN y.1 → fin2 y e r f 2 i = y.1 2 i ∧ fin2 y e r f 3 i = y.1 3 i) → Q τ) : b_X2_fire_163 F (K 2) Q Xh σ v := by
  obtain ⟨⟨⟨hs1, l1, n1⟩, -, hN⟩, -⟩ := id hW
  have hG1 := hs1.2.1
  have hk1 : NK y.1 e r f := nk_old hs hk ho
  have he1 := hk1.1
  obtain ⟨⟨d1, d2⟩, d3, d4⟩ := do' h4
  have hcm : cms y.1 e r f y.2 = cms s e r f y.2 := by
    obtain ⟨a2, a3, a4, a5, a6, a8⟩ := ho.2.1 e hk.1
    unfold cms
    by_cases r0 : r = 0
    · rw [if_pos r0, if_pos r0, a3, a4, a5]
    · obtain ⟨b2, b3, b4, b5, b6, b8⟩ := ho.2.1 f (hk.2.2.2.2 (by omega)).1
      rw [if_neg r0, if_neg r0, b2, b3, b4, b5]
  obtain ⟨cc1, cc2⟩ := cms_col hs l hk h4 ho hs1 hg
  have e6 : y.1 6 e = s 6 e := (ho.2.1 e hk.1).2.2.2.2.1
  have B6 := sx_6 hs1 he1
  have kx : k4ok y.1 (cms s e r f y.2) := by rw [← hcm]; exact cms_ok hs1 hk1 h4 (fun z => (hg z).1)
  have kk := cms_k (s := s) (e := e) (r := r) (f := f) (g := y.2)
  have hv' : (∀ g, cms s e r f g = cms s e r f 0) ∨ v = nI y.2 ∧ y.2 < mG y.1 := by
    by_cases r0 : r = 0
    · subst r0; exact Or.inl (fun g => rfl)
    · exact Or.inr ⟨hv.resolve_left r0, (hg (by omega)).1⟩
  have px : Po y.1 (if oI σ 402 (K 5) = (-2 : Int32) then v else oI σ 402 (K 5)) (cms s e r f y.2).2.2.1 := by
    refine px_po (h := fun g => (cms s e r f g).2.2.1) d3 ho.1.2 (by omega) (fun g hg => (ho.2.2.1 g hg).1) ?_
    rcases hv' with z | z
    · exact Or.inl (fun g => by rw [z g])
    · exact Or.inr z
  have py : Im (5 ≤ (cms s e r f y.2).1) (Po y.1 (if oI σ 403 (K 5) = (-2 : Int32) then v else oI σ 403 (K 5)) (cms s e r f y.2).2.2.2) := by
    intro z
    rw [kk.1] at z
    refine px_po (h := fun g => (cms s e r f g).2.2.2) (d4 z) ho.1.2 (by omega) (fun g hg => (ho.2.2.1 g hg).1) ?_
    rcases hv' with z | z
    · exact Or.inl (fun g => by rw [z g])
    · exact Or.inr z
  have hf2 : fin2 y e r f = (match lk4 y.1 (cms s e r f y.2) with
    | none => nwa y.1 (cms s e r f y.2).1 (cms s e r f y.2).2.1 (cms s e r f y.2).2.2.1 (cms s e r f y.2).2.2.2 (R y.1 (y.1 6 e))
    | some j => mrg y.1 (y.1 6 j) (y.1 6 e)) := by unfold fin2; rw [hcm]; cases lk4 y.1 (cms s e r f y.2) <;> rfl
  rw [hcm] at hroom
  unfold b_X2_fire_163
  rw [c2, c3]
  refine ⟨k2, K 5, rfl, ok5, c_alk3 hC hs1 hN ok5 kx (by rw [kk.1]; exact d1) (by rw [kk.2]; exact d2) px py hF ?_⟩
  cases q : lk4 y.1 (cms s e r f y.2) with
  | none =>
    rw [q] at hf2
    dsimp only at hf2
    rw [if_pos (show oN none = (-1 : Int32) from rfl), e4]
    refine ⟨m, c3, hC.1.1, c_home hC hs1 hN he1 (by omega) ⟨K 5, c2, ok5, ok5, m, c3, hC.1.1, ?_⟩⟩
    rw [d1, d2, ← kk.1, ← kk.2]
    refine c_nwa hC hf hW cc2 (fun _ => px) py (hroom q) hr (fun τ f C1 F1 n0 => ?_)
    rw [← hf2] at C1 F1
    refine hQ τ (f.mono (fun g o z => ⟨z.1, (by decide : ∀ g ∈ GAd, g ∈ GFw) g z.2⟩) (by decide) (by decide)) C1 F1 n0 (fun i hi => ?_)
    rw [hf2]
    exact ⟨up_n (by omega), up_n (by omega)⟩
  | some j =>
    rw [q] at hf2
    dsimp only at hf2
    have hj := lk4_lt q
    rw [if_neg (show ¬ oN (some j) = (-1 : Int32) from nI_m1 (by omega))]
    refine ⟨m, c3, hC.1.1, c_home hC hs1 hN hj (by omega) ⟨m, c3, hC.1.1, ?_⟩⟩
    rw [e4]
    refine c_home hC hs1 hN he1 (by omega) ?_
    have ccl : y.1 9 (R y.1 (y.1 6 j)) = y.1 9 (R y.1 (y.1 6 e)) := by
      have c1 := lik_col q l1
      rw [c1, e6, (ho.2.2.1 _ (sx_6 hs hk.1)).1, (ho.2.2.1 _ (sx_6 hs hk.1)).2]
      exact cc1
    refine c_merge hC hs1 l1 n1 hN (sh_lt hs1 (sx_6 hs1 hj)) (sh_lt hs1 B6) (by rw [sh_RR hs1 (sx_6 hs1 hj), sh_RR hs1 B6]; exact ccl) (by omega) (fun τ w C1 n0 => ?_)
    rw [mrg_RR hs1 (sx_6 hs1 hj) B6] at C1
    obtain ⟨m1, m2, m3, m4⟩ := mrg_ok hs1 l1 (sx_6 hs1 hj) B6 ccl
    have F1 : CFd τ m (mrg y.1 (y.1 6 j) (y.1 6 e)) := (hf.tw w (by decide)).k (fun k hk' => m4 k (by omega) (by omega)) (show mrg y.1 (y.1 6 j) (y.1 6 e) 0 0 = y.1 0 0 by rw [m4 0 (by decide) (by decide)])
    rw [← hf2] at C1 F1
    refine hQ τ ((w.wq.fr (fun g hg => ⟨rfl, (by decide : ∀ g ∈ [2316, 22311, 2318], g ∈ GFw) g hg⟩)).mono (fun _ _ z => z) (by decide) (by decide)) C1 F1 n0 (fun i hi => ?_)
    rw [hf2]
    exact ⟨congrFun (m4 2 (by decide) (by decide)) i, congrFun (m4 3 (by decide) (by decide)) i⟩
end PC
