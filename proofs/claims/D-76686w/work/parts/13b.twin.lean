set_option linter.unusedVariables false
set_option maxRecDepth 10000
section PT
variable {σ τ : wS} {t F : Nat} {s : mS}
/-- a new expression, of the group g or of one of its own -/
theorem t_adds {Q : Int32 → wS → Prop} {k p x y g : Nat} {X Y Z : Int32} (hT : TM σ t s) (hs : Sh s) (hN : mN s < 144) (hk : k < 7) (hp : p < 100) (hx : Im (k ≠ 1) (x < mG s ∧ X = nI x)) (hy : Im (5 ≤ k) (y < mG s ∧ Y = nI y)) (hF : 200 ≤ F)
    (hZ : (Z = -1 ∧ g = mG s ∧ ∀ τ, Tw GM t σ τ → (∀ c, TM τ t (adx (adg s c) k p (R s x) (R s y) g)) → Q (nI g) τ) ∨ (Z = nI g ∧ g < mG s ∧ ∀ τ, Tw GM t σ τ → TM τ t (adx s k p (R s x) (R s y) g) → Q (nI g) τ)) : w_X24_adds F σ t (nI k) (nI p) X Y Z Q := by
  have hb := hs.1
  have hb2 := hs.2.1
  have h1 := hT.1.2.2.1
  have h2 := hT.1.2.2.2
  have hc : (nI (mN s)).toNatClampNeg = mN s := nI_clamp (by omega)
  have hcg : (nI (mG s)).toNatClampNeg = mG s := nI_clamp (by omega)
  have vN : vp_in (nI (mN s)) 144 := vp_in_nI hN (by decide)
  have vG : vp_in (nI (mG s)) 144 := vp_in_nI (by omega) (by decide)
  unfold w_X24_adds
  refine ⟨hT.1.1, by rw [h1]; exact vN, bnd_sA fun σ1 w1 v1 o1 _ => ⟨by rw [o1, h1]; exact vN, bnd_sA fun σ2 w2 v2 o2 _ => ?_⟩⟩
  rw [h1, hc] at v1
  rw [o1, h1, hc] at v2
  have O2 : oI σ2 = oI σ := o2.trans o1
  have T1 : TM σ1 t s := tm_wE1 hT w1 v1 o1 (by simp)
  have T2 : TM σ2 t s := tm_wE1 T1 w2 v2 o2 (by simp)
  have W2 : Tw GM t σ σ2 := (Tw.refl.up w1 (by decide)).up w2 (by decide)
  have st2 : ∀ X' Y' σ3, Tw [2517] t σ2 σ3 → aI σ3 2517 t = upd (aI σ2 2517 t) (mN s) X' → oI σ3 = oI σ2 → (k ≠ 1 → X' = nI (R s x)) → (5 ≤ k → Y' = nI (R s y)) → b_X24_adds_66 F t Z Q σ3 (nI (mN s)) Y' := by
    intro X' Y' σ3 w3 v3 o3 hX' hY'
    have O3 : oI σ3 = oI σ := o3.trans O2
    refine ⟨w3.ok (W2.ok hT.1.1), vN, bnd_sA fun σ4 w4 v4 o4 _ => ⟨by rw [o4, O3, h1]; exact vN, bnd_sA fun σ5 w5 v5 o5 _ => ?_⟩⟩
    rw [hc] at v4
    rw [o4, O3, h1, hc, nar_b0] at v5
    have O5 : oI σ5 = oI σ := o5.trans (o4.trans O3)
    have W5 : Tw GM t σ σ5 := ((W2.up w3 (by decide)).up w4 (by decide)).up w5 (by decide)
    rcases hZ with ⟨hz1, hz2, hz3⟩ | ⟨hz1, hz2, hz3⟩
    · rw [if_pos hz1]
      subst hz2
      refine ⟨by rw [O5, h2]; exact vG, bnd_sA fun σ6 w6 v6 o6 _ => ⟨by rw [o6, O5, h1]; exact vN, bnd_sA fun σ7 w7 v7 o7 _ => bnd_sI fun σ8 w8 v8 a8 _ => ?_⟩⟩
      rw [O5, h2, hcg] at v6
      rw [o6, O5, h1, h2, hc] at v7
      have O7 : oI σ7 = oI σ := o7.trans (o6.trans O5)
      rw [O7, h2, ← nI_succ] at v8
      have W8 : Tw GM t σ σ8 := ((W5.up w6 (by decide)).up w7 (by decide)).up w8 (by decide)
      have N8 : oI σ8 2501 t = nI (mN s) := by rw [w8.I (by decide), O7, h1]
      refine ⟨W8.ok hT.1.1, bnd_sI fun σ9 w9 v9 a9 _ => ?_⟩
      rw [N8, ← nI_succ] at v9
      rw [v9, nI_pred, hc]
      have W9 : Tw GM t σ σ9 := W8.up w9 (by decide)
      have A : aI σ9 = aI σ7 := a9.trans a8
      have g9 : aI σ9 2519 t = upd (aI σ 2519 t) (mN s) (nI (mG s)) := by
        rw [A, v7, w6.A (by decide), w5.A (by decide), w4.A (by decide), w3.A (by decide), w2.A (by decide), w1.A (by decide)]
      have g20 : aI σ9 2520 t = upd (aI σ 2520 t) (mG s) (nI (mG s)) := by
        rw [A, w7.A (by decide), v6, w5.A (by decide), w4.A (by decide), w3.A (by decide), w2.A (by decide), w1.A (by decide)]
      have g21 : aI σ9 22521 t = upd (aI σ 22521 t) (mN s) 0 := by
        rw [A, w7.A (by decide), w6.A (by decide), v5, w4.A (by decide), w3.A (by decide), w2.A (by decide), w1.A (by decide)]
      have g18 : aI σ9 2518 t = upd (aI σ 2518 t) (mN s) Y' := by
        rw [A, w7.A (by decide), w6.A (by decide), w5.A (by decide), v4, w3.A (by decide), w2.A (by decide), w1.A (by decide)]
      have g17 : aI σ9 2517 t = upd (aI σ 2517 t) (mN s) X' := by
        rw [A, w7.A (by decide), w6.A (by decide), w5.A (by decide), w4.A (by decide), v3, w2.A (by decide), w1.A (by decide)]
      have g16 : aI σ9 2516 t = upd (aI σ 2516 t) (mN s) (nI p) := by
        rw [A, w7.A (by decide), w6.A (by decide), w5.A (by decide), w4.A (by decide), w3.A (by decide), v2, w1.A (by decide)]
      have g15 : aI σ9 2515 t = upd (aI σ 2515 t) (mN s) (nI k) := by
        rw [A, w7.A (by decide), w6.A (by decide), w5.A (by decide), w4.A (by decide), w3.A (by decide), w2.A (by decide), v1]
      have go : ∀ f, f = 2510 ∨ f = 2511 ∨ f = 2512 → aI σ9 f t = aI σ f t := by
        rintro f (rfl | rfl | rfl) <;>
          rw [A, w7.A (by decide), w6.A (by decide), w5.A (by decide), w4.A (by decide), w3.A (by decide), w2.A (by decide), w1.A (by decide)]
      rw [g9, upd_s]
      refine ⟨vN, hz3 σ9 W9 (fun c => tm_new hT W9 ?_ v9 es_g (Or.inr ⟨⟨c, rfl⟩, ?_, g20⟩) g15 g16 g17 g18 g9 g21 go hX' hY')⟩
      · rw [w9.I (by decide), w8.I (by decide), O7]
      · rw [w9.I (by decide), v8]
    · rw [if_neg (by rw [hz1]; exact nI_m1 (by omega))]
      refine ⟨by rw [O5, h1]; exact vN, bnd_sA fun σ6 w6 v6 o6 _ => ?_⟩
      rw [O5, h1, hc, hz1] at v6
      have O6 : oI σ6 = oI σ := o6.trans O5
      have W6 : Tw GM t σ σ6 := W5.up w6 (by decide)
      refine ⟨W6.ok hT.1.1, bnd_sI fun σ9 w9 v9 a9 _ => ?_⟩
      rw [O6, h1, ← nI_succ] at v9
      rw [v9, nI_pred, hc]
      have W9 : Tw GM t σ σ9 := W6.up w9 (by decide)
      have g9 : aI σ9 2519 t = upd (aI σ 2519 t) (mN s) (nI g) := by
        rw [a9, v6, w5.A (by decide), w4.A (by decide), w3.A (by decide), w2.A (by decide), w1.A (by decide)]
      have g20 : aI σ9 2520 t = aI σ 2520 t := by
        rw [a9, w6.A (by decide), w5.A (by decide), w4.A (by decide), w3.A (by decide), w2.A (by decide), w1.A (by decide)]
      have g21 : aI σ9 22521 t = upd (aI σ 22521 t) (mN s) 0 := by
        rw [a9, w6.A (by decide), v5, w4.A (by decide), w3.A (by decide), w2.A (by decide), w1.A (by decide)]
      have g18 : aI σ9 2518 t = upd (aI σ 2518 t) (mN s) Y' := by
        rw [a9, w6.A (by decide), w5.A (by decide), v4, w3.A (by decide), w2.A (by decide), w1.A (by decide)]
      have g17 : aI σ9 2517 t = upd (aI σ 2517 t) (mN s) X' := by
        rw [a9, w6.A (by decide), w5.A (by decide), w4.A (by decide), v3, w2.A (by decide), w1.A (by decide)]
      have g16 : aI σ9 2516 t = upd (aI σ 2516 t) (mN s) (nI p) := by
        rw [a9, w6.A (by decide), w5.A (by decide), w4.A (by decide), w3.A (by decide), v2, w1.A (by decide)]
      have g15 : aI σ9 2515 t = upd (aI σ 2515 t) (mN s) (nI k) := by
        rw [a9, w6.A (by decide), w5.A (by decide), w4.A (by decide), w3.A (by decide), w2.A (by decide), v1]
      have go : ∀ f, f = 2510 ∨ f = 2511 ∨ f = 2512 → aI σ9 f t = aI σ f t := by
        rintro f (rfl | rfl | rfl) <;>
          rw [a9, w6.A (by decide), w5.A (by decide), w4.A (by decide), w3.A (by decide), w2.A (by decide), w1.A (by decide)]
      rw [g9, upd_s]
      refine ⟨vN, hz3 σ9 W9 (tm_new hT W9 ?_ v9 es_r (Or.inl ⟨rfl, ?_, g20⟩) g15 g16 g17 g18 g9 g21 go hX' hY')⟩
      · rw [w9.I (by decide), O6]
      · rw [w9.I (by decide), O6]
  have st1 : ∀ X', (k ≠ 1 → X' = nI (R s x)) → b_X24_adds_42 F t (nI k) Y Z Q σ2 (nI (mN s)) X' := by
    intro X' hX'
    refine ⟨W2.ok hT.1.1, vN, bnd_sA fun σ3 w3 v3 o3 _ => ?_⟩
    rw [hc] at v3
    rw [o3, O2, h1]
    by_cases c5 : k < 5
    · rw [if_pos (by rw [nIl_5]; exact nI_lt c5 (by decide))]
      exact st2 X' _ σ3 w3 v3 o3 hX' (fun z => by omega)
    · rw [if_neg (by rw [nIl_5]; exact nI_nlt (by omega) (by omega))]
      obtain ⟨hy1, hy2⟩ := hy (by omega)
      rw [hy2]
      exact t_root (tm_wE1 T2 w3 v3 o3 (by simp)) hs hy1 (by omega) (st2 X' _ σ3 w3 v3 o3 hX' (fun z => rfl))
  rw [O2, h1]
  by_cases c1 : k = 1
  · rw [if_pos (by rw [c1]; rfl)]
    exact st1 _ (fun z => absurd c1 z)
  · rw [if_neg (show ¬ nI k = (1 : Int32) from fun z => c1 ((nI_eq (b := 1) (by omega) (by decide)).mp z))]
    obtain ⟨hx1, hx2⟩ := hx c1
    rw [hx2]
    exact t_root T2 hs hx1 (by omega) (st1 _ (fun _ => rfl))
end PT
