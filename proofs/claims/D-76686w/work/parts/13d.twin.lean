set_option linter.unusedVariables false
set_option maxRecDepth 10000
section PT
variable {σ τ : wS} {t F : Nat} {s : mS}
theorem maxI {a b : Nat} (ha : a < 1000001) (hb : b < 1000001) : (if nI a < nI b then nI b else nI a) = nI (max a b) := by
  by_cases q : a < b
  · rw [if_pos (nI_lt q (lt31 hb)), Nat.max_eq_right (Nat.le_of_lt q)]
  · rw [if_neg (nI_nlt (Nat.le_of_not_lt q) (lt31 ha)), Nat.max_eq_left (Nat.le_of_not_lt q)]
theorem minI {a b : Nat} (ha : a < 1000001) (hb : b < 1000001) : (if nI b < nI a then nI b else nI a) = nI (min a b) := by
  by_cases q : b < a
  · rw [if_pos (nI_lt q (lt31 ha)), Nat.min_eq_right (Nat.le_of_lt q)]
  · rw [if_neg (nI_nlt (Nat.le_of_not_lt q) (lt31 hb)), Nat.min_eq_left (Nat.le_of_not_lt q)]
theorem tm_uni {a b : Nat} (h : TM σ t s) (hs : Sh s) (ha : a < mG s) (hb : b < mG s) (w : Tw [2520] t σ τ) (e : aI τ 2520 t = upd (aI σ 2520 t) (max (R s a) (R s b)) (nI (min (R s a) (R s b)))) (eo : oI τ = oI σ) : TM τ t (uni s a b) := by
  obtain ⟨⟨h0, h1, h2, h3⟩, h4, h5, h6, h7⟩ := h
  refine ⟨⟨w.ok h0, by rw [eo]; exact h1, by rw [eo]; exact h2, by rw [eo]; exact h3⟩, fun e he => ?_, fun x hx => ?_, fun i hi => ?_, fun i hi => ?_⟩
  · rw [w.A (by decide), w.A (by decide), w.A (by decide), w.A (by decide), w.A (by decide), w.A (by decide)]; exact h4 e he
  · rw [e]
    show _ = nI (un (s 7) (R s a) (R s b) x)
    unfold un
    by_cases q : x = max (R s a) (R s b)
    · rw [q, upd_s, up_s]
    · rw [upd_n q, up_n q]; exact h5 x hx
  · rw [w.A (by decide), w.A (by decide)]; exact h6 i hi
  · rw [w.A (by decide)]; exact h7 i hi
theorem tm_gone {f : Nat} (h : TM σ t s) (w : Tw [22521] t σ τ) (e : aI τ 22521 t = upd (aI σ 22521 t) f 1) (eo : oI τ = oI σ) : TM τ t (st s 8 (up (s 8) f 1)) := by
  obtain ⟨⟨h0, h1, h2, h3⟩, h4, h5, h6, h7⟩ := h
  refine ⟨⟨w.ok h0, by rw [eo]; exact h1, by rw [eo]; exact h2, by rw [eo]; exact h3⟩, fun x he => ?_, fun x hx => ?_, fun i hi => ?_, fun i hi => ?_⟩
  · rw [w.A (by decide), w.A (by decide), w.A (by decide), w.A (by decide), w.A (by decide), e]
    obtain ⟨k1, k2, k3, k4, k5, k6⟩ := h4 x he
    refine ⟨k1, k2, k3, k4, k5, ?_⟩
    show _ = nI (up (s 8) f 1 x)
    by_cases q : x = f
    · rw [q, upd_s, up_s]; rfl
    · rw [upd_n q, up_n q]; exact k6
  · rw [w.A (by decide)]; exact h5 x hx
  · rw [w.A (by decide), w.A (by decide)]; exact h6 i hi
  · rw [w.A (by decide)]; exact h7 i hi
theorem t_uni {a b : Nat} {k : wS → Prop} (T : TM σ t s) (hs : Sh s) (ha : a < mG s) (hb : b < mG s) (h : ∀ τ, Tw [2520] t σ τ → TM τ t (uni s a b) → k τ) :
    vp_in (if nI (R s a) < nI (R s b) then nI (R s b) else nI (R s a)) 144 ∧ bnd (sA σ 2520 t (upd (aI σ 2520 t) (if nI (R s a) < nI (R s b) then nI (R s b) else nI (R s a)).toNatClampNeg (if nI (R s b) < nI (R s a) then nI (R s b) else nI (R s a)))) k := by
  have h1 := sh_lt hs ha
  have h2 := sh_lt hs hb
  have b1 := hs.1
  have b2 := hs.2.1
  rw [maxI (by omega) (by omega), minI (by omega) (by omega)]
  refine ⟨vp_in_nI (by omega) (by decide), bnd_sA fun τ w v o _ => h τ w (tm_uni T hs ha hb w ?_ o)⟩
  rw [v, nI_clamp (by omega)]
abbrev GU : List Nat := [2520, 22521]
theorem t_pass {k : wS → Int32 → Prop} {Q : wS → Prop} {σ0 : wS} (hF : 200 ≤ F) : ∀ n i σ (s : mS) (x : Int32), TM σ t s → Sh s → Lo s → i ≤ mN s → mN s - i < n → Tw GU t σ0 σ → (∀ τ, Tw GU t σ0 τ → TM τ t (pas (mN s - i) i s) → k τ (if pab (mN s - i) i s = true then 1 else x)) → l_X24_merges_44 F t Q k n σ x (nI i) := by
  intro n
  induction n with
  | zero => intro i σ s x _ _ _ _ h; omega
  | succ n ih =>
    intro i σ s x T hs l hi hn hw hk
    have b1 := hs.1
    have b2 := hs.2.1
    refine ⟨T.1.1, ?_⟩
    rw [T.1.2.2.1]
    by_cases c : mN s ≤ i
    · rw [if_pos (nI_le c (by omega))]
      rw [show mN s - i = 0 by omega] at hk
      exact hk σ hw T
    · rw [if_neg (nI_ge (by omega) (by omega))]
      have hi' : i < mN s := by omega
      have vi : vp_in (nI i) 144 := vp_in_nI (by omega) (by decide)
      have ci : (nI i).toNatClampNeg = i := nI_clamp (by omega)
      refine ⟨vi, ?_⟩
      have d := sh_bnd hs hi'
      have d2 := d.1
      have d3 := d.2.1
      have d8 := d.2.2.2
      rw [ci, (T.2.1 i hi').2.2.2.2.2, (T.2.1 i hi').1, (T.2.1 i hi').2.1]
      rw [show mN s - i = (mN s - (i + 1)) + 1 by omega] at hk
      have nxt : p1b s i = false → p1 s i = s → l_X24_merges_44 F t Q k n σ x (nI i + 1) := fun e1 e2 => by
        rw [← nI_succ]
        refine ih (i + 1) σ s x T hs l (by omega) (by omega) hw (fun τ w m => ?_)
        have := hk τ w
        unfold pas pab at this
        rw [e1, e2, Bool.false_or] at this
        exact this m
      by_cases c8 : s 8 i = 0
      · rw [if_pos ((nI_n0 (by omega)).mpr c8)]
        refine t_alike T hs d2 (by omega) (fun q => ⟨sx_4 hs hi' q, (T.2.1 i hi').2.2.1 q⟩) (fun q => ⟨sx_5 hs hi' q, (T.2.1 i hi').2.2.2.1 q⟩) hF ?_
        rcases p1_cases hi' with ⟨g1, g2, g3⟩ | ⟨e, g0, g1, g2, g3, g4, g5⟩
        · obtain ⟨e, h1, h2, h3, h4⟩ := lik_le hi' c8
          have : e = i := by
            apply Nat.le_antisymm h2
            apply Nat.le_of_not_lt
            intro q
            have := g3 c8 e q
            rw [h3] at this
            cases this
          rw [h1, this, show oN (some i) = nI i from rfl, if_pos rfl]
          exact nxt g1 g2
        · rw [g5, show oN (some e) = nI e from rfl, if_neg (nI_eqf (by omega) (by omega) (by omega))]
          refine bnd_sA fun σ1 w1 v1 o1 _ => ⟨vp_in_nI (by omega) (by decide), ?_⟩
          rw [nar_b1] at v1
          have T1 : TM σ1 t (st s 8 (up (s 8) i 1)) := tm_gone T w1 v1 o1
          have hs1 : Sh (st s 8 (up (s 8) i 1)) := sh_gone hs
          have ge : s 6 e < mG s := sx_6 hs (Nat.lt_trans g0 hi')
          have gi : s 6 i < mG s := sx_6 hs hi'
          have f6 : aI σ1 2519 t e = nI (s 6 e) := (T1.2.1 e (Nat.lt_trans g0 hi')).2.2.2.2.1
          have f6' : aI σ1 2519 t i = nI (s 6 i) := (T1.2.1 i hi').2.2.2.2.1
          rw [nI_clamp (n := e) (by omega), f6]
          refine t_root T1 hs1 ge (by omega) ?_
          rw [f6']
          refine t_root T1 hs1 gi (by omega) ?_
          refine t_uni T1 hs1 ge gi (fun σ2 w2 T2 => ?_)
          rw [← nI_succ]
          have T2' : TM σ2 t (drp s e i) := T2
          have W2 : Tw GU t σ0 σ2 := (hw.up w1 (by decide)).up w2 (by decide)
          refine ih (i + 1) σ2 (drp s e i) 1 T2' (sh_drp hs) (lo_drp hs l g0 hi' g3 g4) ?_ ?_ W2 (fun τ w m => ?_)
          · show i + 1 ≤ mN s; omega
          · show mN s - (i + 1) < n; omega
          · have := hk τ w
            unfold pas pab at this
            rw [g1, g2, Bool.true_or, if_pos rfl] at this
            have h9 := this m
            have e9 : (if pab (mN (drp s e i) - (i + 1)) (i + 1) (drp s e i) = true then (1 : Int32) else 1) = 1 := by split <;> rfl
            rw [e9]
            exact h9
      · rw [if_neg (fun z => c8 ((nI_n0 (by omega)).mp z))]
        rcases p1_cases hi' with ⟨g1, g2, g3⟩ | ⟨e, g0, g1, g2, g3, g4, g5⟩
        · exact nxt g1 g2
        · exact absurd g3 c8
theorem t_mgl {Q : wS → Prop} {σ0 : wS} (hF : 200 ≤ F) : ∀ m n σ (s : mS), TM σ t s → Sh s → Lo s → cnt s (mN s) < m → m < n → Tw GU t σ0 σ → (∀ τ, Tw GU t σ0 τ → TM τ t (mgl m s) → Q τ) → l_X24_merges_33 F t Q n σ 1 := by
  intro m
  induction m with
  | zero => intro n σ s _ _ _ h; omega
  | succ m ih =>
    intro n σ s T hs l hc hn hw hQ
    have b1 := hs.1
    cases n with
    | zero => omega
    | succ n =>
      show (if (1 : Int32) = 0 then Q σ else _)
      rw [if_neg (by decide)]
      refine t_pass hF F 0 σ s 0 T hs l (Nat.zero_le _) (by omega) hw (fun τ w m' => ?_)
      rw [Nat.sub_zero] at m' ⊢
      obtain ⟨h1, l1, k1⟩ := pas_keep (mN s) 0 s (by omega) hs l
      have c := cnt_pas (mN s) 0 s (by omega) hs l
      have eN : mN (pas (mN s) 0 s) = mN s := by show pas (mN s) 0 s 0 0 = s 0 0; rw [k1 0 (by decide) (by decide)]
      unfold mgl at hQ
      by_cases q : pab (mN s) 0 s = true
      · rw [if_pos q] at hQ c ⊢
        exact ih n τ _ m' h1 l1 (by rw [eN]; omega) (by omega) w hQ
      · rw [if_neg q] at hQ ⊢
        cases n with
        | zero => omega
        | succ n =>
          show (if (0 : Int32) = 0 then Q τ else _)
          rw [if_pos rfl]
          exact hQ τ w m'
theorem t_merges {Q : wS → Prop} {a b : Nat} (T : TM σ t s) (hs : Sh s) (l : Lo s) (ha : a < mG s) (hb : b < mG s) (hc : s 9 (R s a) = s 9 (R s b)) (hF : 200 ≤ F) (hQ : ∀ τ, Tw GU t σ τ → TM τ t (mrg s a b) → Q τ) : w_X24_merges F σ t (nI a) (nI b) Q := by
  have b1 := hs.1
  refine ⟨T.1.1, t_root T hs ha (by omega) (t_root T hs hb (by omega) (t_uni T hs ha hb (fun τ w T1 => ?_)))⟩
  refine t_mgl hF (mN s + 1) F τ (uni s a b) T1 (sh_uni hs) (lo_uni hs l ha hb hc) (Nat.lt_succ_of_le (cnt_le _)) (by omega) (Tw.refl.up w (by decide)) hQ
end PT
