set_option linter.unusedVariables false
set_option maxRecDepth 10000
section PT
variable {σ τ υ : wS} {t F : Nat} {s : mS}
abbrev GN : List Nat := [2530, 2531, 2532, 2565, 2566, 2567]
theorem t_f85 {Q : Int32 → wS → Prop} {k167 : wS → Int32 → Int32 → Int32 → Prop} {k190 : wS → Int32 → Int32 → Prop} {e r : Nat} (hT : TM σ t s) (hL : TL σ t s) (hf : TF σ t s) (hB : Fb s) (hs : Sh s) (l : Lo s) (hN : mN s ≤ 64) (he : e < mN s) (hr : 1 ≤ r) (hr2 : r < 7) (hF : 200 ≤ F) (h1 : s 2 e ≠ 1) :
    ∀ n f, f ≤ mN s → mN s - f < n → (∀ x, fnd (can s e r) (mN s - f) f = some x → k167 σ (nI e) (nI r) (nI x)) → (fnd (can s e r) (mN s - f) f = none → k190 σ (nI e) (nI r)) → l_X24_finds_85 F t Q k167 k190 n σ (nI e) (nI r) (nI f) := by
  have b2 := hs.2.1
  have De := sh_bnd hs he
  have d2 := De.1
  intro n
  induction n with
  | zero => intro f _ h; omega
  | succ n ih =>
    intro f hf' hn hy hnn
    refine ⟨hT.1.1, ?_⟩
    rw [hT.1.2.2.1]
    by_cases c : mN s ≤ f
    · rw [if_pos (nI_le c (lt31 (by omega)))]
      rw [show mN s - f = 0 by omega] at hnn
      exact hnn rfl
    · rw [if_neg (nI_ge (by omega) (lt31 (by omega)))]
      have hfl : f < mN s := by omega
      have Df := sh_bnd hs hfl
      have g8 := Df.2.2.2
      refine ⟨vp_in_nI (by omega) (by decide), ?_⟩
      rw [nI_clamp (n := e) (lt31 (by omega)), (hT.2.1 e he).1, if_neg (show ¬ nI (s 2 e) = (1 : Int32) from nI_eqf (by omega) (by decide) h1)]
      refine ⟨vp_in_nI (by omega) (by decide), ?_⟩
      rw [nI_clamp (n := f) (lt31 (by omega)), (hT.2.1 f hfl).2.2.2.2.2, (hT.2.1 f hfl).2.2.2.2.1]
      rw [show mN s - f = (mN s - (f + 1)) + 1 by omega] at hy hnn
      unfold fnd at hy hnn
      have nxt : can s e r f = false → l_X24_finds_85 F t Q k167 k190 n σ (nI e) (nI r) (nI f + 1) := fun q => by
        rw [q] at hy hnn
        rw [← nI_succ]
        exact ih (f + 1) (by omega) (by omega) (fun x hx => hy x hx) (fun hx => hnn hx)
      by_cases c8 : s 8 f = 0
      · rw [if_pos ((nI_n0 (lt31 (by omega))).mpr c8)]
        have B6 := sx_6 hs hfl
        have B4 := sx_4 hs he h1
        have g6 := sh_lt hs B6
        have g4 := sh_lt hs B4
        refine t_root hT hs B6 (by omega) ?_
        rw [(hT.2.1 e he).2.2.1 h1]
        refine t_root hT hs B4 (by omega) ?_
        by_cases cR : R s (s 6 f) = R s (s 4 e)
        · rw [if_pos (by rw [cR])]
          refine t_fits hT hL hs l he hfl hr hr2 hF ?_
          by_cases cf : fit s e r f = true
          · rw [if_pos cf, if_neg (by decide)]
            have ew : (((nI e * (7 : Int32)) + nI r) * (65 : Int32)) + nI f = nI (wi e r f) := by
              rw [show (7 : Int32) = nI 7 from rfl, show (65 : Int32) = nI 65 from rfl, pk_mul, nI_add, pk_mul, nI_add]; rfl
            have hwi : wi e r f < 29120 := by unfold wi; omega
            have hb := hB (wi e r f)
            rw [ew]
            refine ⟨vp_in_nI hwi (by decide), ?_⟩
            rw [nI_clamp (n := wi e r f) (lt31 (by omega)), hf.1 _ hwi]
            by_cases cw : s 16 (wi e r f) = 0
            · rw [if_pos (by rw [cw]; rfl)]
              refine hy f ?_
              rw [if_pos (by unfold can; simp [c8, cR, cf, cw])]
            · rw [if_neg (fun z => cw ((nI_n0 (lt31 (by omega))).mp z))]
              exact nxt (by unfold can; simp [cw])
          · rw [if_neg cf, if_pos rfl]
            exact nxt (by unfold can; simp [cf])
        · rw [if_neg (nI_eqf (by omega) (by omega) cR)]
          exact nxt (by unfold can; simp [cR])
      · rw [if_neg (fun z => c8 ((nI_n0 (lt31 (by omega))).mp z))]
        exact nxt (by unfold can; simp [c8])
theorem t_f28 {Q : Int32 → wS → Prop} {k66 : wS → Int32 → Prop} {k167 : wS → Int32 → Int32 → Int32 → Prop} {k196 : wS → Int32 → Prop} {e : Nat} (hT : TM σ t s) (hL : TL σ t s) (hf : TF σ t s) (hB : Fb s) (hs : Sh s) (l : Lo s) (hN : mN s ≤ 64) (he : e < mN s) (hF : 200 ≤ F) :
    ∀ n r, r ≤ 7 → 7 - r < n → (∀ f, rlf s e (7 - r) r = some (0, f) → f = 64 → k66 σ (nI e)) → (∀ r' f, rlf s e (7 - r) r = some (r', f) → 1 ≤ r' → k167 σ (nI e) (nI r') (nI f)) → (rlf s e (7 - r) r = none → k196 σ (nI e)) → l_X24_finds_28 F t Q k66 k167 k196 n σ (nI e) (nI r) := by
  have b2 := hs.2.1
  have De := sh_bnd hs he
  have d2 := De.1
  intro n
  induction n with
  | zero => intro r _ h; omega
  | succ n ih =>
    intro r hr hn h0 h1 h2
    unfold l_X24_finds_28
    by_cases c : 7 ≤ r
    · rw [if_pos (show (7 : Int32) ≤ nI r from nI_le (a := 7) c (lt31 (by omega)))]
      rw [show 7 - r = 0 by omega] at h2
      exact h2 rfl
    · rw [if_neg (show ¬ (7 : Int32) ≤ nI r from nI_ge (b := 7) (by omega) (by decide))]
      rw [show 7 - r = (7 - (r + 1)) + 1 by omega] at h0 h1 h2
      unfold rlf at h0 h1 h2
      have nxt : sec s e r = none → l_X24_finds_28 F t Q k66 k167 k196 n σ (nI e) (nI r + 1) := fun q => by
        rw [q] at h0 h1 h2
        rw [← nI_succ]
        exact ih (r + 1) (by omega) (by omega) h0 h1 h2
      by_cases c0 : r = 0
      · subst c0
        rw [if_pos (show nI 0 = 0 from rfl)]
        refine ⟨hT.1.1, vp_in_nI (by omega) (by decide), ?_⟩
        rw [nI_clamp (n := e) (lt31 (by omega)), (hT.2.1 e he).1]
        by_cases c5 : s 2 e = 5
        · rw [if_pos (by rw [c5]; rfl)]
          have ew : ((nI e * (7 : Int32)) * (65 : Int32)) + (64 : Int32) = nI (wi e 0 64) := by
            rw [show (7 : Int32) = nI 7 from rfl, show (65 : Int32) = nI 65 from rfl, show (64 : Int32) = nI 64 from rfl, pk_mul, pk_mul, nI_add]; rfl
          have hwi : wi e 0 64 < 29120 := by unfold wi; omega
          have hb := hB (wi e 0 64)
          rw [ew]
          refine ⟨vp_in_nI hwi (by decide), ?_⟩
          rw [nI_clamp (n := wi e 0 64) (lt31 (by omega)), hf.1 _ hwi]
          by_cases cw : s 16 (wi e 0 64) = 0
          · rw [if_pos (by rw [cw]; rfl)]
            have hs0 : sec s e 0 = some 64 := by unfold sec; rw [if_pos rfl, if_pos ⟨c5, cw⟩]
            rw [hs0] at h0
            exact h0 64 rfl rfl
          · rw [if_neg (fun z => cw ((nI_n0 (lt31 (by omega))).mp z))]
            exact nxt (by unfold sec; rw [if_pos rfl, if_neg (fun z => cw z.2)])
        · rw [if_neg (show ¬ nI (s 2 e) = (5 : Int32) from nI_eqf (by omega) (by decide) c5)]
          exact nxt (by unfold sec; rw [if_pos rfl, if_neg (fun z => c5 z.1)])
      · rw [if_neg (fun z => c0 ((nI_n0 (lt31 (by omega))).mp z))]
        by_cases c1 : s 2 e = 1
        · have hs1 : sec s e r = none := by unfold sec; rw [if_neg c0, if_pos c1]
          obtain ⟨f, rfl⟩ : ∃ f, F = f + 1 := ⟨F - 1, by omega⟩
          refine ⟨hT.1.1, ?_⟩
          rw [hT.1.2.2.1, if_neg (show ¬ nI (mN s) ≤ 0 from nI_nle (by omega) (lt31 (by omega)))]
          refine ⟨vp_in_nI (by omega) (by decide), ?_⟩
          rw [nI_clamp (n := e) (lt31 (by omega)), (hT.2.1 e he).1, if_pos (by rw [c1]; rfl)]
          exact nxt hs1
        · have hs1 : sec s e r = fnd (can s e r) (mN s) 0 := by unfold sec; rw [if_neg c0, if_neg c1]
          refine t_f85 (f := 0) hT hL hf hB hs l hN he (by omega) (by omega) hF c1 F (Nat.zero_le _) (by omega) (fun x hx => ?_) (fun hx => ?_)
          · rw [Nat.sub_zero] at hx
            rw [hs1, hx] at h1
            exact h1 r x rfl (by omega)
          · rw [Nat.sub_zero] at hx
            exact nxt (by rw [hs1, hx])
theorem rlf_r {e : Nat} : ∀ n r r' f, rlf s e n r = some (r', f) → r ≤ r' ∧ r' < r + n ∧ sec s e r' = some f := by
  intro n
  induction n with
  | zero => intro r r' f h; cases h
  | succ n ih =>
    intro r r' f h
    unfold rlf at h
    cases hq : sec s e r with
    | some x =>
      rw [hq] at h
      cases h
      exact ⟨Nat.le_refl _, by omega, hq⟩
    | none =>
      rw [hq] at h
      obtain ⟨a, b, c⟩ := ih (r + 1) r' f h
      exact ⟨by omega, by omega, c⟩
/-- where the next firing is kept -/
def NX (σ : wS) (t e r f : Nat) : Prop := oI σ 2565 t = nI e ∧ oI σ 2566 t = nI r ∧ oI σ 2567 t = (if r = 0 then -1 else nI f)
theorem t_finds {Q : Int32 → wS → Prop} (hT : TM σ t s) (hf : TF σ t s) (hB : Fb s) (hs : Sh s) (l : Lo s) (hb : Tb s) (hN : mN s ≤ 64) (hF : 300 ≤ F)
    (h0 : fnx s (mN s) 0 = none → ∀ τ, Tw GN t σ τ → TL τ t s → Q 0 τ) (h1 : ∀ e r f, fnx s (mN s) 0 = some (e, r, f) → ∀ τ, Tw GN t σ τ → TL τ t s → NX τ t e r f → Q 1 τ) : w_X24_finds F σ t Q := by
  have b2 := hs.2.1
  refine ⟨hT.1.1, t_tells hT hs l hb (by omega) (fun σ1 w1 L1 => ?_)⟩
  have W1 : Tw GN t σ σ1 := w1.mono (by decide)
  have T1 : TM σ1 t s := hT.tw w1 (by decide)
  have F1 : TF σ1 t s := hf.tw w1 (by decide)
  generalize hW : fnx s (mN s) 0 = W at h0 h1
  have key : ∀ n e, e ≤ mN s → mN s - e < n → W = fnx s (mN s - e) e → l_X24_finds_6 F t Q (fun σ40 y41 => ok24 σ40 t ∧ bnd (sI σ40 2565 t y41) fun σ43 => bnd (sI σ43 2566 t (0 : Int32)) fun σ46 => bnd (sI σ46 2567 t (-1 : Int32)) fun σ49 => Q (1 : Int32) σ49) (fun σ52 y53 y54 y55 => ok24 σ52 t ∧ bnd (sI σ52 2565 t y53) fun σ57 => bnd (sI σ57 2566 t y54) fun σ60 => bnd (sI σ60 2567 t y55) fun σ63 => Q (1 : Int32) σ63) n σ1 (nI e) := by
    intro n
    induction n with
    | zero => intro e _ h; omega
    | succ n ih =>
      intro e he hn hx
      refine ⟨T1.1.1, ?_⟩
      rw [T1.1.2.2.1]
      by_cases c : mN s ≤ e
      · rw [if_pos (nI_le c (lt31 (by omega)))]
        rw [show mN s - e = 0 by omega] at hx
        exact h0 hx σ1 W1 L1
      · rw [if_neg (nI_ge (by omega) (lt31 (by omega)))]
        have he' : e < mN s := by omega
        have De := sh_bnd hs he'
        have d8 := De.2.2.2
        refine ⟨vp_in_nI (by omega) (by decide), ?_⟩
        rw [nI_clamp (n := e) (lt31 (by omega)), (T1.2.1 e he').2.2.2.2.2]
        rw [show mN s - e = (mN s - (e + 1)) + 1 by omega] at hx
        unfold fnx at hx
        by_cases c8 : s 8 e = 0
        · rw [if_pos ((nI_n0 (lt31 (by omega))).mpr c8)]
          rw [if_pos c8] at hx
          have wr : ∀ r f Z, rlf s e 7 0 = some (r, f) → Z = (if r = 0 then -1 else nI f) → bnd (sI σ1 2565 t (nI e)) fun σ57 => bnd (sI σ57 2566 t (nI r)) fun σ60 => bnd (sI σ60 2567 t Z) fun σ63 => Q (1 : Int32) σ63 := by
            intro r f Z hr hZ
            rw [hr] at hx
            refine bnd_sI fun τ1 u1 v1 a1 _ => bnd_sI fun τ2 u2 v2 a2 _ => bnd_sI fun τ3 u3 v3 a3 _ => ?_
            have W3 : Tw GN t σ τ3 := ((W1.up u1 (by decide)).up u2 (by decide)).up u3 (by decide)
            refine h1 e r f hx τ3 W3 ?_ ⟨?_, ?_, by rw [v3, hZ]⟩
            · exact ((L1.tw u1 (by decide)).tw u2 (by decide)).tw u3 (by decide)
            · rw [u3.I (by decide), u2.I (by decide), v1]
            · rw [u3.I (by decide), v2]
          refine t_f28 (r := 0) T1 L1 F1 hB hs l hN he' (by omega) F (by decide) (by omega) (fun f hr hf' => ?_) (fun r' f hr hr1 => ?_) (fun hr => ?_)
          · exact ⟨T1.1.1, wr 0 f _ hr rfl⟩
          · exact ⟨T1.1.1, wr r' f _ hr (by rw [if_neg (by omega)])⟩
          · rw [show (7 : Nat) - 0 = 7 from rfl] at hr
            rw [hr] at hx
            rw [← nI_succ]
            exact ih (e + 1) (by omega) (by omega) hx
        · rw [if_neg (fun z => c8 ((nI_n0 (lt31 (by omega))).mp z)), ← nI_succ]
          rw [if_neg c8] at hx
          exact ih (e + 1) (by omega) (by omega) hx
  exact key F 0 (Nat.zero_le _) (by omega) (by rw [Nat.sub_zero, hW])
theorem fnx_in : ∀ n i e r f, fnx s n i = some (e, r, f) → i ≤ e ∧ e < i + n ∧ s 8 e = 0 ∧ r < 7 ∧ sec s e r = some f := by
  intro n
  induction n with
  | zero => intro i e r f h; cases h
  | succ n ih =>
    intro i e r f h
    unfold fnx at h
    by_cases c : s 8 i = 0
    · rw [if_pos c] at h
      cases hq : rlf s i 7 0 with
      | some rf =>
        rw [hq] at h
        cases h
        obtain ⟨a, b, d⟩ := rlf_r _ _ _ _ hq
        exact ⟨Nat.le_refl _, by omega, c, by omega, d⟩
      | none =>
        rw [hq] at h
        obtain ⟨a, b, d⟩ := ih (i + 1) e r f h
        exact ⟨by omega, by omega, d⟩
    · rw [if_neg c] at h
      obtain ⟨a, b, d⟩ := ih (i + 1) e r f h
      exact ⟨by omega, by omega, d⟩
end PT
