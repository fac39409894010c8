set_option linter.unusedVariables false
set_option maxRecDepth 10000
section PT
variable {σ τ υ : wS} {t F : Nat} {s : mS}
/-! what a firing would tell -/
abbrev X4 : Type := Nat × Nat × Nat × Nat
def brk (s : mS) (e r f : Nat) : X4 := if r = 1 then (5, s 3 e, s 5 f, s 5 e) else if r = 2 ∨ r = 3 then (3, s 3 e, s 4 f, s 4 f) else if r = 5 then (4, s 3 e, s 4 f, s 4 f) else (6, s 3 e, s 4 f, s 5 e)
def cms (s : mS) (e r f g : Nat) : X4 := if r = 0 then (5, s 3 e, s 5 e, s 4 e) else if r = 1 then (5, s 3 f, s 4 f, g) else if r = 2 then (s 2 f, s 3 f, g, s 5 f) else if r = 6 then (6, s 3 f, g, s 5 f) else (3, s 3 f, g, g)
def lk4 (s : mS) (x : X4) : Option Nat := lik s x.1 x.2.1 x.2.2.1 x.2.2.2
def WH (σ : wS) (t : Nat) (x : X4) : Prop := aI σ 2575 t 0 = nI x.1 ∧ aI σ 2575 t 1 = nI x.2.1 ∧ aI σ 2575 t 2 = nI x.2.2.1 ∧ aI σ 2575 t 3 = nI x.2.2.2
theorem v4_0 : vp_in (0 : Int32) 4 := vp_in_nI (n := 0) (by decide) (by decide)
theorem v4_1 : vp_in (1 : Int32) 4 := vp_in_nI (n := 1) (by decide) (by decide)
theorem v4_2 : vp_in (2 : Int32) 4 := vp_in_nI (n := 2) (by decide) (by decide)
theorem v4_3 : vp_in (3 : Int32) 4 := vp_in_nI (n := 3) (by decide) (by decide)
theorem t_says2 {Q : wS → Prop} {a1 a2 a3 a4 : Int32} {x : X4} (ok : ok24 σ t) (e1 : a1 = nI x.1) (e2 : a2 = nI x.2.1) (e3 : a3 = nI x.2.2.1) (e4 : a4 = nI x.2.2.2) (hQ : ∀ τ, Tw [2575] t σ τ → WH τ t x → Q τ) : w_X24_says_2 σ t a1 a2 a3 a4 Q := by
  subst e1 e2 e3 e4
  have c0 : (0 : Int32).toNatClampNeg = 0 := by decide
  have c1 : (1 : Int32).toNatClampNeg = 1 := by decide
  have c2 : (2 : Int32).toNatClampNeg = 2 := by decide
  have c3 : (3 : Int32).toNatClampNeg = 3 := by decide
  refine ⟨ok, v4_0, bnd_sA fun τ1 w1 v1 _ _ => ⟨v4_1, bnd_sA fun τ2 w2 v2 _ _ => ⟨v4_2, bnd_sA fun τ3 w3 v3 _ _ => ⟨v4_3, bnd_sA fun τ4 w4 v4 _ _ => ?_⟩⟩⟩⟩
  rw [c0] at v1
  rw [c1, v1] at v2
  rw [c2, v2] at v3
  rw [c3, v3] at v4
  refine hQ τ4 (((w1.trans w2).trans w3).trans w4) ⟨?_, ?_, ?_, ?_⟩
  · rw [v4, upd_n (by decide), upd_n (by decide), upd_n (by decide), upd_s]
  · rw [v4, upd_n (by decide), upd_n (by decide), upd_s]
  · rw [v4, upd_n (by decide), upd_s]
  · rw [v4, upd_s]
/-- the kinds that a fitting pair has -/
theorem fit_k {e r f : Nat} (hr : 1 ≤ r) (hr2 : r < 7) (h : fit s e r f = true) :
    (r = 1 → s 2 e = 5 ∧ s 2 f = 5) ∧ (r = 2 → s 2 e = 3 ∧ 5 ≤ s 2 f) ∧ (r = 3 → s 2 e = 3 ∧ s 2 f = 3) ∧ (r = 4 → s 2 e = s 2 f ∧ (s 2 e = 3 ∨ s 2 e = 4)) ∧ (r = 5 → s 2 e = 4 ∧ s 2 f = 3) ∧ (r = 6 → s 2 e = 6 ∧ s 2 f = 6) := by
  unfold fit at h
  refine ⟨?_, ?_, ?_, ?_, ?_, ?_⟩
  · rintro rfl
    simp at h
    exact ⟨h.1, h.2.1⟩
  · rintro rfl
    simp at h
    exact ⟨h.1, h.2.1⟩
  · rintro rfl
    simp at h
    exact ⟨h.1, h.2.1⟩
  · rintro rfl
    simp at h
    exact ⟨h.1, h.2.1⟩
  · rintro rfl
    simp at h
    exact ⟨h.1, h.2.1⟩
  · rintro rfl
    simp at h
    exact h
def NK (s : mS) (e r f : Nat) : Prop := e < mN s ∧ s 8 e = 0 ∧ r < 7 ∧ (r = 0 → s 2 e = 5 ∧ f = 64) ∧ (1 ≤ r → f < mN s ∧ s 8 f = 0 ∧ R s (s 6 f) = R s (s 4 e) ∧ s 2 e ≠ 1 ∧ fit s e r f = true)
theorem nk_of {e r f : Nat} (h : fnx s (mN s) 0 = some (e, r, f)) : NK s e r f := by
  obtain ⟨-, h2, h3, h4, h5⟩ := fnx_in _ _ _ _ _ h
  refine ⟨by omega, h3, h4, fun q => ?_, fun q => ?_⟩
  · unfold sec at h5
    rw [if_pos q] at h5
    by_cases c : s 2 e = 5 ∧ s 16 (wi e 0 64) = 0
    · rw [if_pos c] at h5; cases h5; exact ⟨c.1, rfl⟩
    · rw [if_neg c] at h5; cases h5
  · unfold sec at h5
    rw [if_neg (by omega)] at h5
    by_cases c : s 2 e = 1
    · rw [if_pos c] at h5; cases h5
    · rw [if_neg c] at h5
      obtain ⟨-, k2, k3, -⟩ := fnd_some _ _ h5
      unfold can at k3
      simp at k3
      exact ⟨by omega, k3.1, k3.2.1, c, k3.2.2.1⟩
theorem t_bracket {Q : wS → Prop} {e r f : Nat} (hT : TM σ t s) (hs : Sh s) (hn : NX σ t e r f) (hk : NK s e r f) (h1 : 1 ≤ r) (h4 : r ≠ 4) (hQ : ∀ τ, Tw [2575] t σ τ → WH τ t (brk s e r f) → Q τ) : w_X24_bracket σ t Q := by
  have b1 := hs.1
  obtain ⟨he, -, hr, -, hk2⟩ := hk
  obtain ⟨hf, -, -, hk1, hfit⟩ := hk2 h1
  obtain ⟨f1, f2, f3, -, f5, f6⟩ := fit_k h1 hr hfit
  obtain ⟨n1, n2, n3⟩ := hn
  rw [if_neg (by omega)] at n3
  have ve : vp_in (nI e) 144 := vp_in_nI (by omega) (by decide)
  have vf : vp_in (nI f) 144 := vp_in_nI (by omega) (by decide)
  have ce : (nI e).toNatClampNeg = e := nI_clamp (lt31 (by omega))
  have cf : (nI f).toNatClampNeg = f := nI_clamp (lt31 (by omega))
  refine ⟨hT.1.1, ?_⟩
  rw [n1, n2, n3, ce, cf]
  have pe := (hT.2.1 e he).2.1
  have x4f : s 2 f ≠ 1 → aI σ 2517 t f = nI (s 4 f) := (hT.2.1 f hf).2.2.1
  have x5f : 5 ≤ s 2 f → aI σ 2518 t f = nI (s 5 f) := (hT.2.1 f hf).2.2.2.1
  have x5e : 5 ≤ s 2 e → aI σ 2518 t e = nI (s 5 e) := (hT.2.1 e he).2.2.2.1
  unfold brk at hQ
  have hr' : r = 1 ∨ r = 2 ∨ r = 3 ∨ r = 5 ∨ r = 6 := by omega
  rcases hr' with rfl | rfl | rfl | rfl | rfl
  · have := f1 rfl
    rw [if_pos (show nI 1 = (1 : Int32) from rfl)]
    rw [if_pos rfl] at hQ
    exact ⟨ve, vf, t_says2 hT.1.1 rfl pe (x5f (by omega)) (x5e (by omega)) hQ⟩
  · have := f2 rfl
    rw [if_neg (by decide), if_pos (show nI 2 = (2 : Int32) from rfl)]
    rw [if_neg (by decide), if_pos (by decide)] at hQ
    exact ⟨ve, vf, t_says2 hT.1.1 rfl pe (x4f (by omega)) (x4f (by omega)) hQ⟩
  · have := f3 rfl
    rw [if_neg (by decide), if_neg (by decide), if_pos (show nI 3 = (3 : Int32) from rfl)]
    rw [if_neg (by decide), if_pos (by decide)] at hQ
    exact ⟨ve, vf, t_says2 hT.1.1 rfl pe (x4f (by omega)) (x4f (by omega)) hQ⟩
  · have := f5 rfl
    rw [if_neg (by decide), if_neg (by decide), if_neg (by decide), if_neg (by decide), if_pos (show nI 5 = (5 : Int32) from rfl)]
    rw [if_neg (by decide), if_neg (by decide), if_pos (by decide)] at hQ
    exact ⟨ve, vf, t_says2 hT.1.1 rfl pe (x4f (by omega)) (x4f (by omega)) hQ⟩
  · have := f6 rfl
    rw [if_neg (by decide), if_neg (by decide), if_neg (by decide), if_neg (by decide), if_neg (by decide)]
    rw [if_neg (by decide), if_neg (by decide), if_neg (by decide)] at hQ
    exact ⟨ve, vf, t_says2 hT.1.1 rfl pe (x4f (by omega)) (x5e (by omega)) hQ⟩
theorem t_comes {Q : wS → Prop} {e r f g : Nat} (hT : TM σ t s) (hs : Sh s) (hn : NX σ t e r f) (hk : NK s e r f) (h4 : r ≠ 4) (hQ : ∀ τ, Tw [2575] t σ τ → WH τ t (cms s e r f g) → Q τ) : w_X24_comes σ t (nI g) Q := by
  have b1 := hs.1
  obtain ⟨he, -, hr, k0, hk2⟩ := hk
  obtain ⟨n1, n2, n3⟩ := hn
  have ve : vp_in (nI e) 144 := vp_in_nI (by omega) (by decide)
  have ce : (nI e).toNatClampNeg = e := nI_clamp (lt31 (by omega))
  have pe := (hT.2.1 e he).2.1
  refine ⟨hT.1.1, ?_⟩
  rw [n1, n2, ce]
  unfold cms at hQ
  by_cases r0 : r = 0
  · subst r0
    have := (k0 rfl).1
    rw [if_pos (show nI 0 = (0 : Int32) from rfl)]
    rw [if_pos rfl] at hQ
    exact ⟨ve, t_says2 hT.1.1 rfl pe ((hT.2.1 e he).2.2.2.1 (by omega)) ((hT.2.1 e he).2.2.1 (by omega)) hQ⟩
  · obtain ⟨hf, -, -, hk1, hfit⟩ := hk2 (by omega)
    obtain ⟨f1, f2, f3, -, f5, f6⟩ := fit_k (by omega) hr hfit
    rw [if_neg r0] at n3
    have vf : vp_in (nI f) 144 := vp_in_nI (by omega) (by decide)
    have cf : (nI f).toNatClampNeg = f := nI_clamp (lt31 (by omega))
    rw [n3, cf]
    have pf := (hT.2.1 f hf).2.1
    have kf := (hT.2.1 f hf).1
    have x4f : s 2 f ≠ 1 → aI σ 2517 t f = nI (s 4 f) := (hT.2.1 f hf).2.2.1
    have x5f : 5 ≤ s 2 f → aI σ 2518 t f = nI (s 5 f) := (hT.2.1 f hf).2.2.2.1
    have hr' : r = 1 ∨ r = 2 ∨ r = 3 ∨ r = 5 ∨ r = 6 := by omega
    rcases hr' with rfl | rfl | rfl | rfl | rfl
    · have := f1 rfl
      rw [if_neg (by decide), if_pos (show nI 1 = (1 : Int32) from rfl)]
      rw [if_neg (by decide), if_pos rfl] at hQ
      exact ⟨vf, t_says2 hT.1.1 rfl pf (x4f (by omega)) rfl hQ⟩
    · have := f2 rfl
      rw [if_neg (by decide), if_neg (by decide), if_pos (show nI 2 = (2 : Int32) from rfl)]
      rw [if_neg (by decide), if_neg (by decide), if_pos rfl] at hQ
      exact ⟨vf, t_says2 hT.1.1 kf pf rfl (x5f (by omega)) hQ⟩
    · rw [if_neg (by decide), if_neg (by decide), if_neg (by decide), if_pos (show nI 3 = (3 : Int32) from rfl)]
      rw [if_neg (by decide), if_neg (by decide), if_neg (by decide), if_neg (by decide)] at hQ
      exact ⟨vf, t_says2 hT.1.1 rfl pf rfl rfl hQ⟩
    · rw [if_neg (by decide), if_neg (by decide), if_neg (by decide), if_neg (by decide), if_neg (by decide), if_pos (show nI 5 = (5 : Int32) from rfl)]
      rw [if_neg (by decide), if_neg (by decide), if_neg (by decide), if_neg (by decide)] at hQ
      exact ⟨vf, t_says2 hT.1.1 rfl pf rfl rfl hQ⟩
    · have := f6 rfl
      rw [if_neg (by decide), if_neg (by decide), if_neg (by decide), if_neg (by decide), if_neg (by decide), if_neg (by decide), if_pos (show nI 6 = (6 : Int32) from rfl)]
      rw [if_neg (by decide), if_neg (by decide), if_neg (by decide), if_pos rfl] at hQ
      exact ⟨vf, t_says2 hT.1.1 rfl pf rfl (x5f (by omega)) hQ⟩
end PT
