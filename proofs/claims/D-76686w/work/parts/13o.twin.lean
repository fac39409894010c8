set_option linter.unusedVariables false
set_option maxRecDepth 10000
section PT
variable {σ τ υ : wS} {t F : Nat} {s : mS}
def k4ok (s : mS) (x : X4) : Prop := (3 ≤ x.1 ∧ x.1 < 7) ∧ x.2.1 < 8 ∧ x.2.2.1 < mG s ∧ (5 ≤ x.1 → x.2.2.2 < mG s)
theorem brk_ok {e r f : Nat} (hs : Sh s) (hk : NK s e r f) (h1 : 1 ≤ r) (h4 : r ≠ 4) : k4ok s (brk s e r f) := by
  obtain ⟨he, -, hr, -, hk2⟩ := hk
  obtain ⟨hf, -, -, hk1, hfit⟩ := hk2 h1
  obtain ⟨f1, f2, f3, -, f5, f6⟩ := fit_k h1 hr hfit
  have pe := (sh_bnd hs he).2.1
  have hr' : r = 1 ∨ r = 2 ∨ r = 3 ∨ r = 5 ∨ r = 6 := by omega
  rcases hr' with rfl | rfl | rfl | rfl | rfl
  · have q := f1 rfl
    exact ⟨⟨show 3 ≤ 5 by decide, show 5 < 7 by decide⟩, pe, sx_5 hs hf (by omega), fun _ => sx_5 hs he (by omega)⟩
  · have q := f2 rfl
    exact ⟨⟨show 3 ≤ 3 by decide, show 3 < 7 by decide⟩, pe, sx_4 hs hf (by omega), fun _ => sx_4 hs hf (by omega)⟩
  · have q := f3 rfl
    exact ⟨⟨show 3 ≤ 3 by decide, show 3 < 7 by decide⟩, pe, sx_4 hs hf (by omega), fun _ => sx_4 hs hf (by omega)⟩
  · have q := f5 rfl
    exact ⟨⟨show 3 ≤ 4 by decide, show 4 < 7 by decide⟩, pe, sx_4 hs hf (by omega), fun _ => sx_4 hs hf (by omega)⟩
  · have q := f6 rfl
    exact ⟨⟨show 3 ≤ 6 by decide, show 6 < 7 by decide⟩, pe, sx_4 hs hf (by omega), fun _ => sx_5 hs he (by omega)⟩
theorem cms_ok {e r f g : Nat} (hs : Sh s) (hk : NK s e r f) (h4 : r ≠ 4) (hg : 1 ≤ r → g < mG s) : k4ok s (cms s e r f g) := by
  obtain ⟨he, -, hr, k0, hk2⟩ := hk
  have pe := (sh_bnd hs he).2.1
  by_cases r0 : r = 0
  · subst r0
    have := (k0 rfl).1
    exact ⟨⟨show 3 ≤ 5 by decide, show 5 < 7 by decide⟩, pe, sx_5 hs he (by omega), fun _ => sx_4 hs he (by omega)⟩
  · obtain ⟨hf, -, -, hk1, hfit⟩ := hk2 (by omega)
    obtain ⟨f1, f2, f3, -, f5, f6⟩ := fit_k (by omega) hr hfit
    have hg' := hg (by omega)
    have pf := (sh_bnd hs hf).2.1
    have bf := (sh_bnd hs hf).1
    have hr' : r = 1 ∨ r = 2 ∨ r = 3 ∨ r = 5 ∨ r = 6 := by omega
    rcases hr' with rfl | rfl | rfl | rfl | rfl
    · have q := f1 rfl
      exact ⟨⟨show 3 ≤ 5 by decide, show 5 < 7 by decide⟩, pf, sx_4 hs hf (by omega), fun _ => hg'⟩
    · have q := f2 rfl
      exact ⟨⟨show 3 ≤ s 2 f by omega, bf⟩, pf, hg', fun _ => sx_5 hs hf (by omega)⟩
    · exact ⟨⟨show 3 ≤ 3 by decide, show 3 < 7 by decide⟩, pf, hg', fun _ => hg'⟩
    · exact ⟨⟨show 3 ≤ 3 by decide, show 3 < 7 by decide⟩, pf, hg', fun _ => hg'⟩
    · have q := f6 rfl
      exact ⟨⟨show 3 ≤ 6 by decide, show 6 < 7 by decide⟩, pf, hg', fun _ => sx_5 hs hf (by omega)⟩
theorem t_alike4 {Q : Int32 → wS → Prop} {x : X4} (hT : TM σ t s) (hs : Sh s) (hW : WH σ t x) (hx : k4ok s x) (hF : 200 ≤ F) (h : Q (oN (lk4 s x)) σ) : w_X24_alike F σ t (aI σ 2575 t (0 : Int32).toNatClampNeg) (aI σ 2575 t (1 : Int32).toNatClampNeg) (aI σ 2575 t (2 : Int32).toNatClampNeg) (aI σ 2575 t (3 : Int32).toNatClampNeg) Q := by
  obtain ⟨⟨x1, x2⟩, x3, x4, x5⟩ := hx
  obtain ⟨w1, w2, w3, w4⟩ := hW
  rw [show (0 : Int32).toNatClampNeg = 0 by decide, show (1 : Int32).toNatClampNeg = 1 by decide, show (2 : Int32).toNatClampNeg = 2 by decide, show (3 : Int32).toNatClampNeg = 3 by decide, w1, w2]
  exact t_alike hT hs x2 (by omega) (fun _ => ⟨x4, w3⟩) (fun q => ⟨x5 q, w4⟩) hF h
def nws (s : mS) (e r f : Nat) : Nat := if r = 4 then 0 else if r = 0 then (if lk4 s (cms s e 0 f 0) = none then 1 else 0) else match lk4 s (brk s e r f) with
  | none => 2
  | some i => if lk4 s (cms s e r f (R s (s 6 i))) = none then 1 else 0
theorem NX.tw {G : List Nat} {e r f : Nat} (h : NX σ t e r f) (k : Tw G t σ τ) (d : ∀ g ∈ [2565, 2566, 2567], g ∉ G) : NX τ t e r f := by
  obtain ⟨h1, h2, h3⟩ := h
  exact ⟨by rw [k.I (d _ (by decide))]; exact h1, by rw [k.I (d _ (by decide))]; exact h2, by rw [k.I (d _ (by decide))]; exact h3⟩
theorem lk4_lt {x : X4} {i : Nat} (h : lk4 s x = some i) : i < mN s := lik_lt h
theorem t_news {Q : Int32 → wS → Prop} {e r f : Nat} (hT : TM σ t s) (hs : Sh s) (hn : NX σ t e r f) (hk : NK s e r f) (hF : 200 ≤ F) (hQ : ∀ τ, Tw [2575] t σ τ → Q (nI (nws s e r f)) τ) : w_X24_news F σ t Q := by
  have b1 := hs.1
  have hr := hk.2.2.1
  refine ⟨hT.1.1, ?_⟩
  rw [hn.2.1]
  unfold nws at hQ
  by_cases r4 : r = 4
  · rw [if_pos (by rw [r4]; rfl)]
    rw [if_pos r4] at hQ
    exact hQ σ Tw.refl
  · rw [if_neg (show ¬ nI r = (4 : Int32) from nI_eqf (by omega) (by decide) r4)]
    rw [if_neg r4] at hQ
    have last : ∀ τ g b, Tw [2575] t σ τ → (1 ≤ r → g < mG s) → (b = if lk4 s (cms s e r f g) = none then 1 else 0) → (∀ υ, Tw [2575] t σ υ → Q (nI b) υ) → b_X24_news_79 F t Q τ (some t) (nI g) := by
      intro τ g b w hg hb h
      have T1 : TM τ t s := hT.tw w (by decide)
      refine ⟨t, rfl, T1.1.1, t_comes T1 hs (hn.tw w (by decide)) hk r4 (fun υ w2 W2 => ?_)⟩
      have T2 : TM υ t s := T1.tw w2 (by decide)
      refine ⟨T2.1.1, v4_0, v4_1, v4_2, v4_3, t_alike4 T2 hs W2 (cms_ok hs hk r4 hg) hF ?_⟩
      have := h υ (w.trans w2)
      rw [hb] at this
      by_cases c : lk4 s (cms s e r f g) = none
      · rw [c] at this ⊢
        rw [if_pos (show oN none = (-1 : Int32) from rfl)]
        rw [if_pos rfl] at this
        exact this
      · rw [if_neg c] at this
        rw [if_neg (fun z => c ((oN_m1 (fun i hi => lt31 (by have := lk4_lt hi; omega))).mp z))]
        exact this
    by_cases r0 : r = 0
    · rw [if_pos (by rw [r0]; decide)]
      rw [if_pos r0] at hQ
      unfold b_X24_news_59
      rw [if_pos rfl]
      exact last σ 0 _ Tw.refl (fun z => by omega) (by rw [r0]) hQ
    · rw [if_neg (nI_nle (by omega) (lt31 (by omega)))]
      rw [if_neg r0] at hQ
      refine t_bracket hT hs hn hk (by omega) r4 (fun τ w W => ?_)
      have T1 : TM τ t s := hT.tw w (by decide)
      refine ⟨v4_0, v4_1, v4_2, v4_3, t_alike4 T1 hs W (brk_ok hs hk (by omega) r4) hF ?_⟩
      cases q : lk4 s (brk s e r f) with
      | none =>
        rw [q] at hQ
        rw [if_pos (show oN none = (-1 : Int32) from rfl)]
        exact hQ τ w
      | some i =>
        rw [q] at hQ
        have hi := lk4_lt q
        rw [show oN (some i) = nI i from rfl, if_neg (nI_m1 (lt31 (by omega)))]
        unfold b_X24_news_59
        rw [if_neg (nI_m1 (lt31 (by omega)))]
        refine ⟨T1.1.1, vp_in_nI (by omega) (by decide), ?_⟩
        rw [nI_clamp (n := i) (lt31 (by omega)), (T1.2.1 i hi).2.2.2.2.1]
        exact t_root T1 hs (sx_6 hs hi) (by omega) (last τ _ _ w (fun _ => sh_lt hs (sx_6 hs hi)) rfl hQ)
end PT
