set_option linter.unusedVariables false
set_option maxRecDepth 10000
/-! ===== the twin's memo ===== -/
section PT
variable {σ τ : wS} {t F : Nat} {s : mS}
abbrev GM : List Nat := [2500, 2501, 2502, 2510, 2511, 2512, 2515, 2516, 2517, 2518, 2519, 2520, 22521]
def TM (σ : wS) (t : Nat) (s : mS) : Prop :=
  (ok24 σ t ∧ oI σ 2500 t = nI (s 10 0) ∧ oI σ 2501 t = nI (mN s) ∧ oI σ 2502 t = nI (mG s)) ∧
  (∀ e, e < mN s → aI σ 2515 t e = nI (s 2 e) ∧ aI σ 2516 t e = nI (s 3 e) ∧ (s 2 e ≠ 1 → aI σ 2517 t e = nI (s 4 e)) ∧ (5 ≤ s 2 e → aI σ 2518 t e = nI (s 5 e)) ∧ aI σ 2519 t e = nI (s 6 e) ∧ aI σ 22521 t e = nI (s 8 e)) ∧
  (∀ g, g < mG s → aI σ 2520 t g = nI (s 7 g)) ∧
  (∀ i, i < s 10 0 → aI σ 2511 t i = nI (s 11 i) ∧ aI σ 2512 t i = nI (s 12 i)) ∧ (∀ i, i < 4 → aI σ 2510 t i = nI (s 15 i))
def Im (P Q : Prop) : Prop := P → Q
theorem sh_bnd (hs : Sh s) {e : Nat} (he : e < mN s) : s 2 e < 7 ∧ s 3 e < 8 ∧ s 6 e < mG s ∧ s 8 e < 2 := by
  obtain ⟨b6, b8, b2, b3, b3', b3'', b4, b5⟩ := hs.2.2.2.2 e he
  have := hs.2.2.2.1
  refine ⟨by omega, ?_, b6, by omega⟩
  rcases b2 with q | q | q | q | q
  · have := b3 q; omega
  · exact b3' q
  all_goals (have := b3'' (by omega); omega)
theorem sx_6 (hs : Sh s) {e : Nat} (he : e < mN s) : s 6 e < mG s := (hs.2.2.2.2 e he).1
theorem sx_2 (hs : Sh s) {e : Nat} (he : e < mN s) : s 2 e = 1 ∨ s 2 e = 3 ∨ s 2 e = 4 ∨ s 2 e = 5 ∨ s 2 e = 6 := (hs.2.2.2.2 e he).2.2.1
theorem sx_p1 (hs : Sh s) {e : Nat} (he : e < mN s) (q : s 2 e = 1) : s 3 e < s 10 0 := (hs.2.2.2.2 e he).2.2.2.1 q
theorem sx_p4 (hs : Sh s) {e : Nat} (he : e < mN s) (q : 4 ≤ s 2 e) : s 3 e < 4 := (hs.2.2.2.2 e he).2.2.2.2.2.1 q
theorem sx_4 (hs : Sh s) {e : Nat} (he : e < mN s) (q : s 2 e ≠ 1) : s 4 e < mG s := (hs.2.2.2.2 e he).2.2.2.2.2.2.1 q
theorem sx_5 (hs : Sh s) {e : Nat} (he : e < mN s) (q : 5 ≤ s 2 e) : s 5 e < mG s := (hs.2.2.2.2 e he).2.2.2.2.2.2.2 q
theorem lt31 {a : Nat} (h : a < 1000001) : a < 2 ^ 31 := by omega
theorem nI_eqf {a b : Nat} (ha : a < 1000001) (hb : b < 1000001) (h : a ≠ b) : ¬ nI a = nI b := fun z => h ((nI_eq (lt31 ha) (lt31 hb)).mp z)
theorem TM.tw {G : List Nat} (h : TM σ t s) (k : Tw G t σ τ) (d : ∀ g ∈ GM, g ∉ G) : TM τ t s := by
  obtain ⟨⟨h0, h1, h2, h3⟩, h4, h5, h6, h7⟩ := h
  refine ⟨⟨k.ok h0, ?_, ?_, ?_⟩, fun e he => ?_, fun g hg => ?_, fun i hi => ?_, fun i hi => ?_⟩
  · rw [k.I (d _ (by decide))]; exact h1
  · rw [k.I (d _ (by decide))]; exact h2
  · rw [k.I (d _ (by decide))]; exact h3
  · rw [k.A (d 2515 (by decide)), k.A (d 2516 (by decide)), k.A (d 2517 (by decide)), k.A (d 2518 (by decide)), k.A (d 2519 (by decide)), k.A (d 22521 (by decide))]; exact h4 e he
  · rw [k.A (d _ (by decide))]; exact h5 g hg
  · rw [k.A (d 2511 (by decide)), k.A (d 2512 (by decide))]; exact h6 i hi
  · rw [k.A (d _ (by decide))]; exact h7 i hi
theorem t_root {Q : Int32 → wS → Prop} {g : Nat} (hT : TM σ t s) (hs : Sh s) (hg : g < mG s) (hF : 150 ≤ F) (hQ : Q (nI (R s g)) σ) : w_X24_root F σ t (nI g) Q := by
  have hb := hs.1
  have hb2 := hs.2.1
  have key : ∀ n g, g < mG s → g < n → Q (nI (R s g)) σ → l_X24_root_2 F t Q n σ (nI g) := by
    intro n
    induction n with
    | zero => intro g _ h; omega
    | succ n ih =>
      intro g hg hn hQ
      refine ⟨hT.1.1, vp_in_nI (by omega) (by decide), ?_⟩
      have hd := sh_dn hs g hg
      rw [nI_clamp (by omega), hT.2.2.1 g hg]
      by_cases e : s 7 g = g
      · rw [if_pos (by rw [e])]
        rw [show R s g = g from rt_self e] at hQ
        exact hQ
      · rw [if_neg (fun z => e ((nI_eq (by omega) (by omega)).mp z)), bnd_eq]
        rw [show R s g = R s (s 7 g) from rt_step (sh_dn hs) hg e] at hQ
        exact ih (s 7 g) (by omega) (by omega) hQ
  exact key F g hg (by omega) hQ
theorem t_alike {Q : Int32 → wS → Prop} {k p x y : Nat} {X Y : Int32} (hT : TM σ t s) (hs : Sh s) (hk : k < 7) (hp : p < 100) (hx : Im (k ≠ 1) (x < mG s ∧ X = nI x)) (hy : Im (5 ≤ k) (y < mG s ∧ Y = nI y)) (hF : 200 ≤ F) (hQ : Q (oN (lik s k p x y)) σ) : w_X24_alike F σ t (nI k) (nI p) X Y Q := by
  have hb := hs.1
  have hb2 := hs.2.1
  have key : ∀ n i, i ≤ mN s → mN s - i < n → Q (oN (fnd (alk s k p x y) (mN s - i) i)) σ → l_X24_alike_3 F t (nI k) (nI p) X Y Q n σ (nI i) := by
    intro n
    induction n with
    | zero => intro i _ h; omega
    | succ n ih =>
      intro i hi hn hQ
      refine ⟨hT.1.1, ?_⟩
      rw [hT.1.2.2.1]
      by_cases c : mN s ≤ i
      · rw [if_pos ((nI_leI (by omega) (by omega)).mpr c)]
        rw [show mN s - i = 0 by omega] at hQ
        exact hQ
      · rw [if_neg (fun z => c ((nI_leI (by omega) (by omega)).mp z))]
        refine ⟨vp_in_nI (by omega) (by decide), ?_⟩
        have hi' : i < mN s := by omega
        have e2 := (hT.2.1 i hi').1
        have e3 := (hT.2.1 i hi').2.1
        have e8 := (hT.2.1 i hi').2.2.2.2.2
        obtain ⟨d2, d3, d6, d8⟩ := sh_bnd hs hi'
        rw [nI_clamp (by omega), e8, e2, e3]
        have nxt : alk s k p x y i = false → l_X24_alike_3 F t (nI k) (nI p) X Y Q n σ (nI i + 1) := by
          intro hal
          rw [show mN s - i = (mN s - (i + 1)) + 1 by omega] at hQ
          unfold fnd at hQ
          rw [if_neg (by rw [hal]; decide)] at hQ
          rw [← nI_succ]
          exact ih (i + 1) (by omega) (by omega) hQ
        have yes : alk s k p x y i = true → Q (nI i) σ := by
          intro hal
          rw [show mN s - i = (mN s - (i + 1)) + 1 by omega] at hQ
          unfold fnd at hQ
          rw [if_pos hal] at hQ
          exact hQ
        by_cases c8 : s 8 i = 0
        · rw [if_pos ((nI_n0 (by omega)).mpr c8)]
          by_cases c2 : s 2 i = k
          · rw [if_pos (by rw [c2])]
            by_cases c3 : s 3 i = p
            · rw [if_pos (by rw [c3])]
              have blk : (k = 1 ∨ R s (s 4 i) = R s x) → b_X24_alike_74 F t (nI k) (nI p) X Y Q (l_X24_alike_3 F t (nI k) (nI p) X Y Q n) σ (nI i) := by
                intro hk4
                unfold b_X24_alike_74
                by_cases c5 : k < 5
                · rw [if_pos (by rw [nIl_5]; exact nI_lt c5 (by decide))]
                  exact yes (alk_iff.mpr ⟨c8, c2, c3, hk4, Or.inl c5⟩)
                · rw [if_neg (by rw [nIl_5]; exact nI_nlt (by omega) (by omega))]
                  obtain ⟨hy1, hy2⟩ := hy (by omega)
                  refine ⟨hT.1.1, vp_in_nI (by omega) (by decide), ?_⟩
                  rw [nI_clamp (by omega), (hT.2.1 i hi').2.2.2.1 (by omega), hy2]
                  refine t_root hT hs (sx_5 hs hi' (by omega)) (by omega) (t_root hT hs hy1 (by omega) ?_)
                  have q1 := sh_lt hs (sx_5 hs hi' (by omega))
                  have q2 := sh_lt hs hy1
                  by_cases cR : R s (s 5 i) = R s y
                  · rw [if_pos (by rw [cR])]
                    exact yes (alk_iff.mpr ⟨c8, c2, c3, hk4, Or.inr cR⟩)
                  · rw [if_neg (fun z => cR ((nI_eq (by omega) (by omega)).mp z))]
                    rw [← hy2]
                    exact nxt (Bool.eq_false_iff.mpr (fun z => cR ((alk_iff.mp z).2.2.2.2.resolve_left c5)))
              by_cases c1 : k = 1
              · rw [if_pos (by rw [c1]; rfl)]
                exact blk (Or.inl c1)
              · rw [if_neg (show ¬ nI k = (1 : Int32) from fun z => c1 ((nI_eq (b := 1) (by omega) (by decide)).mp z))]
                obtain ⟨hx1, hx2⟩ := hx c1
                rw [(hT.2.1 i hi').2.2.1 (by rw [c2]; exact c1), hx2]
                refine t_root hT hs (sx_4 hs hi' (by rw [c2]; exact c1)) (by omega) (t_root hT hs hx1 (by omega) ?_)
                have q1 := sh_lt hs (sx_4 hs hi' (by rw [c2]; exact c1))
                have q2 := sh_lt hs hx1
                by_cases cR : R s (s 4 i) = R s x
                · rw [if_pos (by rw [cR])]
                  rw [← hx2]
                  exact blk (Or.inr cR)
                · rw [if_neg (fun z => cR ((nI_eq (by omega) (by omega)).mp z))]
                  rw [← hx2]
                  exact nxt (Bool.eq_false_iff.mpr (fun z => cR ((alk_iff.mp z).2.2.2.1.resolve_left c1)))
            · rw [if_neg (fun z => c3 ((nI_eq (by omega) (by omega)).mp z))]
              exact nxt (Bool.eq_false_iff.mpr (fun z => c3 (alk_iff.mp z).2.2.1))
          · rw [if_neg (fun z => c2 ((nI_eq (by omega) (by omega)).mp z))]
            exact nxt (Bool.eq_false_iff.mpr (fun z => c2 (alk_iff.mp z).2.1))
        · rw [if_neg (fun z => c8 ((nI_n0 (by omega)).mp z))]
          exact nxt (Bool.eq_false_iff.mpr (fun z => c8 (alk_iff.mp z).1))
  have h0 := key F 0 (Nat.zero_le _) (by omega) (by rw [Nat.sub_zero]; exact hQ)
  exact h0
theorem lik_lt {k p x y e : Nat} (h : lik s k p x y = some e) : e < mN s := by
  have := (fnd_some _ _ h).2.1
  omega
theorem tm_wE1 {g : Nat} {v : Int32} (h : TM σ t s) (w : Tw [g] t σ τ) (e : aI τ g t = upd (aI σ g t) (mN s) v) (eo : oI τ = oI σ) (hg : g = 2515 ∨ g = 2516 ∨ g = 2517 ∨ g = 2518 ∨ g = 2519 ∨ g = 22521) : TM τ t s := by
  obtain ⟨⟨h0, h1, h2, h3⟩, h4, h5, h6, h7⟩ := h
  have hw : ∀ f e, e < mN s → aI τ f t e = aI σ f t e := by
    intro f x hx
    by_cases q : f = g
    · subst q; rw [e, upd_n (by omega)]
    · rw [w.A (by simp [q])]
  have ho : ∀ f, (f = 2520 ∨ f = 2511 ∨ f = 2512 ∨ f = 2510) → aI τ f t = aI σ f t := fun f hf => w.A (by simp; omega)
  refine ⟨⟨w.ok h0, by rw [eo]; exact h1, by rw [eo]; exact h2, by rw [eo]; exact h3⟩, fun e he => ?_, fun x hx => ?_, fun i hi => ?_, fun i hi => ?_⟩
  · rw [hw _ e he, hw _ e he, hw _ e he, hw _ e he, hw _ e he, hw _ e he]; exact h4 e he
  · rw [ho _ (by omega)]; exact h5 x hx
  · rw [ho _ (by omega), ho _ (by omega)]; exact h6 i hi
  · rw [ho _ (by omega)]; exact h7 i hi
theorem tm_new {s' : mS} {k p x y g : Nat} {X Y : Int32} (h : TM σ t s) (hw : Tw GM t σ τ) (e0 : oI τ 2500 t = oI σ 2500 t) (e1 : oI τ 2501 t = nI (mN s + 1)) (es : s' 10 = s 10 ∧ s' 11 = s 11 ∧ s' 12 = s 12 ∧ s' 15 = s 15 ∧ s' 0 = s 0 ∧ s' 2 = s 2 ∧ s' 3 = s 3 ∧ s' 4 = s 4 ∧ s' 5 = s 5 ∧ s' 6 = s 6 ∧ s' 8 = s 8)
    (hg : (s' = s ∧ oI τ 2502 t = oI σ 2502 t ∧ aI τ 2520 t = aI σ 2520 t) ∨ ((∃ c, s' = adg s c) ∧ oI τ 2502 t = nI (mG s + 1) ∧ aI τ 2520 t = upd (aI σ 2520 t) (mG s) (nI (mG s))))
    (a15 : aI τ 2515 t = upd (aI σ 2515 t) (mN s) (nI k)) (a16 : aI τ 2516 t = upd (aI σ 2516 t) (mN s) (nI p))
    (a17 : aI τ 2517 t = upd (aI σ 2517 t) (mN s) X) (a18 : aI τ 2518 t = upd (aI σ 2518 t) (mN s) Y) (a19 : aI τ 2519 t = upd (aI σ 2519 t) (mN s) (nI g)) (a21 : aI τ 22521 t = upd (aI σ 22521 t) (mN s) 0) (go : ∀ f, f = 2510 ∨ f = 2511 ∨ f = 2512 → aI τ f t = aI σ f t)
    (hX : k ≠ 1 → X = nI x) (hY : 5 ≤ k → Y = nI y) : TM τ t (adx s' k p x y g) := by
  obtain ⟨⟨h0, h1, h2, h3⟩, h4, h5, h6, h7⟩ := h
  obtain ⟨s10, s11, s12, s15, s0, s2, s3, s4, s5, s6, s8⟩ := es
  have eN : mN s' = mN s := by show s' 0 0 = s 0 0; rw [s0]
  refine ⟨⟨hw.ok h0, ?_, ?_, ?_⟩, fun e he => ?_, fun x hx => ?_, fun i hi => ?_, fun i hi => ?_⟩
  · rw [e0, h1, adx_10, s10]
  · show oI τ 2501 t = nI (adx s' k p x y g 0 0)
    rw [adx_0, up_s, e1, eN]
  · show oI τ 2502 t = nI (adx s' k p x y g 1 0)
    rw [adx_1]
    rcases hg with ⟨q1, q2, -⟩ | ⟨⟨c, q1⟩, q2, -⟩
    · rw [q2, q1, h3]
    · rw [q2, q1, adg_1, up_s]
  · have he' : e < mN s + 1 := by
      have : e < adx s' k p x y g 0 0 := he
      rw [adx_0, up_s, eN] at this
      exact this
    rw [a15, a16, a17, a18, a19, a21, adx_2, adx_3, adx_4, adx_5, adx_6, adx_8, eN]
    by_cases q : e = mN s
    · subst q
      rw [upd_s, upd_s, upd_s, upd_s, upd_s, upd_s, up_s, up_s, up_s, up_s, up_s, up_s]
      exact ⟨rfl, rfl, hX, hY, rfl, rfl⟩
    · rw [upd_n q, upd_n q, upd_n q, upd_n q, upd_n q, upd_n q, up_n q, up_n q, up_n q, up_n q, up_n q, up_n q, s2, s3, s4, s5, s6, s8]
      exact h4 e (by omega)
  · rw [adx_7]
    rcases hg with ⟨q1, -, q3⟩ | ⟨⟨c, q1⟩, -, q3⟩
    · have hx' : x < mG s := by have : x < adx s' k p _ y g 1 0 := hx; rw [adx_1, q1] at this; exact this
      rw [q3, q1]; exact h5 x hx'
    · have hx' : x < mG s + 1 := by have : x < adx s' k p _ y g 1 0 := hx; rw [adx_1, q1, adg_1, up_s] at this; exact this
      rw [q3, q1, adg_7]
      by_cases q : x = mG s
      · rw [q, upd_s, up_s]
      · rw [upd_n q, up_n q]; exact h5 x (by omega)
  · have hi' : i < s 10 0 := by have : i < adx s' k p x y g 10 0 := hi; rw [adx_10, s10] at this; exact this
    rw [go 2511 (by omega), go 2512 (by omega), adx_11, adx_12, s11, s12]; exact h6 i hi'
  · rw [go 2510 (by omega), adx_15, s15]; exact h7 i hi
theorem es_r {s : mS} : s 10 = s 10 ∧ s 11 = s 11 ∧ s 12 = s 12 ∧ s 15 = s 15 ∧ s 0 = s 0 ∧ s 2 = s 2 ∧ s 3 = s 3 ∧ s 4 = s 4 ∧ s 5 = s 5 ∧ s 6 = s 6 ∧ s 8 = s 8 := ⟨rfl, rfl, rfl, rfl, rfl, rfl, rfl, rfl, rfl, rfl, rfl⟩
theorem es_g {s : mS} {c : Nat} : adg s c 10 = s 10 ∧ adg s c 11 = s 11 ∧ adg s c 12 = s 12 ∧ adg s c 15 = s 15 ∧ adg s c 0 = s 0 ∧ adg s c 2 = s 2 ∧ adg s c 3 = s 3 ∧ adg s c 4 = s 4 ∧ adg s c 5 = s 5 ∧ adg s c 6 = s 6 ∧ adg s c 8 = s 8 := ⟨rfl, rfl, rfl, rfl, rfl, rfl, rfl, rfl, rfl, rfl, rfl⟩
end PT
