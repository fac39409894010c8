set_option linter.unusedVariables false
set_option maxRecDepth 10000
/-! ===== component: telling ===== -/
section PC
variable {σ τ υ σ0 : wS} {m F : Nat} {s : mS} {P P' : Nat → Nat → Prop} {a b c d : Nat}
/-- the memo but its groups' columns; N expressions of s are there -/
def CM0 (σ : wS) (m : Nat) (s : mS) (N : Nat) : Prop := (ok22 σ m ∧ oI σ 2300 m = nI (s 10 0) ∧ oI σ 2301 m = nI N ∧ oI σ 2302 m = nI (mG s)) ∧ (∀ e, e < N → CE1 σ m s e) ∧ (∀ g, g < mG s → aI σ 2316 m g = nI (s 7 g)) ∧ (∀ i, i < s 10 0 → ∃ o, aR σ 92306 m i = some o ∧ TO σ o s i) ∧ (∀ i, i < 4 → aI σ 2307 m i = nI (s 15 i))
theorem CM.cm0 (h : CM σ m s) : CM0 σ m s (mN s) := ⟨h.1, h.2.1, fun g hg => (h.2.2.1 g hg).1, h.2.2.2⟩
theorem CM0.cm (h : CM0 σ m s (mN s)) (k : ∀ g, g < mG s → aI σ 2312 m g = nI (s 9 g)) : CM σ m s := ⟨h.1, h.2.1, fun g hg => ⟨h.2.2.1 g hg, k g hg⟩, h.2.2.2⟩
theorem CE1.wq {G : List Nat} {e : Nat} (h : CE1 σ m s e) (w : Wq G m σ τ) (d : ∀ g ∈ [3300, 3301, 2309, 2310, 22311, 2315, 102308], g ∉ G) : CE1 τ m s e := by
  obtain ⟨⟨o, h1, h2, h2', h2''⟩, h3, h4, h5, h6⟩ := h
  refine ⟨⟨o, by rw [((w.sam (d 102308 (by decide))) m).2.2]; exact h1, by rw [w.1.1]; exact h2, by rw [((w.sam (d 3300 (by decide))) o).1.1]; exact h2', by rw [((w.sam (d 3301 (by decide))) o).1.1]; exact h2''⟩, ?_, ?_, ?_, ?_⟩
  · rw [((w.sam (d 2309 (by decide))) m).1.2.2.2]; exact h3
  · rw [((w.sam (d 2310 (by decide))) m).1.2.2.2]; exact h4
  · rw [((w.sam (d 22311 (by decide))) m).1.2.2.2]; exact h5
  · rw [((w.sam (d 2315 (by decide))) m).1.2.2.2]; exact h6
theorem c_find0 {Q : Int32 → wS → Prop} {g N : Nat} (hC : CM0 σ m s N) (hd : Dn (s 7) (mG s)) (hG : mG s ≤ 64) (hg : g < mG s) (hF : 150 ≤ F) (hQ : Q (nI (R s g)) σ) : w_X22_find F σ m (nI g) Q := by
  have key : ∀ n g, g < mG s → g < n → Q (nI (R s g)) σ → l_X22_find_2 F m Q n σ (nI g) := by
    intro n
    induction n with
    | zero => intro g _ h; omega
    | succ n ih =>
      intro g hg hn hQ
      refine ⟨hC.1.1, vp_in_nI (by omega) (by decide), ?_⟩
      have hd' := hd g hg
      rw [nI_clamp (by omega), hC.2.2.1 g hg]
      by_cases e : s 7 g = g
      · rw [if_pos (by rw [e])]
        rw [show R s g = g from rt_self e] at hQ
        exact hQ
      · rw [if_neg (fun z => e ((nI_eq (by omega) (by omega)).mp z)), bnd_eq]
        rw [show R s g = R s (s 7 g) from rt_step hd hg e] at hQ
        exact ih (s 7 g) (by omega) (by omega) hQ
  exact key F g hg (by omega) hQ
theorem c_xinit {k e p : Nat} {q : Nat} {kk : wS → Prop} (hC : oC σ q = tgK k) (hk : k = 1 ∨ k = 3 ∨ k = 4 ∨ k = 5 ∨ k = 6) (h : ∀ τ, Wq [3300, 3301] q σ τ → XO τ q e k p → kk τ) : w_X32_init σ q (nI e) (nI p) kk := by
  unfold w_X32_init
  have o32 : oS32 σ q := by
    unfold oS32
    rw [hC]
    rcases hk with rfl | rfl | rfl | rfl | rfl <;> decide
  refine ⟨o32, bnd_I fun τ1 w1 v1 => bnd_I fun τ2 w2 v2 => ?_⟩
  have W : Wq [3300, 3301] q σ τ2 := (w1.mono (by decide)).up w2 (by decide)
  refine h τ2 W ⟨by rw [W.1.1]; exact hC, ?_, v2⟩
  rw [((w2.sam (by decide)) q).1.1]; exact v1
theorem c_ofKind {Q : Option Nat → wS → Prop} {k e p : Nat} (hk : k = 1 ∨ k = 3 ∨ k = 4 ∨ k = 5 ∨ k = 6) (hr : 1 ≤ rC σ ∧ 2 ≤ rS σ) (hQ : ∀ q τ, Fr (fun _ _ => False) 1 2 σ τ → oC σ q = 0 → XO τ q e k p → Q (some q) τ) : w_X0_ofKind σ (nI k) (nI e) (nI p) Q := by
  have key : ∀ (τ : wS) (c : Nat), Fr (fun _ _ => False) 1 2 σ τ → NO c σ τ → c + 1 = tgK k → w_X32_init τ (nx σ) (nI e) (nI p) (fun σ10 => Q (some (nx σ)) σ10) := fun τ c f no hc =>
    c_xinit (k := k) (by rw [no.1]; exact hc) hk (fun τ2 w x => hQ (nx σ) τ2 (f.w w (Or.inl no.2.1)) no.2.1 x)
  unfold w_X0_ofKind
  rcases hk with rfl | rfl | rfl | rfl | rfl
  · rw [if_pos (by decide)]
    exact c_nwo hr (fun τ f no _ => key τ 33 f no rfl)
  · rw [if_neg (by decide), if_neg (by decide), if_pos (by decide)]
    exact c_nwo hr (fun τ f no _ => key τ 35 f no rfl)
  · rw [if_neg (by decide), if_neg (by decide), if_neg (by decide), if_pos (by decide)]
    exact c_nwo hr (fun τ f no _ => key τ 36 f no rfl)
  · rw [if_neg (by decide), if_neg (by decide), if_neg (by decide), if_neg (by decide), if_pos (by decide)]
    exact c_nwo hr (fun τ f no _ => key τ 37 f no rfl)
  · rw [if_neg (by decide), if_neg (by decide), if_neg (by decide), if_neg (by decide), if_neg (by decide)]
    exact c_nwo hr (fun τ f no _ => key τ 38 f no rfl)
abbrev GAd : List Nat := [102308, 2309, 2310, 22311, 2315, 12313, 2301, 2318]
theorem CM0.fr {N : Nat} (h : CM0 σ m s N) (f : Fr P a b σ τ) (d : ∀ g ∈ GMf, ¬ P g m) (d2 : ∀ g ∈ [3300, 3301, 3200, 3201, 3202, 3203], ∀ o, ¬ P g o) : CM0 τ m s N := by
  obtain ⟨⟨a1, a2, a3, a4⟩, hb, hc, he, hf⟩ := h
  have hm : oC σ m ≠ 0 := by rw [a1.1]; decide
  have I : ∀ g ∈ GMf, oI τ g m = oI σ g m := fun g hg => (f.2.1 g m hm (d g hg)).1.1.1
  have A : ∀ g ∈ GMf, aI τ g m = aI σ g m := fun g hg => (f.2.1 g m hm (d g hg)).1.1.2.2.2
  have AR : ∀ g ∈ GMf, aR τ g m = aR σ g m := fun g hg => (f.2.1 g m hm (d g hg)).1.2.2
  refine ⟨⟨ok22.ext a1 f.1, ?_, ?_, ?_⟩, fun x hx => ?_, fun g hg => ?_, fun i hi => ?_, fun i hi => ?_⟩
  · rw [I _ (by decide)]; exact a2
  · rw [I _ (by decide)]; exact a3
  · rw [I _ (by decide)]; exact a4
  · obtain ⟨⟨o, h1, h2⟩, h3, h4, h5, h6⟩ := hb x hx
    refine ⟨⟨o, by rw [AR _ (by decide)]; exact h1, h2.fr f (fun g hg => d2 g (by revert g; decide) o)⟩, ?_, ?_, ?_, ?_⟩
    · rw [A 2309 (by decide)]; exact h3
    · rw [A 2310 (by decide)]; exact h4
    · rw [A 22311 (by decide)]; exact h5
    · rw [A 2315 (by decide)]; exact h6
  · rw [A 2316 (by decide)]; exact hc g hg
  · obtain ⟨o, h1, h2⟩ := he i hi
    exact ⟨o, by rw [AR _ (by decide)]; exact h1, h2.fr f (fun g hg => d2 g (by revert g; decide) o)⟩
  · rw [A 2307 (by decide)]; exact hf i hi
theorem aup_s {f : Nat → Option Nat} {i : Nat} {v : Option Nat} : va_up f i v i = v := by unfold va_up; exact if_pos rfl
theorem aup_n {f : Nat → Option Nat} {i j : Nat} {v : Option Nat} (h : j ≠ i) : va_up f i v j = f j := by unfold va_up; exact if_neg h
/-- one more: s is the memo with it -/
theorem c_add {Q : wS → Prop} {N x y : Nat} {X Y : Int32} (hC : CM0 σ m s N) (hN : N < 64) (hk : s 2 N = 1 ∨ s 2 N = 3 ∨ s 2 N = 4 ∨ s 2 N = 5 ∨ s 2 N = 6) (h8 : s 8 N = 0) (hx : Im (s 2 N ≠ 1) (X = nI x ∧ x < mG s ∧ R s x = R s (s 4 N))) (hy : Im (5 ≤ s 2 N) (Y = nI y ∧ y < mG s ∧ R s y = R s (s 5 N))) (hr : 1 ≤ rC σ ∧ 2 ≤ rS σ)
    (hQ : ∀ τ, Fr (fun g o => o = m ∧ g ∈ GAd) 1 2 σ τ → CM0 τ m s (N + 1) → oI τ 2318 m = 0 → aJ τ 12313 m = fil (N * 7) ((N + 1) * 7) 0 (aJ σ 12313 m) → Q τ) : w_X22_add σ m (nI (s 2 N)) (nI (s 3 N)) X Y (nI (s 6 N)) Q := by
  have ok := hC.1.1
  have hm : oC σ m ≠ 0 := by rw [ok.1]; decide
  have e1 : oI σ 2301 m = nI N := hC.1.2.2.1
  unfold w_X22_add
  rw [e1]
  refine ⟨ok, c_ofKind (k := s 2 N) (e := N) (p := s 3 N) hk hr (fun q σ3 f3 hq xo => ?_)⟩
  have vN := vp_inN hN (by decide)
  have cN : (nI N).toNatClampNeg = N := nI_clamp (by omega)
  have C3 := hC.fr f3 (fun _ _ z => z) (fun _ _ _ z => z)
  have hqm : q ≠ m := fun z => hm (by rw [← z]; exact hq)
  rw [cN]
  refine ⟨vN, q, rfl, xo.oS hk, bnd_AR fun τ1 w1 v1 => ?_⟩
  have I1 : oI τ1 2301 m = nI N := by rw [((w1.sam (by decide)) m).1.1]; exact C3.1.2.2.1
  rw [I1, cN]
  refine ⟨vN, bnd_A fun τ2 w2 v2 => ?_⟩
  have I2 : oI τ2 2301 m = nI N := by rw [((w2.sam (by decide)) m).1.1]; exact I1
  rw [I2, cN]
  refine ⟨vN, bnd_A fun τ3 w3 v3 => ?_⟩
  have I3 : oI τ3 2301 m = nI N := by rw [((w3.sam (by decide)) m).1.1]; exact I2
  rw [I3, cN]
  refine ⟨vN, bnd_A fun τ4 w4 v4 => ?_⟩
  have I4 : oI τ4 2301 m = nI N := by rw [((w4.sam (by decide)) m).1.1]; exact I3
  rw [I4, cN]
  refine ⟨vN, bnd_A fun τ5 w5 v5 => ?_⟩
  have I5 : oI τ5 2301 m = nI N := by rw [((w5.sam (by decide)) m).1.1]; exact I4
  rw [I5]
  refine ⟨N * 7, (N + 1) * 7, ⟨by rw [nIl_7, nI_mul], by rw [nIl_1, nIl_7, nI_add, nI_mul], by omega, by omega⟩, bnd_AJ fun τ6 w6 v6 => ?_⟩
  have I6 : oI τ6 2301 m = nI N := by rw [((w6.sam (by decide)) m).1.1]; exact I5
  rw [I6]
  refine bnd_I fun τ7 w7 v7 => bnd_I fun τ8 w8 v8 => ?_
  have W : Wq GAd m σ3 τ8 := (((((((w1.mono (by decide)).up w2 (by decide)).up w3 (by decide)).up w4 (by decide)).up w5 (by decide)).up w6 (by decide)).up w7 (by decide)).up w8 (by decide)
  have fr : Fr (fun g o => o = m ∧ g ∈ GAd) 1 2 σ τ8 := f3.no.w W (Or.inr (fun g hg => ⟨rfl, hg⟩))
  have S := fun g (hg : g ∉ GAd) o => (W.sam hg) o
  have fR : aR τ8 102308 m = va_up (aR σ3 102308 m) N (some q) := by
    rw [((w8.sam (by decide)) m).2.2, ((w7.sam (by decide)) m).2.2, ((w6.sam (by decide)) m).2.2, ((w5.sam (by decide)) m).2.2, ((w4.sam (by decide)) m).2.2, ((w3.sam (by decide)) m).2.2, ((w2.sam (by decide)) m).2.2]; exact v1
  have fL : aI τ8 2309 m = upd (aI σ3 2309 m) N X := by
    rw [((w8.sam (by decide)) m).1.2.2.2, ((w7.sam (by decide)) m).1.2.2.2, ((w6.sam (by decide)) m).1.2.2.2, ((w5.sam (by decide)) m).1.2.2.2, ((w4.sam (by decide)) m).1.2.2.2, ((w3.sam (by decide)) m).1.2.2.2, v2, ((w1.sam (by decide)) m).1.2.2.2]
  have fT : aI τ8 2310 m = upd (aI σ3 2310 m) N Y := by
    rw [((w8.sam (by decide)) m).1.2.2.2, ((w7.sam (by decide)) m).1.2.2.2, ((w6.sam (by decide)) m).1.2.2.2, ((w5.sam (by decide)) m).1.2.2.2, ((w4.sam (by decide)) m).1.2.2.2, v3, ((w2.sam (by decide)) m).1.2.2.2, ((w1.sam (by decide)) m).1.2.2.2]
  have fG : aI τ8 22311 m = upd (aI σ3 22311 m) N 0 := by
    rw [((w8.sam (by decide)) m).1.2.2.2, ((w7.sam (by decide)) m).1.2.2.2, ((w6.sam (by decide)) m).1.2.2.2, ((w5.sam (by decide)) m).1.2.2.2, v4, nar_b0, ((w3.sam (by decide)) m).1.2.2.2, ((w2.sam (by decide)) m).1.2.2.2, ((w1.sam (by decide)) m).1.2.2.2]
  have fH : aI τ8 2315 m = upd (aI σ3 2315 m) N (nI (s 6 N)) := by
    rw [((w8.sam (by decide)) m).1.2.2.2, ((w7.sam (by decide)) m).1.2.2.2, ((w6.sam (by decide)) m).1.2.2.2, v5, ((w4.sam (by decide)) m).1.2.2.2, ((w3.sam (by decide)) m).1.2.2.2, ((w2.sam (by decide)) m).1.2.2.2, ((w1.sam (by decide)) m).1.2.2.2]
  have fJ : aJ τ8 12313 m = fil (N * 7) ((N + 1) * 7) 0 (aJ σ 12313 m) := by
    rw [((w8.sam (by decide)) m).2.1, ((w7.sam (by decide)) m).2.1, v6, ((w5.sam (by decide)) m).2.1, ((w4.sam (by decide)) m).2.1, ((w3.sam (by decide)) m).2.1, ((w2.sam (by decide)) m).2.1, ((w1.sam (by decide)) m).2.1, (f3.2.1 12313 m hm (fun z => z)).1.2.1]
  refine hQ τ8 fr ⟨⟨ok22.ext ok fr.1, ?_, ?_, ?_⟩, fun e he => ?_, fun g hg => ?_, fun i hi => ?_, fun i hi => ?_⟩ v8 fJ
  · rw [(S 2300 (by decide) m).1.1]; exact C3.1.2.1
  · rw [((w8.sam (by decide)) m).1.1, v7, nIl_1, nI_add]
  · rw [(S 2302 (by decide) m).1.1]; exact C3.1.2.2.2
  · by_cases z : e = N
    · subst z
      refine ⟨⟨q, by rw [fR, aup_s], by rw [W.1.1]; exact xo.1, by rw [(S 3300 (by decide) q).1.1]; exact xo.2.1, by rw [(S 3301 (by decide) q).1.1]; exact xo.2.2⟩, fun z => ?_, fun z => ?_, ?_, ?_⟩
      · obtain ⟨x1, x2, x3⟩ := hx z
        exact ⟨x, by rw [fL, upd_s]; exact x1, x2, x3⟩
      · obtain ⟨y1, y2, y3⟩ := hy z
        exact ⟨y, by rw [fT, upd_s]; exact y1, y2, y3⟩
      · rw [fG, upd_s, h8]; rfl
      · rw [fH, upd_s]
    · obtain ⟨⟨o, h1, h2, h2', h2''⟩, h3, h4, h5, h6⟩ := C3.2.1 e (by omega)
      refine ⟨⟨o, by rw [fR, aup_n z]; exact h1, by rw [W.1.1]; exact h2, by rw [(S 3300 (by decide) o).1.1]; exact h2', by rw [(S 3301 (by decide) o).1.1]; exact h2''⟩, ?_, ?_, ?_, ?_⟩
      · rw [fL, upd_n z]; exact h3
      · rw [fT, upd_n z]; exact h4
      · rw [fG, upd_n z]; exact h5
      · rw [fH, upd_n z]; exact h6
  · rw [(S 2316 (by decide) m).1.2.2.2]; exact C3.2.2.1 g hg
  · obtain ⟨o, h1, h2, h3, h4, h5, h6⟩ := C3.2.2.2.1 i hi
    exact ⟨o, by rw [(S 92306 (by decide) m).2.2]; exact h1, by rw [W.1.1]; exact h2, by rw [(S 3200 (by decide) o).1.1]; exact h3, by rw [(S 3201 (by decide) o).1.1]; exact h4, by rw [(S 3202 (by decide) o).1.1]; exact h5, by rw [(S 3203 (by decide) o).1.1]; exact h6⟩
  · rw [(S 2307 (by decide) m).1.2.2.2]; exact C3.2.2.2.2 i hi
theorem and_2p {x p : Nat} (h : x.testBit p = true) : x &&& 2 ^ p = 2 ^ p := by
  apply Nat.eq_of_testBit_eq
  intro i
  rw [Nat.testBit_and, Nat.testBit_two_pow]
  by_cases q : p = i
  · subst q
    simp [h]
  · simp [q]
/-- the columns of an expression -/
theorem c_xcol {Q : Int32 → wS → Prop} {N e o : Nat} (hC : CM0 σ m s N) (hd : Dn (s 7) (mG s)) (hG : mG s ≤ 64) (he : e < N) (hN : N ≤ 64) (hk : s 2 e = 1 ∨ s 2 e = 3 ∨ s 2 e = 4 ∨ s 2 e = 5 ∨ s 2 e = 6) (ho : aR σ 102308 m e = some o) (h4 : s 2 e ≠ 1 → s 4 e < mG s) (h5 : 5 ≤ s 2 e → s 5 e < mG s) (hp1 : s 2 e = 1 → s 3 e < s 10 0 ∧ s 10 0 ≤ 8) (hp4 : s 2 e = 4 → s 3 e < 4 ∧ (s 9 (R s (s 4 e))).testBit (s 3 e) = true) (hc4 : s 2 e ≠ 1 → aI σ 2312 m (R s (s 4 e)) = nI (s 9 (R s (s 4 e)))) (hc5 : 5 ≤ s 2 e → aI σ 2312 m (R s (s 5 e)) = nI (s 9 (R s (s 5 e)))) (hF : 200 ≤ F) (hQ : Q (nI (xc s (s 9) e)) σ) : v_X32v_columns F σ o (some m) Q := by
  obtain ⟨⟨o', a1, a2⟩, a3, a4, a5, a6⟩ := hC.2.1 e he
  rw [a1] at ho
  cases ho
  have ve := vp_inN (show e < 64 by omega) (by decide)
  have ce : (nI e).toNatClampNeg = e := nI_clamp (by omega)
  have rl : ∀ g, g < mG s → R s g < 64 := fun g hg => Nat.lt_of_lt_of_le (rt_lt hd hg) hG
  have tags := kd5 hk
  have c34 : ∀ Q' : Int32 → wS → Prop, (s 2 e = 3 ∨ s 2 e = 4) → Q' (nI (s 9 (R s (s 4 e)))) σ → w_X34_columns F σ o (some m) Q' := fun Q' k34 hq => by
    obtain ⟨g, g1, g2, g3⟩ := a3 (by omega)
    unfold w_X34_columns
    refine ⟨m, rfl, hC.1.1, ?_, ?_⟩
    · unfold oS34
      rw [a2.1]
      rcases tags with z | z | z | z | z <;> first | omega | (rw [z.1]; decide)
    · rw [a2.2.1, ce, g1]
      refine ⟨ve, c_find0 hC hd hG g2 (by omega) ?_⟩
      have := rl g g2
      rw [g3] at this ⊢
      rw [nI_clamp (by omega), hc4 (by omega)]
      exact ⟨vp_inN this (by decide), hq⟩
  unfold xc at hQ
  unfold v_X32v_columns
  rcases tags with ⟨z, k⟩ | ⟨z, k⟩ | ⟨z, k⟩ | ⟨z, k⟩ | ⟨z, k⟩
  · rw [a2.1, z, if_pos rfl]
    rw [if_pos k] at hQ
    obtain ⟨p1, p8⟩ := hp1 k
    obtain ⟨o2, t1, t2⟩ := hC.2.2.2.1 _ p1
    unfold w_X33_columns
    refine ⟨m, rfl, hC.1.1, by show oC σ o = 34; rw [a2.1, z], ?_⟩
    rw [a2.2.2, nI_clamp (by omega)]
    refine ⟨vp_inN (by omega) (by decide), o2, t1, t2.1, ?_⟩
    rw [t2.2.2.1]
    exact hQ
  · rw [a2.1, z, if_neg (by decide), if_pos rfl]
    rw [if_neg (by omega), if_neg (by omega), if_neg (by omega)] at hQ
    exact c34 _ (Or.inl k) hQ
  · rw [a2.1, z, if_neg (by decide), if_neg (by decide), if_pos rfl]
    rw [if_neg (by omega), if_pos k] at hQ
    obtain ⟨p1, p2⟩ := hp4 k
    unfold w_X36_columns
    refine ⟨by show oC σ o = 37; rw [a2.1, z], c34 _ (Or.inr k) ?_⟩
    rw [a2.2.2, shl1 _ (by omega), and_nI, and_2p p2]
    exact hQ
  · rw [a2.1, z, if_neg (by decide), if_neg (by decide), if_neg (by decide), if_pos rfl]
    rw [if_neg (by omega), if_neg (by omega), if_pos k] at hQ
    obtain ⟨g, g1, g2, g3⟩ := a3 (by omega)
    obtain ⟨g', g1', g2', g3'⟩ := a4 (by omega)
    have r1 := rl g g2
    have r2 := rl g' g2'
    rw [g3] at r1
    rw [g3'] at r2
    unfold w_X37_columns
    refine ⟨m, rfl, hC.1.1, ?_, ?_⟩
    · unfold oS137
      rw [a2.1, z]; decide
    · rw [a2.2.1, ce, g1]
      refine ⟨ve, c_find0 hC hd hG g2 (by omega) ⟨by rw [g3]; exact vp_inN r1 (by decide), ?_⟩⟩
      rw [a2.2.1, ce, g1']
      refine ⟨ve, c_find0 hC hd hG g2' (by omega) ⟨?_, ?_⟩⟩
      · rw [g3']; exact vp_inN r2 (by decide)
      · rw [g3, g3', nI_clamp (by omega), nI_clamp (by omega), hc4 (by omega), hc5 (by omega), or_nI]
        exact hQ
  · rw [a2.1, z, if_neg (by decide), if_neg (by decide), if_neg (by decide), if_neg (by decide), if_pos rfl]
    rw [if_neg (by omega), if_neg (by omega), if_neg (by omega)] at hQ
    obtain ⟨g, g1, g2, g3⟩ := a3 (by omega)
    have r1 := rl g g2
    rw [g3] at r1
    unfold w_X38_columns
    refine ⟨m, rfl, hC.1.1, by show oC σ o = 39; rw [a2.1, z], ?_⟩
    rw [a2.2.1, ce, g1]
    refine ⟨ve, c_find0 hC hd hG g2 (by omega) ⟨?_, ?_⟩⟩
    · rw [g3]; exact vp_inN r1 (by decide)
    · rw [g3, nI_clamp (by omega), hc4 (by omega)]
      exact hQ
end PC
