set_option linter.unusedVariables false
set_option maxRecDepth 10000
/-! ===== twin: restore ===== -/
section PT
variable {σ τ υ : wS} {t F : Nat} {s : mS} {S : gS}
theorem t_r63 {Q : Int32 → wS → Prop} {kk : wS → Prop} {σ0 : wS} (ok : ok24 σ0 t) (hn : aN σ0 2572 t = some 600) (hQ : ∀ τ, Tw [2510] t σ0 τ → (∀ j, j < 4 → aI τ 2510 t j = aI σ0 2572 t (6 + j)) → kk τ) : ∀ n x σ, x ≤ 4 → 4 - x < n → Tw [2510] t σ0 σ → (∀ j, j < x → aI σ 2510 t j = aI σ0 2572 t (6 + j)) → l_X24_restore_63 F t Q kk n σ (nI x) := by
  intro n
  induction n with
  | zero => intro x σ h1 h2; omega
  | succ n ih =>
    intro x σ h1 h2 W ha
    unfold l_X24_restore_63
    refine ⟨W.ok ok, ?_⟩
    by_cases q : x = 4
    · rw [q, if_pos (by decide)]
      rw [q] at ha
      exact hQ σ W ha
    · rw [if_neg (show ¬ (4 : Int32) ≤ nI x from nI_ge (b := 4) (by omega) (by decide)), nIl_6, nI_add, nI_clamp (n := 6 + x) (by omega), nI_clamp (n := x) (by omega)]
      refine ⟨600, by rw [W.1.2.2.2.1]; exact hn, vp_inN (by omega) (by decide), vp_inN (by omega) (by decide), bnd_sA fun τ w1 v1 _ _ => ?_⟩
      rw [nIl_1, nI_add]
      refine ih (x + 1) τ (by omega) (by omega) (W.trans w1) (fun j hj => ?_)
      rw [v1]
      by_cases z : j = x
      · rw [z, upd_s, W.A (by decide)]
      · rw [upd_n z]; exact ha j (by omega)
theorem t_r88 {Q : Int32 → wS → Prop} {kk : wS → Prop} {σ0 : wS} (ok : ok24 σ0 t) (hn : aN σ0 2572 t = some 600) (hQ : ∀ τ, Tw [2523] t σ0 τ → (∀ j, j < 7 → aI τ 2523 t j = aI σ0 2572 t (10 + j)) → kk τ) : ∀ n x σ, x ≤ 7 → 7 - x < n → Tw [2523] t σ0 σ → (∀ j, j < x → aI σ 2523 t j = aI σ0 2572 t (10 + j)) → l_X24_restore_88 F t Q kk n σ (nI x) := by
  intro n
  induction n with
  | zero => intro x σ h1 h2; omega
  | succ n ih =>
    intro x σ h1 h2 W ha
    unfold l_X24_restore_88
    refine ⟨W.ok ok, ?_⟩
    by_cases q : x = 7
    · rw [q, if_pos (by decide)]
      rw [q] at ha
      exact hQ σ W ha
    · rw [if_neg (show ¬ (7 : Int32) ≤ nI x from nI_ge (b := 7) (by omega) (by decide)), nIl_10, nI_add, nI_clamp (n := 10 + x) (by omega), nI_clamp (n := x) (by omega)]
      refine ⟨600, by rw [W.1.2.2.2.1]; exact hn, vp_inN (by omega) (by decide), vp_inN (by omega) (by decide), bnd_sA fun τ w1 v1 _ _ => ?_⟩
      rw [nIl_1, nI_add]
      refine ih (x + 1) τ (by omega) (by omega) (W.trans w1) (fun j hj => ?_)
      rw [v1]
      by_cases z : j = x
      · rw [z, upd_s, W.A (by decide)]
      · rw [upd_n z]; exact ha j (by omega)
theorem t_r114 {Q : Int32 → wS → Prop} {kk : wS → Prop} {σ0 : wS} (ok : ok24 σ0 t) (hn : aN σ0 2572 t = some 600) (hQ : ∀ τ, Tw [2511, 2512, 2513, 2514] t σ0 τ → (∀ j, j < 8 → aI τ 2511 t j = aI σ0 2572 t (20 + j) ∧ aI τ 2512 t j = aI σ0 2572 t (30 + j) ∧ aI τ 2513 t j = aI σ0 2572 t (40 + j) ∧ aI τ 2514 t j = aI σ0 2572 t (50 + j)) → kk τ) : ∀ n x σ, x ≤ 8 → 8 - x < n → Tw [2511, 2512, 2513, 2514] t σ0 σ → (∀ j, j < x → aI σ 2511 t j = aI σ0 2572 t (20 + j) ∧ aI σ 2512 t j = aI σ0 2572 t (30 + j) ∧ aI σ 2513 t j = aI σ0 2572 t (40 + j) ∧ aI σ 2514 t j = aI σ0 2572 t (50 + j)) → l_X24_restore_114 F t Q kk n σ (nI x) := by
  intro n
  induction n with
  | zero => intro x σ h1 h2; omega
  | succ n ih =>
    intro x σ h1 h2 W ha
    unfold l_X24_restore_114
    refine ⟨W.ok ok, ?_⟩
    by_cases q : x = 8
    · rw [q, if_pos (by decide)]
      rw [q] at ha
      exact hQ σ W ha
    · rw [if_neg (show ¬ (8 : Int32) ≤ nI x from nI_ge (b := 8) (by omega) (by decide)), nIl_20, nIl_30, nIl_40, nIl_50, nI_add, nI_add, nI_add, nI_add, nI_clamp (n := 20 + x) (by omega), nI_clamp (n := 30 + x) (by omega), nI_clamp (n := 40 + x) (by omega), nI_clamp (n := 50 + x) (by omega), nI_clamp (n := x) (by omega)]
      refine ⟨600, by rw [W.1.2.2.2.1]; exact hn, vp_inN (by omega) (by decide), vp_inN (by omega) (by decide), bnd_sA fun σ1 w1 v1 _ _ => ⟨vp_inN (by omega) (by decide), bnd_sA fun σ2 w2 v2 _ _ => ⟨vp_inN (by omega) (by decide), bnd_sA fun σ3 w3 v3 _ _ => ⟨vp_inN (by omega) (by decide), bnd_sA fun σ4 w4 v4 _ _ => ?_⟩⟩⟩⟩
      rw [nIl_1, nI_add]
      have X : Tw [2511, 2512, 2513, 2514] t σ σ4 := ((((w1.mono (by decide)).up w2 (by decide)).up w3 (by decide)).up w4 (by decide))
      have f1 : aI σ4 2511 t = upd (aI σ 2511 t) x (aI σ0 2572 t (20 + x)) := by
        rw [w4.A (g := 2511) (by decide), w3.A (g := 2511) (by decide), w2.A (g := 2511) (by decide), v1, W.A (g := 2572) (by decide)]
      have f2 : aI σ4 2512 t = upd (aI σ 2512 t) x (aI σ0 2572 t (30 + x)) := by
        rw [w4.A (g := 2512) (by decide), w3.A (g := 2512) (by decide), v2, w1.A (g := 2572) (by decide), W.A (g := 2572) (by decide), w1.A (g := 2512) (by decide)]
      have f3 : aI σ4 2513 t = upd (aI σ 2513 t) x (aI σ0 2572 t (40 + x)) := by
        rw [w4.A (g := 2513) (by decide), v3, w2.A (g := 2572) (by decide), w1.A (g := 2572) (by decide), W.A (g := 2572) (by decide), w2.A (g := 2513) (by decide), w1.A (g := 2513) (by decide)]
      have f4 : aI σ4 2514 t = upd (aI σ 2514 t) x (aI σ0 2572 t (50 + x)) := by
        rw [v4, w3.A (g := 2572) (by decide), w2.A (g := 2572) (by decide), w1.A (g := 2572) (by decide), W.A (g := 2572) (by decide), w3.A (g := 2514) (by decide), w2.A (g := 2514) (by decide), w1.A (g := 2514) (by decide)]
      refine ih (x + 1) σ4 (by omega) (by omega) (W.trans X) (fun j hj => ?_)
      rw [f1, f2, f3, f4]
      by_cases z : j = x
      · subst z
        exact ⟨by rw [upd_s], by rw [upd_s], by rw [upd_s], by rw [upd_s]⟩
      · obtain ⟨a1, a2, a3, a4⟩ := ha j (by omega)
        exact ⟨by rw [upd_n z]; exact a1, by rw [upd_n z]; exact a2, by rw [upd_n z]; exact a3, by rw [upd_n z]; exact a4⟩
theorem t_r176 {Q : Int32 → wS → Prop} {kk : wS → Prop} {σ0 : wS} (ok : ok24 σ0 t) (hn : aN σ0 2572 t = some 600) (hn2 : aN σ0 22573 t = some 64) (hQ : ∀ τ, Tw [2515, 2516, 2517, 2518, 2519, 2520, 22521] t σ0 τ → (∀ j, j < 64 → (aI τ 2515 t j = aI σ0 2572 t (60 + j) ∧ aI τ 2516 t j = aI σ0 2572 t (130 + j) ∧ aI τ 2517 t j = aI σ0 2572 t (200 + j) ∧ aI τ 2518 t j = aI σ0 2572 t (270 + j) ∧ aI τ 2519 t j = aI σ0 2572 t (340 + j) ∧ aI τ 2520 t j = aI σ0 2572 t (410 + j)) ∧ aI τ 22521 t j = vp_nar .boolean (aI σ0 22573 t j)) → kk τ) : ∀ n x σ, x ≤ 64 → 64 - x < n → Tw [2515, 2516, 2517, 2518, 2519, 2520, 22521] t σ0 σ → (∀ j, j < x → (aI σ 2515 t j = aI σ0 2572 t (60 + j) ∧ aI σ 2516 t j = aI σ0 2572 t (130 + j) ∧ aI σ 2517 t j = aI σ0 2572 t (200 + j) ∧ aI σ 2518 t j = aI σ0 2572 t (270 + j) ∧ aI σ 2519 t j = aI σ0 2572 t (340 + j) ∧ aI σ 2520 t j = aI σ0 2572 t (410 + j)) ∧ aI σ 22521 t j = vp_nar .boolean (aI σ0 22573 t j)) → l_X24_restore_176 F t Q kk n σ (nI x) := by
  intro n
  induction n with
  | zero => intro x σ h1 h2; omega
  | succ n ih =>
    intro x σ h1 h2 W ha
    unfold l_X24_restore_176
    refine ⟨W.ok ok, ?_⟩
    by_cases q : x = 64
    · rw [q, if_pos (by decide)]
      rw [q] at ha
      exact hQ σ W ha
    · rw [if_neg (show ¬ (64 : Int32) ≤ nI x from nI_ge (b := 64) (by omega) (by decide)), nIl_60, nIl_130, nIl_200, nIl_270, nIl_340, nIl_410, nI_add, nI_add, nI_add, nI_add, nI_add, nI_add, nI_clamp (n := 60 + x) (by omega), nI_clamp (n := 130 + x) (by omega), nI_clamp (n := 200 + x) (by omega), nI_clamp (n := 270 + x) (by omega), nI_clamp (n := 340 + x) (by omega), nI_clamp (n := 410 + x) (by omega), nI_clamp (n := x) (by omega)]
      refine ⟨600, by rw [W.1.2.2.2.1]; exact hn, vp_inN (by omega) (by decide), vp_inN (by omega) (by decide), bnd_sA fun σ1 w1 v1 _ _ => ⟨vp_inN (by omega) (by decide), bnd_sA fun σ2 w2 v2 _ _ => ⟨vp_inN (by omega) (by decide), bnd_sA fun σ3 w3 v3 _ _ => ⟨vp_inN (by omega) (by decide), bnd_sA fun σ4 w4 v4 _ _ => ⟨vp_inN (by omega) (by decide), bnd_sA fun σ5 w5 v5 _ _ => ⟨vp_inN (by omega) (by decide), bnd_sA fun σ6 w6 v6 _ _ => ⟨64, by rw [w6.1.2.2.2.1, w5.1.2.2.2.1, w4.1.2.2.2.1, w3.1.2.2.2.1, w2.1.2.2.2.1, w1.1.2.2.2.1, W.1.2.2.2.1]; exact hn2, vp_inN (by omega) (by decide), bnd_sA fun σ7 w7 v7 _ _ => ?_⟩⟩⟩⟩⟩⟩⟩
      rw [nIl_1, nI_add]
      have X : Tw [2515, 2516, 2517, 2518, 2519, 2520, 22521] t σ σ7 := (((((((w1.mono (by decide)).up w2 (by decide)).up w3 (by decide)).up w4 (by decide)).up w5 (by decide)).up w6 (by decide)).up w7 (by decide))
      have f1 : aI σ7 2515 t = upd (aI σ 2515 t) x (aI σ0 2572 t (60 + x)) := by
        rw [w7.A (g := 2515) (by decide), w6.A (g := 2515) (by decide), w5.A (g := 2515) (by decide), w4.A (g := 2515) (by decide), w3.A (g := 2515) (by decide), w2.A (g := 2515) (by decide), v1, W.A (g := 2572) (by decide)]
      have f2 : aI σ7 2516 t = upd (aI σ 2516 t) x (aI σ0 2572 t (130 + x)) := by
        rw [w7.A (g := 2516) (by decide), w6.A (g := 2516) (by decide), w5.A (g := 2516) (by decide), w4.A (g := 2516) (by decide), w3.A (g := 2516) (by decide), v2, w1.A (g := 2572) (by decide), W.A (g := 2572) (by decide), w1.A (g := 2516) (by decide)]
      have f3 : aI σ7 2517 t = upd (aI σ 2517 t) x (aI σ0 2572 t (200 + x)) := by
        rw [w7.A (g := 2517) (by decide), w6.A (g := 2517) (by decide), w5.A (g := 2517) (by decide), w4.A (g := 2517) (by decide), v3, w2.A (g := 2572) (by decide), w1.A (g := 2572) (by decide), W.A (g := 2572) (by decide), w2.A (g := 2517) (by decide), w1.A (g := 2517) (by decide)]
      have f4 : aI σ7 2518 t = upd (aI σ 2518 t) x (aI σ0 2572 t (270 + x)) := by
        rw [w7.A (g := 2518) (by decide), w6.A (g := 2518) (by decide), w5.A (g := 2518) (by decide), v4, w3.A (g := 2572) (by decide), w2.A (g := 2572) (by decide), w1.A (g := 2572) (by decide), W.A (g := 2572) (by decide), w3.A (g := 2518) (by decide), w2.A (g := 2518) (by decide), w1.A (g := 2518) (by decide)]
      have f5 : aI σ7 2519 t = upd (aI σ 2519 t) x (aI σ0 2572 t (340 + x)) := by
        rw [w7.A (g := 2519) (by decide), w6.A (g := 2519) (by decide), v5, w4.A (g := 2572) (by decide), w3.A (g := 2572) (by decide), w2.A (g := 2572) (by decide), w1.A (g := 2572) (by decide), W.A (g := 2572) (by decide), w4.A (g := 2519) (by decide), w3.A (g := 2519) (by decide), w2.A (g := 2519) (by decide), w1.A (g := 2519) (by decide)]
      have f6 : aI σ7 2520 t = upd (aI σ 2520 t) x (aI σ0 2572 t (410 + x)) := by
        rw [w7.A (g := 2520) (by decide), v6, w5.A (g := 2572) (by decide), w4.A (g := 2572) (by decide), w3.A (g := 2572) (by decide), w2.A (g := 2572) (by decide), w1.A (g := 2572) (by decide), W.A (g := 2572) (by decide), w5.A (g := 2520) (by decide), w4.A (g := 2520) (by decide), w3.A (g := 2520) (by decide), w2.A (g := 2520) (by decide), w1.A (g := 2520) (by decide)]
      have f7 : aI σ7 22521 t = upd (aI σ 22521 t) x (vp_nar .boolean (aI σ0 22573 t x)) := by
        rw [v7, w6.A (g := 22573) (by decide), w5.A (g := 22573) (by decide), w4.A (g := 22573) (by decide), w3.A (g := 22573) (by decide), w2.A (g := 22573) (by decide), w1.A (g := 22573) (by decide), W.A (g := 22573) (by decide), w6.A (g := 22521) (by decide), w5.A (g := 22521) (by decide), w4.A (g := 22521) (by decide), w3.A (g := 22521) (by decide), w2.A (g := 22521) (by decide), w1.A (g := 22521) (by decide)]
      refine ih (x + 1) σ7 (by omega) (by omega) (W.trans X) (fun j hj => ?_)
      rw [f1, f2, f3, f4, f5, f6, f7]
      by_cases z : j = x
      · subst z
        exact ⟨⟨by rw [upd_s], by rw [upd_s], by rw [upd_s], by rw [upd_s], by rw [upd_s], by rw [upd_s]⟩, by rw [upd_s]⟩
      · obtain ⟨⟨a1, a2, a3, a4, a5, a6⟩, b1⟩ := ha j (by omega)
        exact ⟨⟨by rw [upd_n z]; exact a1, by rw [upd_n z]; exact a2, by rw [upd_n z]; exact a3, by rw [upd_n z]; exact a4, by rw [upd_n z]; exact a5, by rw [upd_n z]; exact a6⟩, by rw [upd_n z]; exact b1⟩
theorem t_r279 {Q : Int32 → wS → Prop} {kk : wS → Prop} {σ0 : wS} (ok : ok24 σ0 t) (hn : aN σ0 22574 t = some 29120) (hQ : ∀ τ, Tw [22522] t σ0 τ → (∀ j, j < 29120 → aI τ 22522 t j = vp_nar .boolean (aI σ0 22574 t j)) → kk τ) : ∀ n x σ, x ≤ 29120 → 29120 - x < n → Tw [22522] t σ0 σ → (∀ j, j < x → aI σ 22522 t j = vp_nar .boolean (aI σ0 22574 t j)) → l_X24_restore_279 F t Q kk n σ (nI x) := by
  intro n
  induction n with
  | zero => intro x σ h1 h2; omega
  | succ n ih =>
    intro x σ h1 h2 W ha
    unfold l_X24_restore_279
    refine ⟨W.ok ok, ?_⟩
    by_cases q : x = 29120
    · rw [q, if_pos (by decide)]
      rw [q] at ha
      exact hQ σ W ha
    · rw [if_neg (show ¬ (29120 : Int32) ≤ nI x from nI_ge (b := 29120) (by omega) (by decide)), nI_clamp (by omega)]
      refine ⟨29120, by rw [W.1.2.2.2.1]; exact hn, vp_inN (by omega) (by decide), vp_inN (by omega) (by decide), bnd_sA fun τ w1 v1 _ _ => ?_⟩
      rw [nIl_1, nI_add]
      refine ih (x + 1) τ (by omega) (by omega) (W.trans w1) (fun j hj => ?_)
      rw [v1]
      by_cases z : j = x
      · rw [z, upd_s, W.A (by decide)]
      · rw [upd_n z]; exact ha j (by omega)
theorem t_r308 {Q : Int32 → wS → Prop} {A : mS} {m : Nat} {σ0 : wS} (ok : ok24 σ0 t) (em : oI σ0 2501 t = nI m) (hm : m ≤ 64) (hA : ∀ i, i < 8 → A 1 i < 3 ∧ (A 1 i = 2 → A 4 i < 64)) (hS : TS σ0 t A) (hQ : ∀ τ, Tw [2524] t σ0 τ → (∀ i, i < 8 → aI τ 2524 t i = nI (flw A m 1 i)) → Q (nI m) τ) : ∀ n x σ, x ≤ 8 → 8 - x < n → Tw [2524] t σ0 σ → (∀ i, i < x → aI σ 2524 t i = nI (flw A m 1 i)) → (∀ i, x ≤ i → i < 8 → aI σ 2524 t i = nI (A 1 i)) → l_X24_restore_308 F t Q n σ (nI x) := by
  intro n
  induction n with
  | zero => intro x σ h1 h2; omega
  | succ n ih =>
    intro x σ h1 h2 W ha hb
    unfold l_X24_restore_308
    by_cases q : x = 8
    · rw [q, if_pos (by decide), W.I (by decide), em]
      rw [q] at ha
      exact ⟨W.ok ok, hQ σ W ha⟩
    · have hx : x < 8 := by omega
      obtain ⟨a1, a2⟩ := hA x hx
      obtain ⟨-, -, -, s4⟩ := hS x hx
      rw [if_neg (show ¬ (8 : Int32) ≤ nI x from nI_ge (b := 8) (by omega) (by decide)), nI_clamp (by omega), hb x (Nat.le_refl x) hx, W.I (by decide), em, W.A (g := 2527) (by decide)]
      refine ⟨W.ok ok, vp_inN hx (by decide), ?_⟩
      have ef : flw A m 1 x = if A 1 x = 2 ∧ m ≤ A 4 x then 0 else A 1 x := rfl
      have keep : flw A m 1 x = A 1 x → l_X24_restore_308 F t Q n σ (nI x + 1) := fun e => by
        rw [nIl_1, nI_add]
        refine ih (x + 1) σ (by omega) (by omega) W (fun i hi => ?_) (fun i h3 h4 => hb i (by omega) h4)
        by_cases z : i = x
        · rw [z, e]; exact hb x (Nat.le_refl x) hx
        · exact ha i (by omega)
      by_cases c2 : A 1 x = 2
      · rw [if_pos (by rw [c2]; rfl), s4 c2]
        have a3 := a2 c2
        by_cases c3 : A 4 x < m
        · rw [if_pos (nI_lt c3 (by omega))]
          exact keep (by rw [ef, if_neg (fun z => by omega)])
        · rw [if_neg (nI_nlt (by omega) (by omega))]
          refine bnd_sA fun τ w1 v1 _ _ => ?_
          rw [nIl_1, nI_add]
          refine ih (x + 1) τ (by omega) (by omega) (W.trans w1) (fun i hi => ?_) (fun i h3 h4 => ?_)
          · rw [v1]
            by_cases z : i = x
            · rw [z, upd_s, ef, if_pos ⟨c2, by omega⟩]; rfl
            · rw [upd_n z]; exact ha i (by omega)
          · rw [v1, upd_n (by omega)]; exact hb i (by omega) h4
      · rw [if_neg (show ¬ nI (A 1 x) = (2 : Int32) from nI_eqf (b := 2) (by omega) (by decide) c2)]
        exact keep (by rw [ef, if_neg (fun z => c2 z.1)])
theorem t_restore {Q : Int32 → wS → Prop} (hT : TT σ t S) (hA : AV S) (hN : mN S.1 ≤ 64) (hI : S.2.1 5 2 = 1 → MV S.2.2.1) (hF : 100000 ≤ F) (hQ : ∀ τ, Tu t σ τ → TT τ t (o_restore S).2 → Q (o_restore S).1 τ) : w_X24_restore F σ t Q := by
  obtain ⟨⟨j1, j2⟩, j3, j4⟩ := hT.2.2.2
  unfold w_X24_restore
  rw [j1]
  refine ⟨hT.ok, ?_⟩
  by_cases q : S.2.1 5 2 = 0
  · rw [if_pos (by rw [q]; rfl)]
    have e2 : o_restore S = noA S 6 := if_pos q
    rw [e2] at hQ
    exact t_no 6 (by decide) rfl hT hQ
  have q1 : S.2.1 5 2 = 1 := by omega
  have e2 : o_restore S = (nI (mN S.2.2.1), (S.2.2.1, flw S.2.1 (mN S.2.2.1), S.2.2)) := if_neg q
  rw [e2] at hQ
  have hM := hI q1
  generalize hv : S.2.2.1 = v at hQ hM j4
  have hs := hM.1.1
  have hG := hs.2.1
  have hN2 := hM.2.2
  obtain ⟨⟨n1, n2, n3⟩, ⟨⟨K0, K1, K2, K3, K4, K5⟩, Kd, Kf, Kt, Ke, Kg⟩, Ko, Kw⟩ := j4 q1
  rw [if_neg (show ¬ nI (S.2.1 5 2) = (0 : Int32) from nI_eqf (b := 0) (by omega) (by decide) q)]
  have c0 : (0 : Int32).toNatClampNeg = 0 := by decide
  have c1 : (1 : Int32).toNatClampNeg = 1 := by decide
  have c2 : (2 : Int32).toNatClampNeg = 2 := by decide
  have c3 : (3 : Int32).toNatClampNeg = 3 := by decide
  have c4 : (4 : Int32).toNatClampNeg = 4 := by decide
  have c5 : (5 : Int32).toNatClampNeg = 5 := by decide
  rw [c0, c1, c2, c3, c4, c5]
  refine ⟨600, n1, vp_inN (n := 0) (by decide) (by decide), bnd_sI fun τ1 u1 z1 _ _ => ⟨vp_inN (n := 1) (by decide) (by decide), bnd_sI fun τ2 u2 z2 _ _ => ⟨vp_inN (n := 2) (by decide) (by decide), bnd_sI fun τ3 u3 z3 _ _ => ⟨vp_inN (n := 3) (by decide) (by decide), bnd_sI fun τ4 u4 z4 _ _ => ⟨vp_inN (n := 4) (by decide) (by decide), bnd_sI fun τ5 u5 z5 _ _ => ⟨vp_inN (n := 5) (by decide) (by decide), bnd_sI fun τ6 u6 z6 _ _ => ?_⟩⟩⟩⟩⟩⟩
  have U6 : Tw [2500, 2501, 2502, 2503, 2504, 2505] t σ τ6 := ((((((u1.mono (by decide)).up u2 (by decide)).up u3 (by decide)).up u4 (by decide)).up u5 (by decide)).up u6 (by decide))
  have N : ∀ {τ' : wS} {G : List Nat}, Tw G t σ τ' → aN τ' 2572 t = some 600 ∧ aN τ' 22573 t = some 64 ∧ aN τ' 22574 t = some 29120 := fun h => by rw [h.1.2.2.2.1]; exact ⟨n1, n2, n3⟩
  refine t_r63 (U6.ok hT.ok) (N U6).1 (fun τ7 w7 a7 => ?_) F 0 τ6 (by omega) (by omega) Tw.refl (fun j h => absurd h (by omega))
  have U7 : Tw [2500, 2501, 2502, 2503, 2504, 2505, 2510] t σ τ7 := (U6.mono (by decide)).up w7 (by decide)
  refine t_r88 (U7.ok hT.ok) (N U7).1 (fun τ8 w8 a8 => ?_) F 0 τ7 (by omega) (by omega) Tw.refl (fun j h => absurd h (by omega))
  have U8 : Tw [2500, 2501, 2502, 2503, 2504, 2505, 2510, 2523] t σ τ8 := (U7.mono (by decide)).up w8 (by decide)
  refine t_r114 (U8.ok hT.ok) (N U8).1 (fun τ9 w9 a9 => ?_) F 0 τ8 (by omega) (by omega) Tw.refl (fun j h => absurd h (by omega))
  have U9 : Tw [2500, 2501, 2502, 2503, 2504, 2505, 2510, 2523, 2511, 2512, 2513, 2514] t σ τ9 := (U8.mono (by decide)).trans (w9.mono (by decide))
  refine t_r176 (U9.ok hT.ok) (N U9).1 (N U9).2.1 (fun τa wa aa => ?_) F 0 τ9 (by omega) (by omega) Tw.refl (fun j h => absurd h (by omega))
  have Ua : Tw [2500, 2501, 2502, 2503, 2504, 2505, 2510, 2523, 2511, 2512, 2513, 2514, 2515, 2516, 2517, 2518, 2519, 2520, 22521] t σ τa := (U9.mono (by decide)).trans (wa.mono (by decide))
  refine t_r279 (Ua.ok hT.ok) (N Ua).2.2 (fun τb wb ab => ?_) F 0 τa (by omega) (by omega) Tw.refl (fun j h => absurd h (by omega))
  have Ub : Tw [2500, 2501, 2502, 2503, 2504, 2505, 2510, 2523, 2511, 2512, 2513, 2514, 2515, 2516, 2517, 2518, 2519, 2520, 22521, 22522] t σ τb := (Ua.mono (by decide)).trans (wb.mono (by decide))
  have P0 : oI τb 2500 t = nI (v 10 0) ∧ oI τb 2501 t = nI (mN v) ∧ oI τb 2502 t = nI (mG v) ∧ oI τb 2503 t = nI (v 18 0) ∧ oI τb 2504 t = nI (v 19 0) ∧ oI τb 2505 t = nI (v 20 0) := by
    have B : ∀ g, g ∈ [2500, 2501, 2502, 2503, 2504, 2505] → oI τb g t = oI τ6 g t := fun g hg => by
      rw [wb.I (by revert g; decide), wa.I (by revert g; decide), w9.I (by revert g; decide), w8.I (by revert g; decide), w7.I (by revert g; decide)]
    refine ⟨?_, ?_, ?_, ?_, ?_, ?_⟩
    · rw [B _ (by decide), u6.I (by decide), u5.I (by decide), u4.I (by decide), u3.I (by decide), u2.I (by decide), z1]; exact K0
    · rw [B _ (by decide), u6.I (by decide), u5.I (by decide), u4.I (by decide), u3.I (by decide), z2, u1.A (by decide)]; exact K1
    · rw [B _ (by decide), u6.I (by decide), u5.I (by decide), u4.I (by decide), z3, u2.A (by decide), u1.A (by decide)]; exact K2
    · rw [B _ (by decide), u6.I (by decide), u5.I (by decide), z4, u3.A (by decide), u2.A (by decide), u1.A (by decide)]; exact K3
    · rw [B _ (by decide), u6.I (by decide), z5, u4.A (by decide), u3.A (by decide), u2.A (by decide), u1.A (by decide)]; exact K4
    · rw [B _ (by decide), z6, u5.A (by decide), u4.A (by decide), u3.A (by decide), u2.A (by decide), u1.A (by decide)]; exact K5
  obtain ⟨p0, p1, p2, p3, p4, p5⟩ := P0
  have hSb := hT.2.1.2.1.tw Ub (by decide)
  have hm : TM τb t v := by
    refine ⟨⟨Ub.ok hT.ok, p0, p1, p2⟩, fun e he => ?_, fun g hg => ?_, fun i hi => ?_, fun i hi => ?_⟩
    · have h64 : e < 64 := Nat.lt_of_lt_of_le he hN2
      obtain ⟨⟨y1, y2, y3, y4, y5, y6⟩, y7⟩ := aa e h64
      obtain ⟨x1, x2, x3, x4, x5⟩ := Ke e he
      rw [wb.A (by decide), wb.A (by decide), wb.A (by decide), wb.A (by decide), wb.A (by decide), wb.A (by decide), y1, y2, y3, y4, y5, y7, U9.A (by decide), U9.A (by decide), Ko e he]
      exact ⟨x1, x2, x3, x4, x5, nar_b (by have := (sh_bnd hs he).2.2.2; omega)⟩
    · have h64 : g < 64 := Nat.lt_of_lt_of_le hg (Nat.le_trans hG hN2)
      rw [wb.A (by decide), (aa g h64).1.2.2.2.2.2, U9.A (by decide)]
      exact Kg g hg
    · have h8 : i < 8 := Nat.lt_of_lt_of_le hi hs.2.2.2.1
      obtain ⟨y1, y2, y3, y4⟩ := a9 i h8
      obtain ⟨x1, x2, x3, x4⟩ := Kt i hi
      rw [wb.A (by decide), wb.A (by decide), wa.A (by decide), wa.A (by decide), y1, y2, U8.A (by decide)]
      exact ⟨x1, x2⟩
    · rw [wb.A (by decide), wa.A (by decide), w9.A (by decide), w8.A (by decide), a7 i hi, U6.A (by decide)]
      exact Kd i hi
  have hx : TXo τb t v := by
    refine ⟨p4, fun i hi => ?_⟩
    have h8 : i < 8 := Nat.lt_of_lt_of_le hi hs.2.2.2.1
    obtain ⟨y1, y2, y3, y4⟩ := a9 i h8
    obtain ⟨x1, x2, x3, x4⟩ := Kt i hi
    rw [wb.A (by decide), wb.A (by decide), wa.A (by decide), wa.A (by decide), y3, y4, U8.A (by decide)]
    exact ⟨x3, x4⟩
  have hf : TF τb t v := by
    refine ⟨fun i hi => ?_, fun i hi => ?_, p3⟩
    · rw [ab i hi, Ua.A (by decide), Kw i hi]
      exact nar_b (hM.2.1.2.2 i)
    · rw [wb.A (by decide), wa.A (by decide), w9.A (by decide), a8 i hi, U7.A (by decide)]
      exact Kf i hi
  refine t_r308 (A := S.2.1) (m := mN v) (Ub.ok hT.ok) p1 hN2 (fun i hi => ?_) hSb (fun τc wc ac => ?_) F 0 τb (by omega) (by omega) Tw.refl (fun i h => absurd h (by omega)) (fun i _ h => (hSb i h).1)
  · obtain ⟨b1, b2, b3, b4⟩ := hA i hi
    exact ⟨b1, fun z => Nat.lt_of_lt_of_le (b4 z) hN⟩
  have hz := hT.2.1.2.2.2
  have Uc : Tw [2500, 2501, 2502, 2503, 2504, 2505, 2510, 2523, 2511, 2512, 2513, 2514, 2515, 2516, 2517, 2518, 2519, 2520, 22521, 22522, 2524] t σ τc := (Ub.mono (by decide)).trans (wc.mono (by decide))
  refine hQ τc Uc.tu ⟨⟨hm.tw wc (by decide), hx.tw wc (by decide), hf.tw wc (by decide)⟩, ⟨hT.2.1.1.tw Uc (by decide), fun i hi => ?_, hT.2.1.2.2.1.tw Uc (by decide), ?_, ?_, ?_⟩, hT.2.2.1.tw Uc (by decide), ?_⟩
  · obtain ⟨b1, b2, b3, b4⟩ := hSb i hi
    rw [ac i hi, wc.A (by decide), wc.A (by decide), wc.A (by decide)]
    refine ⟨rfl, b2, b3, fun z => b4 ?_⟩
    have ef : flw S.2.1 (mN v) 1 i = if S.2.1 1 i = 2 ∧ mN v ≤ S.2.1 4 i then 0 else S.2.1 1 i := rfl
    have z' : flw S.2.1 (mN v) 1 i = 2 := z
    rw [ef] at z'
    split at z'
    · exact absurd z' (by decide)
    · exact z'
  · rw [wc.I (by decide)]; exact p5
  · rw [Uc.I (by decide)]; exact hz.2.1
  · exact ⟨by rw [Uc.I (by decide)]; exact hz.2.2.1, by rw [Uc.A (by decide)]; exact hz.2.2.2⟩
  · show TI τc t (flw S.2.1 (mN v)) S.2.2.1
    have := hT.2.2.2.tw Uc (by decide)
    exact this
end PT
