set_option linter.unusedVariables false
set_option maxRecDepth 10000
/-! ===== twin: shelves and tables ===== -/
section PT
variable {σ τ : wS} {t F : Nat} {s : mS} {S : gS}
theorem tt_cells {G : List Nat} {c : Nat → Int64} (h : TT σ t S) (k : Tw G t σ τ) (d : ∀ g ∈ G, g = 12528 ∨ g = 12529) (e : ∀ i, i < 1280 → aJ τ 12528 t i = c i) : TT τ t (sCl S c) := by
  have d1 : ∀ g, g ≠ 12528 → g ≠ 12529 → g ∉ G := fun g h1 h2 z => (d g z).elim h1 h2
  exact ⟨⟨h.1.1.tw k (fun g hg => d1 g (by revert g; decide) (by revert g; decide)), h.1.2.1.tw k (fun g hg => d1 g (by revert g; decide) (by revert g; decide)), h.1.2.2.tw k (fun g hg => d1 g (by revert g; decide) (by revert g; decide))⟩,
    ⟨h.2.1.1.tw k (fun g hg => d1 g (by revert g; decide) (by revert g; decide)), h.2.1.2.1.tw k (fun g hg => d1 g (by revert g; decide) (by revert g; decide)), e, h.2.1.2.2.2.tw k (fun g hg => d1 g (by revert g; decide) (by revert g; decide))⟩,
    h.2.2.1.tw k (fun g hg => d1 g (by revert g; decide) (by revert g; decide)), h.2.2.2.tw k (fun g hg => d1 g (by revert g; decide) (by revert g; decide))⟩
theorem tt_shelf {G : List Nat} {A : mS} (h : TT σ t S) (k : Tw G t σ τ) (d : ∀ g ∈ G, g = 2524 ∨ g = 2525 ∨ g = 2526 ∨ g = 2527) (e : TS τ t A) (hA : ∀ k, k ≠ 1 → k ≠ 2 → k ≠ 3 → k ≠ 4 → A k = S.2.1 k) : TT τ t (S.1, A, S.2.2) := by
  have d1 : ∀ g, g ≠ 2524 → g ≠ 2525 → g ≠ 2526 → g ≠ 2527 → g ∉ G := fun g h1 h2 h3 h4 z => by rcases d g z with q | q | q | q <;> omega
  have dd : ∀ L : List Nat, (∀ g ∈ L, g ≠ 2524 ∧ g ≠ 2525 ∧ g ≠ 2526 ∧ g ≠ 2527) → ∀ g ∈ L, g ∉ G := fun L hL g hg => d1 g (hL g hg).1 (hL g hg).2.1 (hL g hg).2.2.1 (hL g hg).2.2.2
  have a0 : A 0 = S.2.1 0 := hA 0 (by decide) (by decide) (by decide) (by decide)
  have a5 : A 5 = S.2.1 5 := hA 5 (by decide) (by decide) (by decide) (by decide)
  refine ⟨⟨h.1.1.tw k (dd _ (by decide)), h.1.2.1.tw k (dd _ (by decide)), h.1.2.2.tw k (dd _ (by decide))⟩, ⟨?_, e, h.2.1.2.2.1.tw k (dd _ (by decide)), ?_⟩, ?_, ?_⟩
  · have := h.2.1.1.tw k (dd _ (by decide))
    intro i hi
    show _ = nI (A 0 i)
    rw [a0]; exact this i hi
  · have := h.2.1.2.2.2.tw k (dd _ (by decide))
    refine ⟨this.1, ?_, this.2.2⟩
    show _ = eI (A 5 0)
    rw [a5]; exact this.2.1
  · have := h.2.2.1.tw k (dd _ (by decide))
    show TP τ t A
    unfold TP at this ⊢
    rw [a5, hA 6 (by decide) (by decide) (by decide) (by decide), hA 7 (by decide) (by decide) (by decide) (by decide), hA 8 (by decide) (by decide) (by decide) (by decide), hA 9 (by decide) (by decide) (by decide) (by decide), hA 10 (by decide) (by decide) (by decide) (by decide), hA 11 (by decide) (by decide) (by decide) (by decide), hA 12 (by decide) (by decide) (by decide) (by decide), hA 13 (by decide) (by decide) (by decide) (by decide), hA 14 (by decide) (by decide) (by decide) (by decide)]
    exact this
  · have := h.2.2.2.tw k (dd _ (by decide))
    show TI τ t A S.2.2.1
    unfold TI at this ⊢
    rw [a5]
    exact this
theorem t_rowL {Q : Int32 → wS → Prop} {σ0 : wS} {f : Nat → Int64} {k : Nat} (hk : k < 8) (ok : ok24 σ0 t) (hQ : ∀ τ, Tw [12528] t σ0 τ → (∀ j, j < 1280 → aJ τ 12528 t j = zer f (160 * k) 160 j) → Q 1 τ) : ∀ n i σ, i ≤ 160 → 160 - i < n → Tw [12528] t σ0 σ → (∀ j, j < 1280 → aJ σ 12528 t j = zer f (160 * k) i j) → l_X24_row_79 F t (nI k) Q n σ (nI i) := by
  intro n
  induction n with
  | zero => intro i σ h1 h2; omega
  | succ n ih =>
    intro i σ h1 h2 w e
    unfold l_X24_row_79
    by_cases q : i = 160
    · rw [if_pos (by rw [q]; decide)]
      rw [q] at e
      exact hQ σ w e
    · rw [if_neg (show ¬ (160 : Int32) ≤ nI i from nI_ge (b := 160) (by omega) (by decide)), nIl_160, nI_mul, nI_add, nI_clamp (by omega)]
      refine ⟨w.ok ok, vp_inN (by omega) (by decide), bnd_sAJ fun τ w1 v1 _ _ => ?_⟩
      rw [nIl_1, nI_add]
      refine ih (i + 1) τ (by omega) (by omega) (w.trans w1) (fun j hj => ?_)
      rw [v1]
      by_cases z : j = 160 * k + i
      · rw [z, updL_s]
        unfold zer
        rw [if_pos (by omega)]
      · rw [updL_n z, e j hj]
        unfold zer
        by_cases y : 160 * k ≤ j ∧ j < 160 * k + i
        · rw [if_pos y, if_pos (by omega)]
        · rw [if_neg y, if_neg (by omega)]
theorem t_row {Q : Int32 → wS → Prop} {a o n : Int32} (hT : TT σ t S) (hF : 1000 ≤ F) (hQ : ∀ τ, Tu t σ τ → TT τ t (o_row S a o n).2 → Q (o_row S a o n).1 τ) : w_X24_row F σ t a o n Q := by
  unfold w_X24_row
  refine ⟨hT.ok, t_isShelf (fun e => ?_) (fun k hk ha e => ?_)⟩
  · rw [if_pos rfl]
    have e2 : o_row S a o n = noA S 1 := by unfold o_row; rw [e]
    rw [e2] at hQ
    exact t_no 1 (by decide) rfl hT hQ
  rw [if_neg (by decide)]
  by_cases hn : n < 0
  · rw [if_neg (c_nle hn)]
    have e2 : o_row S a o n = noA S 4 := by unfold o_row; rw [e]; exact if_pos hn
    rw [e2] at hQ
    exact t_no 4 (by decide) rfl hT hQ
  rw [if_pos (c_le0 hn)]
  have b34 : num 4 o = none → b_X24_row_34 F t Q σ := fun eo => by
    have e2 : o_row S a o n = noA S 6 := by unfold o_row; rw [e]; simp only [if_neg hn, eo]
    rw [e2] at hQ
    exact ⟨hT.ok, t_no 6 (by decide) rfl hT hQ⟩
  rcases num_cs (N := 4) (by decide) o with ⟨p, hp, ho, eo⟩ | ⟨eo, h | ⟨h, h'⟩⟩
  · rw [ho, if_neg (nI_pos (by omega)), if_pos (show nI p ≤ (3 : Int32) from nI_le (b := 3) (by omega) (by decide))]
    obtain ⟨m, hm, rfl⟩ := nI_of hn
    by_cases q : m ≤ 160
    · rw [if_pos (show nI m ≤ (160 : Int32) from nI_le q (by decide)), ha, nI_clamp (by omega)]
      have e2 : o_row S a o (nI m) = (1, sCl (sAp (sAp (sAp S 1 (up (S.2.1 1) k 1)) 2 (up (S.2.1 2) k p)) 3 (up (S.2.1 3) k m)) (zer S.2.2.2.1 (160 * k) 160)) := by unfold o_row; rw [e]; simp only [if_neg hn, eo, num_some (N := 161) (by decide) (show m < 161 by omega)]
      rw [e2] at hQ
      refine ⟨vp_inN hk (by decide), bnd_sA fun σ1 w1 v1 _ _ => bnd_sA fun σ2 w2 v2 _ _ => bnd_sA fun σ3 w3 v3 _ _ => ?_⟩
      have W : Tw [2524, 2525, 2526] t σ σ3 := ((w1.mono (by decide)).up w2 (by decide)).up w3 (by decide)
      have T3 : TT σ3 t (S.1, st (st (st S.2.1 1 (up (S.2.1 1) k 1)) 2 (up (S.2.1 2) k p)) 3 (up (S.2.1 3) k m), S.2.2) := by
        refine tt_shelf hT W (by decide) (fun i hi => ?_) (fun x h1 h2 h3 h4 => ?_)
        · obtain ⟨g1, g2, g3, g4⟩ := hT.2.1.2.1 i hi
          have f1 : aI σ3 2524 t i = upd (aI σ 2524 t) k 1 i := by rw [w3.A (by decide), w2.A (by decide), v1]
          have f2 : aI σ3 2525 t i = upd (aI σ 2525 t) k (nI p) i := by rw [w3.A (by decide), v2, w1.A (by decide)]
          have f3 : aI σ3 2526 t i = upd (aI σ 2526 t) k (nI m) i := by rw [v3, w2.A (by decide), w1.A (by decide)]
          have f4 : aI σ3 2527 t i = aI σ 2527 t i := by rw [W.A (by decide)]
          rw [f1, f2, f3, f4]
          show _ = nI (up (S.2.1 1) k 1 i) ∧ _ = nI (up (S.2.1 2) k p i) ∧ _ = nI (up (S.2.1 3) k m i) ∧ (up (S.2.1 1) k 1 i = 2 → _)
          by_cases z : i = k
          · rw [z, upd_s, upd_s, upd_s, up_s, up_s, up_s]
            exact ⟨rfl, rfl, rfl, fun q => absurd q (by decide)⟩
          · rw [upd_n z, upd_n z, upd_n z, up_n z, up_n z, up_n z]
            exact ⟨g1, g2, g3, g4⟩
        · show st (st (st S.2.1 1 _) 2 _) 3 _ x = _
          rw [st_n h3, st_n h2, st_n h1]
      refine t_rowL (σ0 := σ3) (f := aJ σ3 12528 t) hk T3.ok (fun τ w4 v4 => hQ τ ?_ (tt_cells T3 w4 (by decide) (fun j hj => ?_))) F 0 σ3 (by omega) (by omega) Tw.refl (fun j hj => ?_)
      · exact (Tw.trans (W.mono (G' := [2524, 2525, 2526, 12528]) (by decide)) (w4.mono (by decide))).tu
      · rw [v4 j hj]
        unfold zer
        by_cases y : 160 * k ≤ j ∧ j < 160 * k + 160
        · rw [if_pos y, if_pos y]
        · rw [if_neg y, if_neg y]; exact T3.2.1.2.2.1 j hj
      · unfold zer
        rw [if_neg (by omega)]
    · rw [if_neg (show ¬ nI m ≤ (160 : Int32) from nI_ge (a := 160) (b := m) (by omega) hm)]
      have e3 : num 161 (nI m) = none := num_hi (nI_le (by omega) hm)
      have e2 : o_row S a o (nI m) = noA S 7 := by unfold o_row; rw [e]; simp only [if_neg hn, eo, e3]
      rw [e2] at hQ
      exact t_no 7 (by decide) rfl hT hQ
  · rw [if_pos h]; exact b34 eo
  · rw [if_neg h, if_neg (show ¬ o ≤ (3 : Int32) from fun z => absurd (Int32.lt_of_lt_of_le (nI_lt (a := 3) (b := 4) (by decide) (by decide)) h') (Int32.not_lt.mpr z))]; exact b34 eo
theorem t_puts {Q : wS → Prop} {k j : Nat} {v : Int64} (ok : ok24 σ t) (hk : k < 8) (hj : 160 * k + j < 1280) {p : Nat} (hp : p < 4) (e : aI σ 2525 t k = nI p) (hQ : ∀ τ, Tw [12528] t σ τ → aJ τ 12528 t = vp_updL (aJ σ 12528 t) (160 * k + j) (nrw p v) → Q τ) : w_X24_puts σ t (nI k) (nI j) v Q := by
  have key : ∀ w, w = nrw p v → b_X24_puts_61 t Q σ ((160 : Int32) * nI k + nI j) w := by
    intro w hw
    unfold b_X24_puts_61
    rw [nIl_160, nI_mul, nI_add, nI_clamp (by omega), hw]
    exact ⟨ok, vp_inN hj (by decide), bnd_sAJ fun τ w v _ _ => hQ τ w v⟩
  unfold w_X24_puts
  rw [nI_clamp (by omega), e]
  refine ⟨ok, vp_inN hk (by decide), ?_⟩
  by_cases q0 : p = 0
  · rw [if_pos (by rw [q0]; rfl)]; exact key _ (by unfold nrw; rw [if_pos q0])
  rw [if_neg (show ¬ nI p = (0 : Int32) from nI_eqf (b := 0) (by omega) (by decide) q0)]
  by_cases q1 : p = 1
  · rw [if_pos (by rw [q1]; rfl)]; exact key _ (by unfold nrw; rw [if_neg q0, if_pos q1])
  rw [if_neg (show ¬ nI p = (1 : Int32) from nI_eqf (b := 1) (by omega) (by decide) q1)]
  by_cases q2 : p = 2
  · rw [if_pos (by rw [q2]; rfl)]; exact key _ (by unfold nrw; rw [if_neg q0, if_neg q1, if_pos q2])
  rw [if_neg (show ¬ nI p = (2 : Int32) from nI_eqf (b := 2) (by omega) (by decide) q2)]
  exact key _ (by unfold nrw; rw [if_neg q0, if_neg q1, if_neg q2])
theorem t_setA {Q : Int32 → wS → Prop} {a i : Int32} {v : Int64} (hT : TT σ t S) (hA : AV S) (hQ : ∀ τ, Tu t σ τ → TT τ t (o_set S a i v).2 → Q (o_set S a i v).1 τ) : w_X24_set σ t a i v Q := by
  unfold w_X24_set
  refine ⟨hT.ok, t_isShelf (fun e => ?_) (fun k hk ha e => ?_)⟩
  · rw [if_pos rfl]
    have e2 : o_set S a i v = noA S 1 := by unfold o_set; rw [e]
    rw [e2] at hQ
    exact t_no 1 (by decide) rfl hT hQ
  obtain ⟨b1, b2, b3, b4⟩ := hA k hk
  obtain ⟨g1, g2, g3, g4⟩ := hT.2.1.2.1 k hk
  rw [if_neg (by decide), ha, nI_clamp (by omega), g1]
  refine ⟨vp_inN hk (by decide), ?_⟩
  by_cases q2 : S.2.1 1 k = 2
  · rw [if_pos (by rw [q2]; rfl)]
    have e2 : o_set S a i v = noA S 2 := by unfold o_set; rw [e]; exact if_pos q2
    rw [e2] at hQ
    exact t_no 2 (by decide) rfl hT hQ
  rw [if_neg (show ¬ nI (S.2.1 1 k) = (2 : Int32) from nI_eqf (b := 2) (by omega) (by decide) q2)]
  by_cases q0 : S.2.1 1 k = 0
  · rw [if_pos (by rw [q0]; rfl)]
    have e2 : o_set S a i v = noA S 3 := by unfold o_set; rw [e]; simp only [if_neg q2, if_pos q0]
    rw [e2] at hQ
    exact t_no 3 (by decide) rfl hT hQ
  rw [if_neg (show ¬ nI (S.2.1 1 k) = (0 : Int32) from nI_eqf (b := 0) (by omega) (by decide) q0), g3]
  have b61 : num (S.2.1 3 k) i = none → b_X24_set_61 t Q σ := fun ei => by
    have e2 : o_set S a i v = noA S 5 := by unfold o_set; rw [e]; simp only [if_neg q2, if_neg q0, ei]
    rw [e2] at hQ
    exact ⟨hT.ok, t_no 5 (by decide) rfl hT hQ⟩
  rcases num_cs (N := S.2.1 3 k) (by omega) i with ⟨j, hj, hi, ei⟩ | ⟨ei, h | ⟨h, h'⟩⟩
  · rw [hi, if_neg (nI_pos (by omega)), if_pos (nI_lt hj (by omega))]
    have e2 : o_set S a i v = (1, sCl S (vp_updL S.2.2.2.1 (160 * k + j) (nrw (S.2.1 2 k) v))) := by unfold o_set; rw [e]; simp only [if_neg q2, if_neg q0, ei]
    rw [e2] at hQ
    refine t_puts hT.ok hk (by omega) b2 g2 (fun τ w u => hQ τ w.tu (tt_cells hT w (by decide) (fun x hx => ?_)))
    rw [u]
    by_cases z : x = 160 * k + j
    · rw [z, updL_s, updL_s]
    · rw [updL_n z, updL_n z]; exact hT.2.1.2.2.1 x hx
  · rw [if_pos h]; exact b61 ei
  · rw [if_neg h, if_neg (Int32.not_lt.mpr h')]; exact b61 ei
theorem t_element {Q : Int64 → wS → Prop} {a i : Int32} (hT : TT σ t S) (hA : AV S) (hQ : ∀ τ, Tu t σ τ → TT τ t (o_element S a i).2 → Q (o_element S a i).1 τ) : w_X24_element σ t a i Q := by
  unfold w_X24_element
  refine ⟨hT.ok, t_isShelf (fun e => ?_) (fun k hk ha e => ?_)⟩
  · rw [if_pos rfl]
    have e2 : o_element S a i = (0, S) := by unfold o_element; rw [e]
    rw [e2] at hQ
    exact hQ σ Tu.refl hT
  obtain ⟨b1, b2, b3, b4⟩ := hA k hk
  obtain ⟨g1, g2, g3, g4⟩ := hT.2.1.2.1 k hk
  rw [if_neg (by decide), ha, nI_clamp (by omega), g1, g3]
  refine ⟨vp_inN hk (by decide), ?_⟩
  by_cases q : S.2.1 1 k = 1
  · rw [if_pos (by rw [q]; rfl)]
    rcases num_cs (N := S.2.1 3 k) (by omega) i with ⟨j, hj, hi, ei⟩ | ⟨ei, h | ⟨h, h'⟩⟩
    · have e2 : o_element S a i = (S.2.2.2.1 (160 * k + j), S) := by unfold o_element; rw [e]; simp only [if_pos q, ei]
      rw [hi, if_neg (nI_pos (by omega)), if_neg (nI_ge hj (by omega)), nIl_160, nI_mul, nI_add, nI_clamp (by omega), hT.2.1.2.2.1 _ (by omega)]
      rw [e2] at hQ
      exact ⟨vp_inN (by omega) (by decide), hQ σ Tu.refl hT⟩
    · have e2 : o_element S a i = (0, S) := by unfold o_element; rw [e]; simp only [if_pos q, ei]
      rw [if_pos h]; rw [e2] at hQ; exact hQ σ Tu.refl hT
    · have e2 : o_element S a i = (0, S) := by unfold o_element; rw [e]; simp only [if_pos q, ei]
      rw [if_neg h, if_pos h']; rw [e2] at hQ; exact hQ σ Tu.refl hT
  · have e2 : o_element S a i = (0, S) := by unfold o_element; rw [e]; exact if_neg q
    rw [if_neg (show ¬ nI (S.2.1 1 k) = (1 : Int32) from nI_eqf (b := 1) (by omega) (by decide) q)]
    rw [e2] at hQ; exact hQ σ Tu.refl hT
theorem t_holds {Q : Int32 → wS → Prop} {a : Int32} (hT : TT σ t S) (hA : AV S) (hQ : ∀ τ, Tu t σ τ → TT τ t (o_holds S a).2 → Q (o_holds S a).1 τ) : w_X24_holds σ t a Q := by
  unfold w_X24_holds
  refine ⟨hT.ok, t_isShelf (fun e => ?_) (fun k hk ha e => ?_)⟩
  · rw [if_pos rfl]
    have e2 : o_holds S a = (-1, S) := by unfold o_holds; rw [e]
    rw [e2] at hQ
    exact hQ σ Tu.refl hT
  obtain ⟨b1, b2, b3, b4⟩ := hA k hk
  obtain ⟨g1, g2, g3, g4⟩ := hT.2.1.2.1 k hk
  rw [if_neg (by decide), ha, nI_clamp (by omega), g1, g2]
  refine ⟨vp_inN hk (by decide), ?_⟩
  by_cases q0 : S.2.1 1 k = 0
  · have e2 : o_holds S a = (-1, S) := by unfold o_holds; rw [e]; exact if_pos q0
    rw [if_pos (by rw [q0]; rfl)]; rw [e2] at hQ; exact hQ σ Tu.refl hT
  rw [if_neg (show ¬ nI (S.2.1 1 k) = (0 : Int32) from nI_eqf (b := 0) (by omega) (by decide) q0)]
  by_cases q1 : S.2.1 1 k = 1
  · have e2 : o_holds S a = (nI (100 + S.2.1 2 k), S) := by unfold o_holds; rw [e]; simp only [if_neg q0, if_pos q1]
    rw [if_pos (by rw [q1]; rfl), nIl_100, nI_add]; rw [e2] at hQ; exact hQ σ Tu.refl hT
  · have e2 : o_holds S a = (nI (S.2.1 4 k), S) := by unfold o_holds; rw [e]; simp only [if_neg q0, if_neg q1]
    rw [if_neg (show ¬ nI (S.2.1 1 k) = (1 : Int32) from nI_eqf (b := 1) (by omega) (by decide) q1), g4 (by omega)]; rw [e2] at hQ; exact hQ σ Tu.refl hT
theorem t_show27 {Q : Int32 → wS → Prop} {k : Nat} {e r : Int32} {v w : Nat} (hT : TT σ t S) (hk : k < 8) (e1 : (if e = (-1 : Int32) then (0 : Int32) else (2 : Int32)) = nI v) (e3 : (if e = (-1 : Int32) then (0 : Int32) else (1 : Int32)) = r) (e2 : v = 2 → e = nI w) (h2 : v = 0 ∨ v = 2) (hQ : ∀ τ, Tu t σ τ → TT τ t (S.1, st (st S.2.1 1 (up (S.2.1 1) k v)) 4 (up (S.2.1 4) k w), S.2.2) → Q r τ) : b_X24_show_27 t (nI k) e Q σ := by
  unfold b_X24_show_27
  rw [nI_clamp (by omega), e1, e3]
  refine ⟨hT.ok, vp_inN hk (by decide), bnd_sA fun σ1 w1 v1 _ _ => bnd_sA fun σ2 w2 v2 _ _ => hQ σ2 ?_ ?_⟩
  · exact (Tw.trans (w1.mono (G' := [2524, 2527]) (by decide)) (w2.mono (by decide))).tu
  · have W : Tw [2524, 2527] t σ σ2 := (w1.mono (by decide)).up w2 (by decide)
    refine tt_shelf hT W (by decide) (fun i hi => ?_) (fun x h1 h2 h3 h4 => ?_)
    · obtain ⟨g1, g2, g3, g4⟩ := hT.2.1.2.1 i hi
      have f1 : aI σ2 2524 t i = upd (aI σ 2524 t) k (nI v) i := by rw [w2.A (by decide), v1]
      have f4 : aI σ2 2527 t i = upd (aI σ 2527 t) k e i := by rw [v2, w1.A (by decide)]
      have f2 : aI σ2 2525 t i = aI σ 2525 t i := by rw [W.A (by decide)]
      have f3 : aI σ2 2526 t i = aI σ 2526 t i := by rw [W.A (by decide)]
      rw [f1, f2, f3, f4]
      show _ = nI (up (S.2.1 1) k v i) ∧ _ = nI (S.2.1 2 i) ∧ _ = nI (S.2.1 3 i) ∧ (up (S.2.1 1) k v i = 2 → _ = nI (up (S.2.1 4) k w i))
      by_cases z : i = k
      · rw [z, upd_s, upd_s, up_s, up_s, ← z]
        exact ⟨rfl, g2, g3, fun q => e2 q⟩
      · rw [upd_n z, upd_n z, up_n z, up_n z]
        exact ⟨g1, g2, g3, g4⟩
    · show st (st S.2.1 1 _) 4 _ x = _
      rw [st_n h4, st_n h1]
end PT
