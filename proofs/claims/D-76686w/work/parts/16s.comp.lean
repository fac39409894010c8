set_option linter.unusedVariables false
set_option maxRecDepth 10000
/-! ===== component: all the ways of a demand ===== -/
section PC
variable {σ τ υ σ0 : wS} {x m w q7 F d al : Nat} {s : mS} {S : gS} {K K' W : Nat → Nat} {P P' : Nat → Nat → Prop} {a b c : Nat} {J : List Wy → wS → Prop} {L : List Wy}
theorem c_by {Q : wS → Prop} {e : Nat} (hT : Tak F m w q7 W s al d J) (ha : alw al s) (hM : MS s) (hd : Dm s d) (hF : 1000 ≤ F) (j : J L σ) (he : e < mN s) (h6 : R s (s 6 e) = d / 30) (hQ : ∀ τ, J (L ++ wyE s e (d % 30 / 6) (d % 6)) τ → Q τ) : w_X12_by F σ w (nI e) Q := by
  have wb := hT.1 L σ j
  obtain ⟨⟨wi, h2, h3, h4⟩, hC, hN⟩ := id wb
  obtain ⟨⟨hs, l, hb⟩, hX, h64⟩ := id hM
  have hG := hs.2.1
  have d19 : d < 1920 := dm_lt (by omega) hd
  obtain ⟨⟨o, a1, a2⟩, a3, a4, -⟩ := hC.2.1 e he
  have k2 := sx_2 hs he
  unfold w_X12_by
  rw [h2, nI_clamp (by omega)]
  refine ⟨wi.1, m, rfl, hC.1.1, vp_inN (by omega) (by decide), o, a1, a2.oS k2, v_kind a2 k2 ?_⟩
  by_cases k1 : s 2 e = 1
  · rw [k1, if_pos (show nI 1 = (1 : Int32) from rfl)]
    exact c_scans hT ha hM hd j he h6 k1 hQ
  rw [if_neg (show ¬ nI (s 2 e) = (1 : Int32) from nI_eqf (b := 1) (by omega) (by decide) k1), if_neg (show ¬ nI (s 2 e) = (2 : Int32) from nI_eqf (b := 2) (by omega) (by decide) (by omega))]
  have B6 := sx_6 hs he
  by_cases k3 : s 2 e = 3
  · unfold wyE at hQ
    rw [if_neg k1, if_pos k3] at hQ
    obtain ⟨g, b1, b2, b3⟩ := a3 k1
    have B4 := sx_4 hs he k1
    rw [k3, if_pos (show nI 3 = (3 : Int32) from rfl), h4, h2]
    refine ⟨m, rfl, hC.1.1, c_orderIn d19 ?_⟩
    rw [h4]
    refine c_placeIn d19 ?_
    rw [b1]
    refine c_input wb hM b2 hF ?_
    rw [b3]
    have ok : okv s d (2, some e, some (dm (R s (s 4 e)) (d % 30 / 6) (d % 6)), none, none, prc 2 (rw' s (R s (s 4 e))) 0 (rw' s (R s (s 6 e)))) := by
      refine ⟨(show 2 < 12 by decide), ?_, (fun y hy => by cases hy; exact ⟨he, fun _ => k1⟩), (fun y hy => by cases hy; exact dm_in hs B4 (by omega) (by omega)), (fun y hy => nomatch hy)⟩
      show _ = prc 2 (if 2 = 1 then rw' s (d / 30) else rw' s (R s (s 4 e))) (if 5 ≤ s 2 e then rw' s (R s (s 5 e)) else 0) (rw' s (d / 30))
      rw [if_neg (by decide), if_neg (by omega), h6]
    have hh := c_offers (F := F) hT ha j (show 2 < 12 ∧ 2 ≠ 0 ∧ 2 ≠ 3 ∧ 2 ≠ 7 by decide) ok hQ
    exact hh
  rw [if_neg (show ¬ nI (s 2 e) = (3 : Int32) from nI_eqf (b := 3) (by omega) (by decide) k3), a2.2.2]
  have c3 := sx_p4 hs he (by omega)
  by_cases k4 : s 2 e = 4
  · unfold wyE wyY at hQ
    rw [if_neg k1, if_neg k3, if_pos k4] at hQ
    rw [k4, if_pos (show nI 4 = (4 : Int32) from rfl)]
    have lp : ∀ n k L' σ', (k = 8 ∨ k = 9 ∨ k = 10) → 10 - k < n → J L' σ' → (∀ τ, J (L' ++ (if k = 8 then wyX s e (d % 30 / 6) (d % 6) 8 (s 3 e) ++ wyX s e (d % 30 / 6) (d % 6) 8 4 else []) ++ (if k ≤ 9 then wyX s e (d % 30 / 6) (d % 6) 9 (s 3 e) ++ wyX s e (d % 30 / 6) (d % 6) 9 4 else [])) τ → Q τ) → l_X12_by_105 F w (nI e) Q (fun σ54 => Q σ54) n σ' (nI (s 3 e)) (nI k) := by
      intro n
      induction n with
      | zero => intro k _ _ _ h; omega
      | succ n ih =>
        intro k L' σ' hk hn j' hq
        unfold l_X12_by_105
        by_cases q : k = 10
        · rw [if_pos (show (9 : Int32) < nI k from nI_lt (a := 9) (by omega) (by omega))]
          rw [if_neg (by omega), if_neg (by omega), List.append_nil, List.append_nil] at hq
          exact hq σ' j'
        rw [if_neg (show ¬ (9 : Int32) < nI k from nI_nlt (a := 9) (b := k) (by omega) (by decide))]
        refine ⟨(hT.1 L' σ' j').1.1.1, c_sums hT ha hM hd hF j' he h6 k4 (by omega) (by omega) (fun τ1 j1 => ?_)⟩
        refine c_sums (pl := 4) hT ha hM hd hF j1 he h6 k4 (by omega) (by decide) (fun τ2 j2 => ?_)
        rw [nIl_1, nI_add]
        refine ih (k + 1) _ τ2 (by omega) (by omega) j2 (fun τ3 j3 => hq τ3 ?_)
        rcases hk with rfl | rfl | rfl
        · rw [if_pos rfl, if_pos (by decide)]
          rw [if_neg (by decide), if_pos (by decide), List.append_nil] at j3
          rw [← List.append_assoc L']
          exact j3
        · rw [if_neg (by decide), if_pos (by decide), List.append_nil]
          rw [if_neg (by decide), if_neg (by decide), List.append_nil, List.append_nil] at j3
          rw [← List.append_assoc L']
          exact j3
        · exact absurd rfl q
    refine lp F 8 L σ (Or.inl rfl) (by omega) j (fun τ h => hQ τ ?_)
    rw [if_pos rfl, if_pos (by decide)] at h
    rw [← List.append_assoc L]
    exact h
  rw [if_neg (show ¬ nI (s 2 e) = (4 : Int32) from nI_eqf (b := 4) (by omega) (by decide) k4)]
  have k5 : 5 ≤ s 2 e := by omega
  unfold wyE wyY at hQ
  rw [if_neg k1, if_neg k3, if_neg k4] at hQ
  have lp : ∀ n k L' σ', (k = 4 ∨ k = 5 ∨ k = 6 ∨ k = 7) → 7 - k < n → J L' σ' → (∀ τ, J (L' ++ (if k = 4 then wyX s e (d % 30 / 6) (d % 6) 4 (s 3 e) ++ wyX s e (d % 30 / 6) (d % 6) 4 4 else []) ++ (if k ≤ 5 then wyX s e (d % 30 / 6) (d % 6) 5 (s 3 e) ++ wyX s e (d % 30 / 6) (d % 6) 5 4 else []) ++ (if k ≤ 6 then wyX s e (d % 30 / 6) (d % 6) 6 (s 3 e) ++ wyX s e (d % 30 / 6) (d % 6) 6 4 else [])) τ → Q τ) → l_X12_by_136 F w (nI e) Q n σ' (nI (s 3 e)) (nI k) := by
    intro n
    induction n with
    | zero => intro k _ _ _ h; omega
    | succ n ih =>
      intro k L' σ' hk hn j' hq
      unfold l_X12_by_136
      by_cases q : k = 7
      · rw [if_pos (show (6 : Int32) < nI k from nI_lt (a := 6) (by omega) (by omega))]
        rw [if_neg (by omega), if_neg (by omega), if_neg (by omega), List.append_nil, List.append_nil, List.append_nil] at hq
        exact hq σ' j'
      rw [if_neg (show ¬ (6 : Int32) < nI k from nI_nlt (a := 6) (b := k) (by omega) (by decide))]
      refine ⟨(hT.1 L' σ' j').1.1.1, c_pairs hT ha hM hd hF j' he h6 k5 (by omega) (by omega) (fun τ1 j1 => ?_)⟩
      refine c_pairs (pl := 4) hT ha hM hd hF j1 he h6 k5 (by omega) (by decide) (fun τ2 j2 => ?_)
      rw [nIl_1, nI_add]
      refine ih (k + 1) _ τ2 (by omega) (by omega) j2 (fun τ3 j3 => hq τ3 ?_)
      rcases hk with rfl | rfl | rfl | rfl
      · rw [if_pos rfl, if_pos (by decide), if_pos (by decide)]
        rw [if_neg (by decide), if_pos (by decide), if_pos (by decide), List.append_nil] at j3
        rw [← List.append_assoc L']
        exact j3
      · rw [if_neg (by decide), if_pos (by decide), if_pos (by decide), List.append_nil]
        rw [if_neg (by decide), if_neg (by decide), if_pos (by decide), List.append_nil, List.append_nil] at j3
        rw [← List.append_assoc L']
        exact j3
      · rw [if_neg (by decide), if_neg (by decide), if_pos (by decide), List.append_nil, List.append_nil]
        rw [if_neg (by decide), if_neg (by decide), if_neg (by decide), List.append_nil, List.append_nil, List.append_nil] at j3
        rw [← List.append_assoc L']
        exact j3
      · exact absurd rfl q
  refine lp F 4 L σ (Or.inl rfl) (by omega) j (fun τ h => hQ τ ?_)
  rw [if_pos rfl, if_pos (by decide), if_pos (by decide), List.append_assoc, List.append_assoc] at h
  rw [List.append_assoc]
  exact h
theorem c_enf {Q : wS → Prop} (hT : Tak F m w q7 W s al d J) (ha : alw al s) (hM : MS s) (hd : Dm s d) (j : J L σ) (hQ : ∀ τ, J (L ++ (wyN1 s d ++ wyN2 s d)) τ → Q τ) : w_X12_enforcers F σ w Q := by
  have wb := hT.1 L σ j
  obtain ⟨⟨wi, h2, h3, h4⟩, hC, hN⟩ := id wb
  obtain ⟨⟨hs, l, hb⟩, hX, h64⟩ := id hM
  have hG := hs.2.1
  have d19 : d < 1920 := dm_lt (by omega) hd
  have hg := hd.1
  have h16 := l.2.2.2 _ hg
  rw [hd.2] at h16
  have cl : aI σ 2312 m (d / 30) = nI (s 9 (d / 30)) := (hC.2.2.1 _ hg).2
  have e0 : ∀ p, p < 6 → Dm s (dm (d / 30) 0 p) := by
    intro p hp
    have := dm_in (o := 0) hs hd.1 (by decide) hp
    rw [hd.2] at this
    exact this
  have vg := vp_inN (show d / 30 < 64 by omega) (by decide)
  have cg : (nI (d / 30)).toNatClampNeg = d / 30 := nI_clamp (by omega)
  unfold wyN1 wyN2 at hQ
  unfold w_X12_enforcers w_X0_groupIn
  rw [h4, show (30 : Int32) = nI 30 from rfl, div_I (by omega) (by decide) (by decide)]
  refine ⟨wi.1, ?_⟩
  dsimp only
  rw [h4]
  refine c_orderIn d19 ?_
  rw [h4]
  refine c_placeIn d19 ?_
  by_cases o0 : d % 30 / 6 = 0
  · rw [if_pos (show eI (d % 30 / 6) = (-1 : Int32) by rw [o0]; rfl)]
    rw [if_neg (fun z => z.1 o0), List.nil_append] at hQ
    by_cases p0 : d % 6 = 0
    · rw [if_pos (show eI (d % 6) = (-1 : Int32) by rw [p0]; rfl)]
      rw [if_neg (fun z => z.2.1 p0), List.append_nil] at hQ
      exact hQ σ j
    rw [if_neg (eI_n (by omega) p0), eI_n1 p0]
    have b89 : (d % 6 = 5 ∨ (s 9 (d / 30)).testBit (d % 6 - 1) = true) → b_X12_enforcers_89 F w Q σ (nI (d / 30)) := fun z => by
      rw [if_pos ⟨o0, p0, z⟩] at hQ
      unfold b_X12_enforcers_89 w_X0_stateOf
      rw [show (-1 : Int32) = eI 0 from rfl, st_I]
      have ok : okv s d (11, none, some (dm (d / 30) 0 0), none, none, prc 11 (rw' s (d / 30)) 0 (rw' s (d / 30))) := ⟨(show 11 < 12 by decide), rfl, (fun y hy => nomatch hy), (fun y hy => by cases hy; exact e0 0 (by decide)), (fun y hy => nomatch hy)⟩
      have hh := c_offers (F := F) hT ha j (show 11 < 12 ∧ 11 ≠ 0 ∧ 11 ≠ 3 ∧ 11 ≠ 7 by decide) ok hQ
      exact ⟨wi.1, hh⟩
    by_cases p5 : d % 6 = 5
    · rw [if_pos (show nI (d % 6 - 1) = (4 : Int32) by rw [p5]; rfl)]
      exact b89 (Or.inl p5)
    rw [if_neg (show ¬ nI (d % 6 - 1) = (4 : Int32) from nI_eqf (b := 4) (by omega) (by decide) (by omega)), h2, cg]
    refine ⟨m, rfl, hC.1.1, vg, ?_⟩
    rw [cl]
    refine c_has (by omega) (by omega) ?_
    by_cases z : (s 9 (d / 30)).testBit (d % 6 - 1) = true
    · rw [if_pos z, if_neg (by decide)]
      exact b89 (Or.inr z)
    · rw [if_neg z, if_pos rfl]
      rw [if_neg (fun y => y.2.2.elim p5 z), List.append_nil] at hQ
      exact hQ σ j
  · rw [if_neg (eI_n (by omega) o0), h2, cg]
    rw [if_neg (c := d % 30 / 6 = 0 ∧ d % 6 ≠ 0 ∧ (d % 6 = 5 ∨ (s 9 (d / 30)).testBit (d % 6 - 1) = true)) (fun z => o0 z.1), List.append_nil] at hQ
    refine ⟨m, rfl, hC.1.1, vg, ?_⟩
    rw [cl, eI_n1 o0]
    refine c_has (by omega) (by omega) ?_
    by_cases z : (s 9 (d / 30)).testBit (d % 30 / 6 - 1) = true
    · rw [if_pos z, if_neg (by decide)]
      rw [if_pos ⟨o0, z⟩] at hQ
      unfold w_X0_stateOf
      rw [show (-1 : Int32) = eI 0 from rfl, st_I]
      have ok : okv s d (10, none, some (dm (d / 30) 0 (d % 6)), none, none, prc 10 (rw' s (d / 30)) 0 (rw' s (d / 30))) := ⟨(show 10 < 12 by decide), rfl, (fun y hy => nomatch hy), (fun y hy => by cases hy; exact e0 _ (by omega)), (fun y hy => nomatch hy)⟩
      have hh := c_offers (F := F) hT ha j (show 10 < 12 ∧ 10 ≠ 0 ∧ 10 ≠ 3 ∧ 10 ≠ 7 by decide) ok hQ
      exact hh
    · rw [if_neg z, if_pos rfl]
      rw [if_neg (fun y => z y.2), List.append_nil] at hQ
      exact hQ σ j
theorem wyU_skip {i : Nat} : ∀ n, i ≤ n → (∀ e, i ≤ e → e < n → ¬ (s 8 e = 0 ∧ R s (s 6 e) = d / 30)) → wyU s d n = wyU s d i := by
  intro n
  induction n with
  | zero => intro h _; rw [show i = 0 by omega]
  | succ n ih =>
    intro h hn
    by_cases z : i = n + 1
    · rw [z]
    · show wyU s d n ++ _ = _
      rw [if_neg (hn n (by omega) (by omega)), List.append_nil]
      exact ih (by omega) (fun e h1 h2 => hn e h1 (by omega))
theorem c_tellAll {Q : wS → Prop} {tk : Nat} (hT : Tak F m w q7 W s al d J) (ha : alw al s) (hM : MS s) (hd : Dm s d) (hF : 1000 ≤ F) (hw : ok12 σ w) (h0 : ∀ τ, Wq [1304, 1305] w σ τ → oI τ 1304 w = nI d → oR τ 1305 w = some tk → J [] τ) (hQ : ∀ τ, J (wys s d) τ → Q τ) : w_X12_tellAll F σ w (nI d) (some tk) Q := by
  obtain ⟨⟨hs, l, hb⟩, hX, h64⟩ := id hM
  have hG := hs.2.1
  have d19 : d < 1920 := dm_lt (by omega) hd
  unfold w_X12_tellAll w_X0_groupIn
  refine ⟨hw, bnd_I fun τ1 w1 v1 => bnd_R fun τ2 w2 v2 => ?_⟩
  have j0 := h0 τ2 ((w1.mono (by decide)).up w2 (by decide)) (by rw [((w2.sam (by decide)) w).1.1]; exact v1) v2
  have wb := hT.1 [] τ2 j0
  rw [wb.1.2.1, show (30 : Int32) = nI 30 from rfl, div_I (by omega) (by decide) (by decide)]
  refine ⟨m, rfl, wb.2.1.1.1, c_members wb.2.1 hs h64 hd.1 (by omega) ?_⟩
  have mb := mbs_bit (s := s) (g := d / 30) (mN s)
  have ml := mbs_lt (s := s) (g := d / 30) (mN s)
  have key : ∀ n i y τ, i ≤ mN s → mN s - i < n → y < 2 ^ 64 → (∀ f, y.testBit f = ((mbs s (d / 30) (mN s)).testBit f && decide (i ≤ f))) → J (wyU s d i) τ → l_X12_tellAll_22 F w Q (fun σ27 => ok12 σ27 w ∧ w_X12_enforcers F σ27 w (fun σ30 => Q σ30)) n τ (lN y) := by
    intro n
    induction n with
    | zero => intro i _ _ _ h; omega
    | succ n ih =>
      intro i y τ hi hn hy hyb j
      unfold l_X12_tellAll_22
      have nomem : ∀ f, i ≤ f → f < mN s → y.testBit f = false → ¬ (s 8 f = 0 ∧ R s (s 6 f) = d / 30) := fun f h1 h2 h3 z => by
        rw [hyb f, mb f, decide_eq_true h2, decide_eq_true z.1, decide_eq_true z.2, decide_eq_true h1] at h3
        cases h3
      by_cases z : y = 0
      · rw [if_pos ((lN_0 hy).mpr z)]
        have e := wyU_skip (s := s) (d := d) (mN s) hi (fun f h1 h2 => nomem f h1 h2 (by rw [z, Nat.zero_testBit]))
        rw [← e] at j
        refine ⟨(hT.1 _ τ j).1.1.1, c_enf hT ha hM hd j hQ⟩
      · rw [if_neg (fun q => z ((lN_0 hy).mp q))]
        obtain ⟨f, f1, f2, f3⟩ := low_ex z hy
        have fb := f2
        rw [hyb f, mb f] at fb
        simp at fb
        obtain ⟨⟨g1, g2, g3⟩, g4⟩ := fb
        refine c_ntz hy f1 f2 f3 ⟨(hT.1 _ τ j).1.1.1, ?_⟩
        have e := wyU_skip (s := s) (d := d) f g4 (fun f' h1 h2 => nomem f' h1 (by omega) (f3 f' h2))
        rw [← e] at j
        refine c_by hT ha hM hd hF j g1 g3 (fun τ2 j2 => ?_)
        rw [show (1 : Int64) = lN 1 from rfl, subL (by omega), andL]
        intro v hv
        rw [hv]
        refine ih (f + 1) (y &&& (y - 1)) τ2 (by omega) (by omega) (Nat.lt_of_le_of_lt Nat.and_le_left hy) (fun f' => ?_) ?_
        · rw [low_cl f2 f3 f', hyb f']
          rcases Nat.lt_trichotomy f' f with q | q | q
          · have := f3 f' q
            rw [hyb f'] at this
            rw [this, decide_eq_false (show ¬ f + 1 ≤ f' by omega)]
            simp
          · subst q
            simp
          · simp [show f' ≠ f by omega, show i ≤ f' by omega, show f + 1 ≤ f' by omega]
        · show J (wyU s d f ++ (if s 8 f = 0 ∧ R s (s 6 f) = d / 30 then wyE s f (d % 30 / 6) (d % 6) else [])) τ2
          rw [if_pos ⟨g2, g3⟩]
          exact j2
  exact key F 0 _ τ2 (Nat.zero_le _) (by omega) (Nat.lt_of_lt_of_le ml (Nat.pow_le_pow_right (by decide) h64)) (fun f => by simp) j0
theorem c_tellBy {Q : wS → Prop} {e tk : Nat} (hT : Tak F m w q7 W s al d J) (ha : alw al s) (hM : MS s) (hd : Dm s d) (hF : 1000 ≤ F) (hw : ok12 σ w) (he : e < mN s) (h6 : R s (s 6 e) = d / 30) (h0 : ∀ τ, Wq [1304, 1305] w σ τ → oI τ 1304 w = nI d → oR τ 1305 w = some tk → J [] τ) (hQ : ∀ τ, J (wyE s e (d % 30 / 6) (d % 6)) τ → Q τ) : w_X12_tellBy F σ w (nI e) (nI d) (some tk) Q := by
  unfold w_X12_tellBy
  refine ⟨hw, bnd_I fun τ1 w1 v1 => bnd_R fun τ2 w2 v2 => ?_⟩
  have j0 := h0 τ2 ((w1.mono (by decide)).up w2 (by decide)) (by rw [((w2.sam (by decide)) w).1.1]; exact v1) v2
  exact c_by hT ha hM hd hF j0 he h6 (fun τ j => hQ τ j)
end PC
