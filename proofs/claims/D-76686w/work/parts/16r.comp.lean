set_option linter.unusedVariables false
set_option maxRecDepth 10000
/-! ===== component: the ways, one after the other ===== -/
section PC
variable {σ τ υ σ0 : wS} {x m w q7 F d al : Nat} {s : mS} {S : gS} {K K' W : Nat → Nat} {P P' : Nat → Nat → Prop} {a b c : Nat} {J : List Wy → wS → Prop} {L : List Wy}
def OfW (F w : Nat) (σ : wS) (v : Wy) (Q : wS → Prop) : Prop := nn (oR σ 1305 w) fun b3 => v_X51v_hasEnough σ b3 (fun r5 σ6 => (if r5 = 0 then nn (oR σ6 1305 w) fun b9 => v_X51v_takes F σ6 b9 (nI v.1) (oN v.2.1) (oN v.2.2.2.2.1) (oN v.2.2.1) (oN v.2.2.2.1) (fun σ12 => Q σ12) else Q σ6))
/-- one that takes what is told -/
def Tak (F m w q7 : Nat) (W : Nat → Nat) (s : mS) (al d : Nat) (J : List Wy → wS → Prop) : Prop := (∀ L σ, J L σ → WBs σ m w q7 W s al d) ∧ ∀ L v σ Q, J L σ → okv s d v → (∀ τ, J (L ++ [v]) τ → Q τ) → OfW F w σ v Q
def alw (al : Nat) (s : mS) : Prop := al < 4096 ∧ ∀ k, k < 12 → k ≠ 0 → k ≠ 3 → k ≠ 7 → al.testBit k = (s 19 0).testBit k
theorem c_offers {Q : wS → Prop} {v : Wy} (hT : Tak F m w q7 W s al d J) (ha : alw al s) (j : J L σ) (hk : v.1 < 12 ∧ v.1 ≠ 0 ∧ v.1 ≠ 3 ∧ v.1 ≠ 7) (ok : okv s d v) (hQ : ∀ τ, J (L ++ wyk (s 19 0) v.1 v) τ → Q τ) : w_X12_offers F σ w (nI v.1) (oN v.2.1) (oN v.2.2.2.2.1) (oN v.2.2.1) (oN v.2.2.2.1) Q := by
  obtain ⟨⟨wi, h2, h3, h4⟩, -⟩ := hT.1 L σ j
  have a1 := ha.1
  unfold w_X12_offers
  rw [h3, bitI (by omega) (by omega), ha.2 v.1 hk.1 hk.2.1 hk.2.2.1 hk.2.2.2]
  refine ⟨wi.1, ?_⟩
  unfold wyk at hQ
  by_cases q : (s 19 0).testBit v.1 = true
  · rw [if_pos q, if_neg (by decide)]
    rw [if_pos q] at hQ
    exact hT.2 L v σ Q j ok hQ
  · rw [if_neg q, if_pos rfl]
    rw [if_neg q, List.append_nil] at hQ
    exact hQ σ j
theorem st_I (g o p : Nat) : ((((nI g * (5 : Int32)) + eI o) + (1 : Int32)) * (6 : Int32) + eI p) + (1 : Int32) = nI (dm g o p) := by
  have a1 : ∀ y z : Int32, y + (z - 1) + 1 = y + z := fun y z => by rw [Int32.add_assoc, Int32.sub_add_cancel]
  rw [← eI_sub o, ← eI_sub p, a1, a1, show (5 : Int32) = nI 5 from rfl, show (6 : Int32) = nI 6 from rfl, nI_mul, nI_add, nI_mul, nI_add]
  unfold dm
  congr 1
  omega
theorem c_input {Q : Int32 → wS → Prop} {g o p : Nat} (h : WBs σ m w q7 W s al d) (hM : MS s) (hg : g < mG s) (hF : 1000 ≤ F) (hQ : Q (nI (dm (R s g) o p)) σ) : w_X12_input F σ w (nI g) (eI o) (eI p) Q := by
  obtain ⟨⟨wi, h2, h3, h4⟩, hC, hN⟩ := h
  refine ⟨wi.1, m, h2, hC.1.1, c_find hC hM.1.1 hM.2.2 hg (by omega) ?_⟩
  unfold w_X0_stateOf
  rw [st_I]
  exact hQ
theorem c_meets {Q : Int32 → wS → Prop} {y o : Nat} (hy : y < 1000) (ho : o < 1000) (hQ : Q (if mts o y = true then 1 else 0) σ) : w_X0_meets σ (eI y) (eI o) Q := by
  unfold w_X0_meets
  unfold mts at hQ
  by_cases z : o = 0
  · rw [if_pos (show eI o = (-1 : Int32) by rw [z]; rfl)]
    rw [if_pos (by rw [z]; rfl)] at hQ
    exact hQ
  · rw [if_neg (eI_n ho z)]
    by_cases y' : o = y
    · rw [if_pos (by rw [y'])]
      rw [if_pos (by rw [y']; simp)] at hQ
      exact hQ
    · rw [if_neg (fun e => y' ((eI_inj ho hy).mp e))]
      rw [if_neg (by simp [z, y'])] at hQ
      exact hQ
theorem c_orderIn {Q : Int32 → wS → Prop} (hd : d < 1920) (hQ : Q (eI (d % 30 / 6)) σ) : w_X0_orderIn σ (nI d) Q := by
  unfold w_X0_orderIn
  rw [show (6 : Int32) = nI 6 from rfl, show (5 : Int32) = nI 5 from rfl, show (1 : Int32) = nI 1 from rfl, div_I (by omega) (by decide) (by decide), mod_I (by omega) (by decide) (by decide), eI_sb1, show d / 6 % 5 = d % 30 / 6 by omega]
  exact hQ
theorem c_placeIn {Q : Int32 → wS → Prop} (hd : d < 1920) (hQ : Q (eI (d % 6)) σ) : w_X0_placeIn σ (nI d) Q := by
  unfold w_X0_placeIn
  rw [show (6 : Int32) = nI 6 from rfl, show (1 : Int32) = nI 1 from rfl, mod_I (by omega) (by decide) (by decide), eI_sb1]
  exact hQ
theorem c_scans {Q : wS → Prop} {e : Nat} (hT : Tak F m w q7 W s al d J) (ha : alw al s) (hM : MS s) (hd : Dm s d) (j : J L σ) (he : e < mN s) (h6 : R s (s 6 e) = d / 30) (k1 : s 2 e = 1) (hQ : ∀ τ, J (L ++ wyE s e (d % 30 / 6) (d % 6)) τ → Q τ) : w_X12_scans F σ w (nI e) Q := by
  obtain ⟨⟨wi, h2, h3, h4⟩, hC, hN⟩ := hT.1 L σ j
  obtain ⟨⟨hs, l, hb⟩, hX, h64⟩ := id hM
  have hG := hs.2.1
  have d19 : d < 1920 := dm_lt (by omega) hd
  obtain ⟨⟨o, a1, a2⟩, -⟩ := hC.2.1 e he
  have h8 := hs.2.2.2.1
  have hp : s 3 e < s 10 0 := (hs.2.2.2.2 e he).2.2.2.1 k1
  obtain ⟨to, t1, t2, t3, t4, t5, t6⟩ := hC.2.2.2.1 _ hp
  obtain ⟨x1, x2⟩ := hX.2 _ hp
  unfold wyE at hQ
  rw [if_pos k1] at hQ
  unfold w_X12_scans
  rw [h2, nI_clamp (by omega)]
  refine ⟨wi.1, m, rfl, hC.1.1, vp_inN (by omega) (by decide), o, a1, a2.oS (sx_2 hs he), ?_⟩
  rw [a2.2.2, nI_clamp (by omega), t1]
  refine ⟨vp_inN (by omega) (by decide), fun v14 hv => ?_⟩
  refine ⟨to, hv, t2, ?_⟩
  rw [h4]
  refine c_orderIn d19 ?_
  rw [t5]
  refine c_meets (by omega) (by omega) ?_
  by_cases q1 : mts (d % 30 / 6) (s 13 (s 3 e)) = true
  rotate_left
  · rw [if_neg q1, if_pos rfl]
    rw [if_neg (by simp [q1]), List.append_nil] at hQ
    exact hQ σ j
  rw [if_pos q1, if_neg (by decide), h4]
  refine c_placeIn d19 ?_
  rw [t6]
  refine c_meets (y := s 14 (s 3 e) + 1) (by omega) (by omega) ?_
  by_cases q2 : mts (d % 6) (s 14 (s 3 e) + 1) = true
  rotate_left
  · rw [if_neg q2, if_pos rfl]
    rw [if_neg (by simp [q2]), List.append_nil] at hQ
    exact hQ σ j
  rw [if_pos q2, if_neg (by decide)]
  rw [if_pos (by rw [q1, q2]; rfl)] at hQ
  refine c_offers (v := (1, some e, none, none, none, prc 1 (rw' s (R s (s 6 e))) 0 (rw' s (R s (s 6 e))))) hT ha j (show 1 < 12 ∧ 1 ≠ 0 ∧ 1 ≠ 3 ∧ 1 ≠ 7 by decide) ⟨(show 1 < 12 by decide), ?_, (fun y hy => by cases hy; exact ⟨he, fun z => absurd rfl z⟩), (fun y hy => nomatch hy), (fun y hy => nomatch hy)⟩ hQ
  show _ = prc 1 (if 1 = 1 then rw' s (d / 30) else rw' s (R s (s 4 e))) (if 5 ≤ s 2 e then rw' s (R s (s 5 e)) else 0) (rw' s (d / 30))
  rw [if_pos rfl, if_neg (by omega), h6]
theorem okv_X {e o k pl : Nat} (hM : MS s) (hd : Dm s d) (he : e < mN s) (h6 : R s (s 6 e) = d / 30) (h4 : 4 ≤ s 2 e) (ho : o < 5) (hk : k < 12) (k1 : k ≠ 1) (hp : pl < 5) : okv s d (k, some e, some (dm (R s (s 4 e)) (orO k o (s 3 e)) (pl + 1)), (if 5 ≤ s 2 e then some (dm (R s (s 5 e)) (if k = 5 then s 3 e + 1 else 0) (pl + 1)) else none), some pl, prc k (rw' s (R s (s 4 e))) (if 5 ≤ s 2 e then rw' s (R s (s 5 e)) else 0) (rw' s (R s (s 6 e)))) := by
  obtain ⟨⟨hs, l, hb⟩, hX, h64⟩ := hM
  have h3 := sx_p4 hs he h4
  have hor : orO k o (s 3 e) < 5 := by unfold orO; split <;> (try split) <;> omega
  refine ⟨hk, ?_, fun y hy => by cases hy; exact ⟨he, fun _ => by omega⟩, fun y hy => ?_, fun y hy => ?_⟩
  · show _ = prc k (if k = 1 then rw' s (d / 30) else rw' s (R s (s 4 e))) (if 5 ≤ s 2 e then rw' s (R s (s 5 e)) else 0) (rw' s (d / 30))
    rw [if_neg k1, h6]
  · cases hy; exact dm_in hs (sx_4 hs he (by omega)) hor (by omega)
  · by_cases c : 5 ≤ s 2 e
    · simp only [if_pos c] at hy
      cases hy
      exact dm_in hs (sx_5 hs he c) (by split <;> omega) (by omega)
    · simp only [if_neg c] at hy
      cases hy
theorem c_sums {Q : wS → Prop} {e k pl : Nat} (hT : Tak F m w q7 W s al d J) (ha : alw al s) (hM : MS s) (hd : Dm s d) (hF : 1000 ≤ F) (j : J L σ) (he : e < mN s) (h6 : R s (s 6 e) = d / 30) (k4 : s 2 e = 4) (hk : k = 8 ∨ k = 9) (hp : pl < 5) (hQ : ∀ τ, J (L ++ wyX s e (d % 30 / 6) (d % 6) k pl) τ → Q τ) : w_X12_sums F σ w (nI k) (nI e) (nI pl) Q := by
  have hkk : k < 12 ∧ k ≠ 0 ∧ k ≠ 3 ∧ k ≠ 7 := by omega
  have wb := hT.1 L σ j
  obtain ⟨⟨wi, h2, h3, h4⟩, hC, hN⟩ := id wb
  obtain ⟨⟨hs, l, hb⟩, hX, h64⟩ := id hM
  have hG := hs.2.1
  have d19 : d < 1920 := dm_lt (by omega) hd
  obtain ⟨⟨o, a1, a2⟩, a3, -⟩ := hC.2.1 e he
  have c3 := sx_p4 hs he (by omega)
  obtain ⟨g, b1, b2, b3⟩ := a3 (by omega)
  have ok := okv_X (o := d % 30 / 6) (k := k) (pl := pl) hM hd he h6 (by omega) (by omega) (by omega) (by omega) hp
  unfold wyX at hQ
  unfold w_X12_sums
  rw [h4]
  refine ⟨wi.1, c_orderIn d19 ?_⟩
  rw [h4]
  refine c_placeIn d19 ?_
  rw [show nI pl = eI (pl + 1) from rfl]
  refine c_meets (y := pl + 1) (by omega) (by omega) ?_
  by_cases q1 : mts (d % 6) (pl + 1) = true
  rotate_left
  · rw [if_neg q1, if_pos rfl]
    rw [if_neg (by simp [q1]), List.append_nil] at hQ
    exact hQ σ j
  rw [if_pos q1, if_neg (by decide), h2, nI_clamp (n := e) (by omega)]
  have ve := vp_inN (show e < 64 by omega) (by decide)
  refine ⟨m, rfl, hC.1.1, ve, o, a1, a2.oS (sx_2 hs he), ?_⟩
  have go : okO k (d % 30 / 6) (s 3 e) = true → ∀ oo, oo = orO k (d % 30 / 6) (s 3 e) → w_X12_input F σ w (aI σ 2309 m e) (eI oo) (eI (pl + 1)) (fun r48 σ49 => w_X12_offers F σ49 w (nI k) (nI e) (eI (pl + 1)) r48 (-1 : Int32) (fun σ52 => Q σ52)) := fun hok oo hoo => by
    rw [if_pos (by rw [q1, hok]; rfl)] at hQ
    rw [b1]
    refine c_input (p := pl + 1) wb hM b2 hF ?_
    rw [b3, hoo]
    rw [if_neg (show ¬ 5 ≤ s 2 e by omega)] at ok hQ
    have hh := c_offers (F := F) hT ha j hkk ok hQ
    exact hh
  rcases hk with rfl | rfl
  · rw [if_pos (show nI 8 = (8 : Int32) from rfl)]
    by_cases q2 : d % 30 / 6 = 0
    · rw [if_pos (show eI (d % 30 / 6) = (-1 : Int32) by rw [q2]; rfl)]
      exact go (by unfold okO; rw [if_pos (Or.inr rfl)]; simp [q2]) 0 (by unfold orO; rw [if_neg (by decide), if_neg (by decide)])
    · rw [if_neg (eI_n (by omega) q2)]
      unfold b_X12_sums_76
      rw [if_neg (show ¬ nI 8 = (9 : Int32) by decide)]
      rw [if_neg (by unfold okO; rw [if_pos (Or.inr rfl)]; simp [q2]), List.append_nil] at hQ
      exact hQ σ j
  · rw [if_neg (show ¬ nI 9 = (8 : Int32) by decide)]
    unfold b_X12_sums_76
    rw [if_pos (show nI 9 = (9 : Int32) from rfl), a2.2.2]
    refine c_meets (y := s 3 e + 1) (by omega) (by omega) ?_
    have eo : okO 9 (d % 30 / 6) (s 3 e) = mts (d % 30 / 6) (s 3 e + 1) := by unfold okO; rw [if_neg (by decide), if_pos (Or.inr rfl)]
    by_cases q2 : mts (d % 30 / 6) (s 3 e + 1) = true
    · rw [if_pos q2, if_neg (by decide), h2, nI_clamp (n := e) (by omega)]
      refine ⟨wi.1, m, rfl, hC.1.1, ve, ?_⟩
      exact go (eo.trans q2) (s 3 e + 1) (by unfold orO; rw [if_pos (Or.inr rfl)])
    · rw [if_neg q2, if_pos rfl]
      rw [if_neg (by rw [eo]; simp [q2]), List.append_nil] at hQ
      exact hQ σ j
theorem c_pairs {Q : wS → Prop} {e k pl : Nat} (hT : Tak F m w q7 W s al d J) (ha : alw al s) (hM : MS s) (hd : Dm s d) (hF : 1000 ≤ F) (j : J L σ) (he : e < mN s) (h6 : R s (s 6 e) = d / 30) (k5 : 5 ≤ s 2 e) (hk : k = 4 ∨ k = 5 ∨ k = 6) (hp : pl < 5) (hQ : ∀ τ, J (L ++ wyX s e (d % 30 / 6) (d % 6) k pl) τ → Q τ) : w_X12_pairs F σ w (nI k) (nI e) (nI pl) Q := by
  have hkk : k < 12 ∧ k ≠ 0 ∧ k ≠ 3 ∧ k ≠ 7 := by omega
  have wb := hT.1 L σ j
  obtain ⟨⟨wi, h2, h3, h4⟩, hC, hN⟩ := id wb
  obtain ⟨⟨hs, l, hb⟩, hX, h64⟩ := id hM
  have hG := hs.2.1
  have d19 : d < 1920 := dm_lt (by omega) hd
  obtain ⟨⟨o, a1, a2⟩, a3, a4, -⟩ := hC.2.1 e he
  have c3 := sx_p4 hs he (by omega)
  obtain ⟨g, b1, b2, b3⟩ := a3 (by omega)
  obtain ⟨g', y1, y2, y3⟩ := a4 k5
  have ok := okv_X (o := d % 30 / 6) (k := k) (pl := pl) hM hd he h6 (by omega) (by omega) (by omega) (by omega) hp
  unfold wyX at hQ
  rw [if_pos k5, if_pos k5] at ok
  unfold w_X12_pairs
  rw [h4]
  refine ⟨wi.1, c_orderIn d19 ?_⟩
  rw [h4]
  refine c_placeIn d19 ?_
  rw [show nI pl = eI (pl + 1) from rfl]
  refine c_meets (y := pl + 1) (by omega) (by omega) ?_
  by_cases q1 : mts (d % 6) (pl + 1) = true
  rotate_left
  · rw [if_neg q1, if_pos rfl]
    rw [if_neg (by simp [q1]), List.append_nil] at hQ
    exact hQ σ j
  rw [if_pos q1, if_neg (by decide), h2, nI_clamp (n := e) (by omega)]
  have ve := vp_inN (show e < 64 by omega) (by decide)
  refine ⟨m, rfl, hC.1.1, ve, o, a1, a2.oS (sx_2 hs he), ?_⟩
  have go : okO k (d % 30 / 6) (s 3 e) = true → ∀ o1 o2, o1 = orO k (d % 30 / 6) (s 3 e) → o2 = (if k = 5 then s 3 e + 1 else 0) → w_X12_input F σ w (aI σ 2309 m e) (eI o1) (eI (pl + 1)) (fun r86 σ87 => nn (oR σ87 1302 w) fun b89 => ok22 σ87 b89 ∧ w_X12_input F σ87 w (aI σ87 2310 b89 e) (eI o2) (eI (pl + 1)) (fun r92 σ93 => w_X12_offers F σ93 w (nI k) (nI e) (eI (pl + 1)) r86 r92 (fun σ96 => Q σ96))) := fun hok o1 o2 ho1 ho2 => by
    rw [if_pos (by rw [q1, hok]; rfl)] at hQ
    rw [b1]
    refine c_input (p := pl + 1) wb hM b2 hF ⟨m, h2, hC.1.1, ?_⟩
    rw [y1]
    refine c_input (p := pl + 1) wb hM y2 hF ?_
    rw [b3, y3, ho1, ho2]
    rw [if_pos k5, if_pos k5] at hQ
    have hh := c_offers (F := F) hT ha j hkk ok hQ
    exact hh
  have b146 : k = 6 → b_X12_pairs_146 F w (nI k) (nI e) (eI (pl + 1)) Q σ (eI (d % 30 / 6)) := fun z => by
    unfold b_X12_pairs_146
    rw [if_pos (by rw [z]; rfl), h2, nI_clamp (n := e) (by omega)]
    refine ⟨wi.1, m, rfl, hC.1.1, ve, ?_⟩
    exact go (by unfold okO; rw [if_neg (by omega), if_neg (by omega)]) (d % 30 / 6) 0 (by unfold orO; rw [if_neg (by omega), if_pos z]) (by rw [if_neg (by omega)])
  have c146 : k ≠ 6 → (mts (d % 6) (pl + 1) && okO k (d % 30 / 6) (s 3 e)) ≠ true → b_X12_pairs_146 F w (nI k) (nI e) (eI (pl + 1)) Q σ (eI (d % 30 / 6)) := fun z hz => by
    unfold b_X12_pairs_146
    rw [if_neg (show ¬ nI k = (6 : Int32) from nI_eqf (b := 6) (by omega) (by decide) z)]
    rw [if_neg hz, List.append_nil] at hQ
    exact hQ σ j
  rcases hk with rfl | rfl | rfl
  · rw [if_pos (show nI 4 = (4 : Int32) from rfl)]
    by_cases q2 : d % 30 / 6 = 0
    · rw [if_pos (show eI (d % 30 / 6) = (-1 : Int32) by rw [q2]; rfl)]
      exact go (by unfold okO; rw [if_pos (Or.inl rfl)]; simp [q2]) 0 0 (by unfold orO; rw [if_neg (by decide), if_neg (by decide)]) rfl
    · rw [if_neg (eI_n (by omega) q2)]
      unfold b_X12_pairs_89
      rw [if_neg (show ¬ nI 4 = (5 : Int32) by decide)]
      exact c146 (by decide) (by unfold okO; rw [if_pos (Or.inl rfl)]; simp [q2])
  · rw [if_neg (show ¬ nI 5 = (4 : Int32) by decide)]
    unfold b_X12_pairs_89
    rw [if_pos (show nI 5 = (5 : Int32) from rfl), a2.2.2]
    refine c_meets (y := s 3 e + 1) (by omega) (by omega) ?_
    have eo : okO 5 (d % 30 / 6) (s 3 e) = mts (d % 30 / 6) (s 3 e + 1) := by unfold okO; rw [if_neg (by decide), if_pos (Or.inl rfl)]
    by_cases q2 : mts (d % 30 / 6) (s 3 e + 1) = true
    · rw [if_pos q2, if_neg (by decide), h2, nI_clamp (n := e) (by omega)]
      refine ⟨wi.1, m, rfl, hC.1.1, ve, ?_⟩
      exact go (eo.trans q2) (s 3 e + 1) (s 3 e + 1) (by unfold orO; rw [if_pos (Or.inl rfl)]) rfl
    · rw [if_neg q2, if_pos rfl]
      exact c146 (by decide) (by rw [eo]; simp [q2])
  · rw [if_neg (show ¬ nI 6 = (4 : Int32) by decide)]
    unfold b_X12_pairs_89
    rw [if_neg (show ¬ nI 6 = (5 : Int32) by decide)]
    exact b146 rfl
end PC
