set_option linter.unusedVariables false
set_option maxRecDepth 10000
/-! ===== component: status, expression, group, table ===== -/
section PC
variable {σ τ υ σ0 : wS} {x m F : Nat} {s : mS} {S : gS} {K : Nat → Nat} {P P' : Nat → Nat → Prop} {a b c d : Nat}
theorem c_in11 {Q : Int32 → wS → Prop} {v : Int32} (h0 : (∀ k, num 18 v = some k → k < 11) → Q 0 σ) (h1 : ∀ k, 11 ≤ k → k < 18 → v = nI k → num 18 v = some k → Q 1 σ) : w_X0_in σ v.toInt64 (11 : Int64) (17 : Int64) Q := by
  unfold w_X0_in
  have e0 : (11 : Int64).toInt = 11 := by decide
  have e1 : (17 : Int64).toInt = 17 := by decide
  have ev : v.toInt64.toInt = v.toInt := Int32.toInt_toInt64 v
  rcases num_cs (N := 18) (by decide) v with ⟨n, hn, ha, e⟩ | ⟨e, h⟩
  · have en : v.toInt = (n : Int) := by rw [ha]; exact nI_toInt (by omega)
    by_cases q : n < 11
    · rw [if_pos (by rw [Int64.lt_iff_toInt_lt, e0, ev, en]; omega)]
      exact h0 (fun k hk => by rw [e] at hk; cases hk; exact q)
    · rw [if_neg (by rw [Int64.lt_iff_toInt_lt, e0, ev, en]; omega), if_neg (by rw [Int64.lt_iff_toInt_lt, e1, ev, en]; omega)]
      exact h1 n (by omega) hn ha e
  · have hq := h0 (fun k hk => by rw [e] at hk; cases hk)
    rcases h with h | ⟨h, h'⟩
    · have en : v.toInt < 0 := by rw [Int32.lt_iff_toInt_lt] at h; exact h
      rw [if_pos (by rw [Int64.lt_iff_toInt_lt, e0, ev]; omega)]
      exact hq
    · obtain ⟨n, hn, rfl⟩ := nI_of h
      have hNn := (nI_leI (by decide) hn).mp h'
      have en : (nI n).toInt = (n : Int) := nI_toInt hn
      rw [if_neg (by rw [Int64.lt_iff_toInt_lt, e0, ev, en]; omega), if_pos (by rw [Int64.lt_iff_toInt_lt, e1, ev, en]; omega)]
      exact hq
theorem nI_if2 {k : Nat} {p : Bool} : nI k + (if p = true then (1 : Int32) else 0) = nI (k + (if p = true then 1 else 0)) := nI_if
theorem ctn_s (p : Nat → Bool) (n : Nat) : ctn p (n + 1) = ctn p n + (if p n = true then 1 else 0) := rfl
theorem c_groupsL {Q : Int32 → wS → Prop} (hK : CK σ x K S) (hI : IV S) (hF : 1000 ≤ F) (hQ : Q (nI (ctn (fun g => decide (S.1 7 g = g)) (mG S.1))) σ) : w_X0_groupsLeft F σ x Q := by
  have hs := hI.1.1.1.1.1
  have hG := hs.2.1
  have hN := hI.1.1.1.2.2
  have C := hK.1.2.1.1
  have key : ∀ n i, i ≤ mG S.1 → mG S.1 - i < n → l_X0_groupsLeft_4 F x Q n σ (nI (ctn (fun g => decide (S.1 7 g = g)) i)) (nI i) := by
    intro n
    induction n with
    | zero => intro i _ h; omega
    | succ n ih =>
      intro i hi hn
      unfold l_X0_groupsLeft_4
      refine ⟨hK.1.1.1.1, K 0, (ck_m hK).1, (ck_m hK).2, ?_⟩
      rw [C.1.2.2.2]
      by_cases c : i = mG S.1
      · rw [if_pos (nI_le (by omega) (by omega)), c]
        exact hQ
      · have hi' : i < mG S.1 := by omega
        rw [if_neg (nI_ge hi' (by omega))]
        refine c_find C hs hN hi' (by omega) ?_
        intro y hy
        have r := sh_lt hs hi'
        have e : (if nI (R S.1 i) = nI i then (1 : Int32) else 0) = if (fun g => decide (S.1 7 g = g)) i = true then 1 else 0 := by
          by_cases z : S.1 7 i = i
          · have zr : R S.1 i = i := rt_self z
            rw [if_pos (by rw [zr]), if_pos (decide_eq_true z)]
          · have zr : R S.1 i ≠ i := fun q => z (by have := sh_fix hs hi'; rwa [q] at this)
            rw [if_neg (nI_eqf (by omega) (by omega) zr), if_neg (by simp [z])]
        rw [hy, e, nI_if2, ← ctn_s, show nI i + 1 = nI (i + 1) from (nI_succ i).symm]
        exact ih (i + 1) hi' (by omega)
  exact key F 0 (Nat.zero_le _) (by omega)
theorem c_goneM {Q : Int32 → wS → Prop} (hK : CK σ x K S) (hI : IV S) (hF : 1000 ≤ F) (hQ : Q (nI (ctn (fun e => decide (S.1 8 e ≠ 0)) (mN S.1))) σ) : w_X0_goneMany F σ x Q := by
  have hs := hI.1.1.1.1.1
  have hN := hI.1.1.1.2.2
  have C := hK.1.2.1.1
  have key : ∀ n i, i ≤ mN S.1 → mN S.1 - i < n → l_X0_goneMany_4 F x Q n σ (nI (ctn (fun e => decide (S.1 8 e ≠ 0)) i)) (nI i) := by
    intro n
    induction n with
    | zero => intro i _ h; omega
    | succ n ih =>
      intro i hi hn
      unfold l_X0_goneMany_4
      refine ⟨hK.1.1.1.1, K 0, (ck_m hK).1, (ck_m hK).2, ?_⟩
      rw [C.1.2.2.1]
      by_cases c : i = mN S.1
      · rw [if_pos (nI_le (by omega) (by omega)), c]
        exact hQ
      · have hi' : i < mN S.1 := by omega
        have d := sh_bnd hs hi'
        rw [if_neg (nI_ge hi' (by omega)), nI_clamp (by omega), (C.2.1 i hi').2.2.2.1]
        refine ⟨vp_inN (by omega) (by decide), fun y hy => ?_⟩
        have e : (if nI (S.1 8 i) = 0 then (0 : Int32) else 1) = if (fun e => decide (S.1 8 e ≠ 0)) i = true then 1 else 0 := by
          by_cases z : S.1 8 i = 0
          · rw [if_pos (by rw [z]; rfl), if_neg (by simp [z])]
          · rw [if_neg (show ¬ nI (S.1 8 i) = (0 : Int32) from nI_eqf (b := 0) (by omega) (by decide) z), if_pos (by simp [z])]
        rw [hy, e, nI_if2, ← ctn_s, show nI i + 1 = nI (i + 1) from (nI_succ i).symm]
        exact ih (i + 1) hi' (by omega)
  exact key F 0 (Nat.zero_le _) (by omega)
theorem or137 {a : Nat} (h : a ||| 137 = a) (h4 : a < 4096) : (a &&& 3958) ||| 137 = a := by
  rw [Nat.or_and_distrib_right, h, show (3958 : Nat) ||| 137 = 2 ^ 12 - 1 by decide, Nat.and_two_pow_sub_one_eq_mod]
  exact Nat.mod_eq_of_lt h4
theorem c_status {Q : Int32 → wS → Prop} {v : Int32} (hK : CK σ x K S) (hI : IV S) (hF : 1000 ≤ F) (hQ : ∀ τ, Cf σ τ → CC τ x (o_status S v).2 → Q (o_status S v).1 τ) : w_X0_status F σ x v Q := by
  obtain ⟨C, ⟨f1, f2, f3, f4, f5⟩, N⟩ := hK.1.2.1
  have h4 : S.1 19 0 < 4096 := hI.1.1.1.2.1.2.1.1
  have kx := hK.1.1.1.1
  have km := ck_m hK
  have lit : ∀ k, k < 11 → v = nI k → o_status S v = (if k = 0 then nI (S.1 10 0) else if k = 1 then nI (mN S.1) else if k = 2 then nI (ctn (fun g => decide (S.1 7 g = g)) (mG S.1)) else if k = 3 then nI (ctn (fun e => decide (S.1 8 e ≠ 0)) (mN S.1))
      else if k = 4 then nI (S.1 18 0) else if k = 5 then nI (S.1 20 0) else if k = 6 then nI (S.2.1 5 1) else if k = 7 then nI (S.1 19 0) else if k = 8 then nI S.2.2.2.2.1 else if k = 9 then nI (mG S.1) else if k = 10 then -1 else nI (S.2.1 0 (k - 10)), S) := by
    intro k hk ha
    unfold o_status
    rw [ha, num_some (by decide) (show k < 18 by omega)]
  have go : ∀ r, o_status S v = (r, S) → Q r σ := fun r e => by
    rw [e] at hQ
    exact hQ σ cf_0 ⟨K, hK⟩
  unfold w_X0_status
  by_cases c0 : v = 0
  · rw [if_pos c0]
    refine ⟨kx, K 0, km.1, km.2, ?_⟩
    rw [C.1.2.1]; exact go _ (lit 0 (by decide) c0)
  rw [if_neg c0]
  by_cases c1 : v = 1
  · rw [if_pos c1]
    refine ⟨kx, K 0, km.1, km.2, ?_⟩
    rw [C.1.2.2.1]; exact go _ (lit 1 (by decide) c1)
  rw [if_neg c1]
  by_cases c2 : v = 2
  · rw [if_pos c2]
    exact ⟨kx, c_groupsL hK hI hF (go _ (lit 2 (by decide) c2))⟩
  rw [if_neg c2]
  by_cases c3 : v = 3
  · rw [if_pos c3]
    exact ⟨kx, c_goneM hK hI hF (go _ (lit 3 (by decide) c3))⟩
  rw [if_neg c3]
  by_cases c4 : v = 4
  · rw [if_pos c4]
    refine ⟨kx, K 0, km.1, km.2, ?_⟩
    rw [f3]; exact go _ (lit 4 (by decide) c4)
  rw [if_neg c4]
  by_cases c5 : v = 5
  · rw [if_pos c5]
    refine ⟨kx, K 0, km.1, km.2, ?_⟩
    rw [f5]; exact go _ (lit 5 (by decide) c5)
  rw [if_neg c5]
  by_cases c6 : v = 6
  · rw [if_pos c6]
    refine ⟨kx, ?_⟩
    have g6 := go _ (lit 6 (by decide) c6)
    obtain ⟨p0, p1⟩ := hK.2.2.2
    by_cases z : S.2.1 5 1 = 0
    · rw [p0 z]
      rw [z] at g6
      exact g6
    · obtain ⟨p, e1, e2, e3, -⟩ := p1 z
      rw [e1]
      exact ⟨e2, by rw [e3]; exact g6⟩
  rw [if_neg c6]
  by_cases c7 : v = 7
  · rw [if_pos c7]
    refine ⟨kx, K 0, km.1, km.2, ?_⟩
    rw [f4, show (137 : Int32) = nI 137 from rfl, or_nI, or137 hI.1.1.2.1 h4]
    exact go _ (lit 7 (by decide) c7)
  rw [if_neg c7]
  by_cases c8 : v = 8
  · rw [if_pos c8]
    refine ⟨kx, K 1, hK.1.1.1.2.2.1, hK.1.1.2.1.1, ?_⟩
    rw [hK.2.1.2.1.1]; exact go _ (lit 8 (by decide) c8)
  rw [if_neg c8]
  by_cases c9 : v = 9
  · rw [if_pos c9]
    refine ⟨kx, K 0, km.1, km.2, ?_⟩
    rw [C.1.2.2.2]; exact go _ (lit 9 (by decide) c9)
  rw [if_neg c9]
  refine c_in11 (fun h0 => ?_) (fun k k1 k2 ha e => ?_)
  · rw [if_pos rfl]
    apply go
    rcases num_cs (N := 18) (by decide) v with ⟨n, hn, ha, e⟩ | ⟨e, -⟩
    · have n11 := h0 n e
      have n10 : n = 10 := by
        rcases Nat.lt_or_ge n 10 with q | q
        · have h10 : n = 0 ∨ n = 1 ∨ n = 2 ∨ n = 3 ∨ n = 4 ∨ n = 5 ∨ n = 6 ∨ n = 7 ∨ n = 8 ∨ n = 9 := by omega
          rcases h10 with rfl | rfl | rfl | rfl | rfl | rfl | rfl | rfl | rfl | rfl
          · exact absurd ha c0
          · exact absurd ha c1
          · exact absurd ha c2
          · exact absurd ha c3
          · exact absurd ha c4
          · exact absurd ha c5
          · exact absurd ha c6
          · exact absurd ha c7
          · exact absurd ha c8
          · exact absurd ha c9
        · omega
      rw [lit n n11 ha, n10]
      rfl
    · unfold o_status; rw [e]
  · have eo : o_status S v = (nI (S.2.1 0 (k - 10)), S) := by
      unfold o_status
      rw [e]
      dsimp only
      rw [if_neg (by omega), if_neg (by omega), if_neg (by omega), if_neg (by omega), if_neg (by omega), if_neg (by omega), if_neg (by omega), if_neg (by omega), if_neg (by omega), if_neg (by omega), if_neg (by omega)]
    rw [if_neg (by decide), ha, nIl_10, sub_I (by omega), nI_clamp (by omega), hK.1.2.2 _ (by omega)]
    exact ⟨kx, vp_inN (by omega) (by decide), go _ eo⟩
theorem c_expression {Q : Int32 → wS → Prop} {v w : Int32} (hK : CK σ x K S) (hI : IV S) (hF : 1000 ≤ F) (hQ : ∀ τ, Cf σ τ → CC τ x (o_expr S v w).2 → Q (o_expr S v w).1 τ) : w_X0_expression F σ x v w Q := by
  have hs := hI.1.1.1.1.1
  have hG := hs.2.1
  have hN := hI.1.1.1.2.2
  have C := hK.1.2.1.1
  have kx := hK.1.1.1.1
  have km := ck_m hK
  have hA := hI.1.2
  unfold w_X0_expression
  refine ⟨kx, K 0, km.1, km.2, c_isExpr C (by omega) (fun ea => ?_) (fun e he ha ea => ?_)⟩
  · have e2 : o_expr S v w = noA S 5 := by unfold o_expr; rw [ea] <;> cases num 6 w <;> rfl
    rw [e2] at hQ
    rw [if_pos rfl]
    exact c_bey hK hA hQ
  rw [if_neg (by decide)]
  have vin := vp_inN (show e < 64 by omega) (by decide)
  have cl : (nI e).toNatClampNeg = e := nI_clamp (by omega)
  obtain ⟨s1, s2, s3, s4⟩ := sh_bnd hs he
  obtain ⟨⟨o, x1, x2⟩, x3, x4, x5, x6⟩ := C.2.1 e he
  have hk := (hs.2.2.2.2 e he).2.2.1
  refine ⟨K 0, km.1, km.2, by rw [ha]; exact vin, fun y hy => ?_⟩
  rw [ha, cl] at hy ⊢
  rw [x1] at hy
  rw [x5, hy]
  have lit : ∀ k, k < 6 → w = nI k → o_expr S v w = (if k = 0 then nI (S.1 2 e) else if k = 1 then nI (S.1 3 e) else if k = 5 then nI (S.1 8 e)
      else if S.1 8 e = 1 ∨ k = 2 ∧ S.1 2 e = 1 ∨ k = 3 ∧ S.1 2 e < 5 then -1
      else if k = 2 then nI (R S.1 (S.1 4 e)) else if k = 3 then nI (R S.1 (S.1 5 e)) else nI (R S.1 (S.1 6 e)), S) := fun k hk hw => by
    unfold o_expr
    rw [ea, hw, num_some (by decide) hk]
  have go : ∀ r, o_expr S v w = (r, S) → Q r σ := fun r e => by
    rw [e] at hQ
    exact hQ σ cf_0 ⟨K, hK⟩
  have b46 : ∀ i, (S.1 8 e = 0 → i = inp (S.1 2 e)) → (S.1 8 e ≠ 0 → i = 0) → b_X0_expression_46 F x (nI e) w Q σ (some o) (nI i) := fun i hi0 hi1 => by
    have i3 : i < 3 := by
      by_cases z : S.1 8 e = 0
      · rw [hi0 z]; unfold inp; split
        · decide
        · split <;> decide
      · rw [hi1 z]; decide
    unfold b_X0_expression_46
    rw [cl]
    by_cases c0 : w = 0
    · rw [if_pos c0]
      exact ⟨o, rfl, v_kind x2 hk (go _ (lit 0 (by decide) c0))⟩
    rw [if_neg c0]
    by_cases c1 : w = 1
    · rw [if_pos c1]
      refine ⟨o, rfl, x2.oS hk, ?_⟩
      rw [x2.2.2]; exact go _ (lit 1 (by decide) c1)
    rw [if_neg c1]
    by_cases c2 : w = 2
    · rw [if_pos c2]
      have l2 := lit 2 (by decide) c2
      by_cases y : S.1 8 e = 1 ∨ S.1 2 e = 1
      · have i0 : i = 0 := by
          by_cases z : S.1 8 e = 0
          · rw [hi0 z]; unfold inp; rw [if_pos (by omega)]
          · exact hi1 z
        rw [if_pos (by rw [i0]; decide)]
        refine go _ (l2.trans ?_)
        rw [if_neg (by decide), if_neg (by decide), if_neg (by decide), if_pos (by omega)]
      · have z : S.1 8 e = 0 := by omega
        have i1 : 1 ≤ i := by
          rw [hi0 z]; unfold inp; rw [if_neg (by omega)]
          split <;> decide
        rw [if_neg (show ¬ nI i ≤ (0 : Int32) from nI_ge (a := 0) (by omega) (by omega))]
        obtain ⟨g, g1, g2, g3⟩ := x3 (by omega)
        refine ⟨kx, K 0, km.1, km.2, vin, ?_⟩
        rw [g1]
        refine c_find C hs hN g2 (by omega) ?_
        rw [g3]
        refine go _ (l2.trans ?_)
        rw [if_neg (by decide), if_neg (by decide), if_neg (by decide), if_neg (by omega), if_pos rfl]
    rw [if_neg c2]
    by_cases c3 : w = 3
    · rw [if_pos c3]
      have l2 := lit 3 (by decide) c3
      by_cases y : S.1 8 e = 1 ∨ S.1 2 e < 5
      · have i0 : i ≤ 1 := by
          by_cases z : S.1 8 e = 0
          · rw [hi0 z]; unfold inp
            split
            · decide
            · rw [if_pos (by omega)]; decide
          · rw [hi1 z]; decide
        rw [if_pos (show nI i ≤ (1 : Int32) from nI_le (b := 1) i0 (by decide))]
        refine go _ (l2.trans ?_)
        rw [if_neg (by decide), if_neg (by decide), if_neg (by decide), if_pos (by omega)]
      · have z : S.1 8 e = 0 := by omega
        have i1 : 1 < i := by
          rw [hi0 z]; unfold inp; rw [if_neg (by omega), if_neg (by omega)]; decide
        rw [if_neg (show ¬ nI i ≤ (1 : Int32) from nI_ge (a := 1) i1 (by omega))]
        obtain ⟨g, g1, g2, g3⟩ := x4 (by omega)
        refine ⟨kx, K 0, km.1, km.2, vin, ?_⟩
        rw [g1]
        refine c_find C hs hN g2 (by omega) ?_
        rw [g3]
        refine go _ (l2.trans ?_)
        rw [if_neg (by decide), if_neg (by decide), if_neg (by decide), if_neg (by omega), if_neg (by decide), if_pos rfl]
    rw [if_neg c3]
    by_cases c4 : w = 4
    · rw [if_pos c4]
      have l2 := lit 4 (by decide) c4
      refine ⟨kx, K 0, km.1, km.2, vin, ?_⟩
      rw [x5]
      by_cases z : S.1 8 e = 0
      · rw [if_pos (by rw [z]; rfl)]
        refine c_home C hs hN he (by omega) (go _ (l2.trans ?_))
        rw [if_neg (by decide), if_neg (by decide), if_neg (by decide), if_neg (by omega), if_neg (by decide), if_neg (by decide)]
      · rw [if_neg (show ¬ nI (S.1 8 e) = (0 : Int32) from nI_eqf (b := 0) (by omega) (by decide) z)]
        refine go _ (l2.trans ?_)
        rw [if_neg (by decide), if_neg (by decide), if_neg (by decide), if_pos (by omega)]
    rw [if_neg c4]
    by_cases c5 : w = 5
    · rw [if_pos c5]
      have l2 := lit 5 (by decide) c5
      refine ⟨kx, K 0, km.1, km.2, vin, ?_⟩
      rw [x5]
      have g5 := go _ (l2.trans (by rw [if_neg (by decide), if_neg (by decide), if_pos rfl]))
      by_cases z : S.1 8 e = 0
      · rw [if_pos (by rw [z]; rfl)]
        rw [z] at g5; exact g5
      · rw [if_neg (show ¬ nI (S.1 8 e) = (0 : Int32) from nI_eqf (b := 0) (by omega) (by decide) z)]
        rw [show S.1 8 e = 1 by omega] at g5; exact g5
    rw [if_neg c5]
    have e2 : o_expr S v w = noA S 5 := by
      unfold o_expr
      rcases num_cs (N := 6) (by decide) w with ⟨n, hn, hw, -⟩ | ⟨e', -⟩
      · have h6 : n = 0 ∨ n = 1 ∨ n = 2 ∨ n = 3 ∨ n = 4 ∨ n = 5 := by omega
        rcases h6 with rfl | rfl | rfl | rfl | rfl | rfl
        · exact absurd hw c0
        · exact absurd hw c1
        · exact absurd hw c2
        · exact absurd hw c3
        · exact absurd hw c4
        · exact absurd hw c5
      · rw [ea, e']
    rw [e2] at hQ
    exact ⟨kx, c_bey hK hA hQ⟩
  by_cases z : S.1 8 e = 0
  · rw [if_pos (by rw [z]; rfl)]
    exact ⟨o, rfl, v_inputs x2 hk (b46 _ (fun _ => rfl) (fun y => absurd z y))⟩
  · rw [if_neg (show ¬ nI (S.1 8 e) = (0 : Int32) from nI_eqf (b := 0) (by omega) (by decide) z)]
    exact b46 0 (fun y => absurd y z) (fun _ => rfl)
end PC
