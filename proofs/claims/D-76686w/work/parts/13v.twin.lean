set_option linter.unusedVariables false
set_option maxRecDepth 10000
/-! ===== twin: tables ===== -/
section PT
variable {σ τ : wS} {t F : Nat} {s : mS} {S : gS}
abbrev GZ : List Nat := [2509, 2524, 2525, 2526, 2527, 12528, 2505, 2506, 2507, 2562, 2508, 2542, 2543, 2544, 2545, 2546, 2547, 2548, 2549, 12551, 2571, 2572, 22573, 22574]
theorem tt_mem {G : List Nat} {s' : mS} (h : TT σ t S) (k : Tw G t σ τ) (d : ∀ g ∈ GZ, g ∉ G) (m : TM τ t s') (x : TXo τ t s') (f : TF τ t s') (e : s' 20 = S.1 20) : TT τ t (sM S s') := by
  have h4 := h.2.1.2.2.2.tw k (fun g hg => d g (by revert g; decide))
  refine ⟨⟨m, x, f⟩, ⟨h.2.1.1.tw k (fun g hg => d g (by revert g; decide)), h.2.1.2.1.tw k (fun g hg => d g (by revert g; decide)), h.2.1.2.2.1.tw k (fun g hg => d g (by revert g; decide)), ?_, h4.2⟩, h.2.2.1.tw k (fun g hg => d g (by revert g; decide)), h.2.2.2.tw k (fun g hg => d g (by revert g; decide))⟩
  show _ = nI (s' 20 0)
  rw [e]; exact h4.1
theorem txo_k {s' : mS} (h : TXo σ t s) (e : ∀ k, 10 ≤ k → s' k = s k) : TXo σ t s' := by
  unfold TXo
  rw [e 19 (by decide), e 10 (by decide), e 13 (by decide), e 14 (by decide)]
  exact h
theorem tf_k {s' : mS} (h : TF σ t s) (e : ∀ k, 10 ≤ k → s' k = s k) : TF σ t s' := by
  unfold TF
  rw [e 16 (by decide), e 17 (by decide), e 18 (by decide)]
  exact h
/-- the memo alone changed, its later fields did not -/
theorem tt_mem10 {G : List Nat} {s' : mS} (h : TT σ t S) (k : Tw G t σ τ) (d : ∀ g ∈ GZ, g ∉ G) (d2 : ∀ g ∈ [2504, 2513, 2514, 22522, 2523, 2503], g ∉ G) (m : TM τ t s') (e : ∀ k, 10 ≤ k → s' k = S.1 k) : TT τ t (sM S s') :=
  tt_mem h k d m (txo_k (h.1.2.1.tw k (fun g hg => d2 g (by revert g; decide))) e) (tf_k (h.1.2.2.tw k (fun g hg => d2 g (by revert g; decide))) e) (e 20 (by decide))
theorem ge1 {a : Int32} (h : ¬ a < 1) : ∃ n, 1 ≤ n ∧ n < 2 ^ 31 ∧ a = nI n := by
  have h0 : ¬ a < 0 := fun z => h (Int32.lt_trans z (by decide))
  obtain ⟨n, hn, rfl⟩ := nI_of h0
  refine ⟨n, ?_, hn, rfl⟩
  rcases Nat.lt_or_ge n 1 with q | q
  · exact absurd (show nI n < (1 : Int32) from nI_lt (b := 1) q (by decide)) h
  · exact q
theorem lt1 {a : Int32} (h : a < 1) : a = 0 ∨ a < 0 := by
  by_cases q : a < 0
  · exact Or.inr q
  · obtain ⟨n, hn, rfl⟩ := nI_of q
    have : n < 1 := (nI_ltI hn (by decide)).mp (show nI n < nI 1 from h)
    left
    rw [show n = 0 by omega]; rfl
theorem t_table {Q : Int32 → wS → Prop} {r c o p : Int32} (hT : TT σ t S) (h8 : S.1 10 0 ≤ 8) (hQ : ∀ τ, Tu t σ τ → TT τ t (o_table S r c o p).2 → Q (o_table S r c o p).1 τ) : w_X24_table σ t r c o p Q := by
  unfold w_X24_table
  have b52 : o_table S r c o p = noA S 6 → b_X24_table_52 t Q σ := fun e2 => by
    rw [e2] at hQ
    exact ⟨hT.ok, t_no 6 (by decide) rfl hT hQ⟩
  by_cases h1 : r < 1
  · rw [if_pos h1]
    refine b52 ?_
    unfold o_table
    rcases lt1 h1 with z | z
    · rw [if_pos (Or.inl z)]
    · rw [num_lo z]
      split <;> rfl
  obtain ⟨r', r1, r2, er⟩ := ge1 h1
  rw [if_neg h1]
  by_cases h2 : (1000000 : Int32) < r
  · rw [if_pos h2]
    refine b52 ?_
    unfold o_table
    rw [num_hi (N := 1000001) (by
      rw [er]
      rw [er] at h2
      exact nI_le ((nI_ltI (by decide) r2).mp (show nI 1000000 < nI r' from h2)) r2)]
    split <;> rfl
  rw [if_neg h2]
  have r3 : r' ≤ 1000000 := by
    rw [er] at h2
    exact Nat.le_of_not_lt (fun z => h2 (show nI 1000000 < nI r' from nI_lt z r2))
  by_cases h3 : c < 1
  · rw [if_pos h3]
    refine b52 ?_
    unfold o_table
    rcases lt1 h3 with z | z
    · rw [if_pos (Or.inr z)]
    · rw [num_lo z]
      split
      · rfl
      · cases num 1000001 r <;> rfl
  obtain ⟨c', c1, c2, ec⟩ := ge1 h3
  rw [if_neg h3]
  by_cases h4 : (15 : Int32) < c
  · rw [if_pos h4]
    refine b52 ?_
    unfold o_table
    rw [num_hi (N := 16) (by
      rw [ec]
      rw [ec] at h4
      exact nI_le ((nI_ltI (by decide) c2).mp (show nI 15 < nI c' from h4)) c2)]
    split
    · rfl
    · cases num 1000001 r <;> rfl
  rw [if_neg h4]
  have c3 : c' ≤ 15 := by
    rw [ec] at h4
    exact Nat.le_of_not_lt (fun z => h4 (show nI 15 < nI c' from nI_lt z c2))
  have eo : o_table S r c o p = match ord c' o, plc c' p with
    | some o', some p' => if S.1 10 0 = 8 then noA S 7 else (nI (S.1 10 0), sM S (adt S.1 r' c' o' p'))
    | _, _ => noA S 6 := by
    unfold o_table
    rw [er, ec, num_some (by decide) (show r' < 1000001 by omega), num_some (by decide) (show c' < 16 by omega), if_neg (by
      rintro (z | z)
      · exact nI_eqf (b := 0) (by omega) (by decide) (by omega) z
      · exact nI_eqf (b := 0) (by omega) (by decide) (by omega) z)]
    rfl
  have b59 : ∀ o' p', ord c' o = some o' → plc c' p = some p' → o = eI o' → p = nI p' → b_X24_table_59 t r c o p Q σ := by
    intro o' p' e1 e2 e3 e4
    rw [eo, e1, e2] at hQ
    dsimp only at hQ
    unfold b_X24_table_59
    rw [hT.1.1.1.2.1]
    refine ⟨hT.ok, ?_⟩
    by_cases q : S.1 10 0 = 8
    · rw [if_pos q] at hQ
      rw [if_pos (by rw [q]; rfl)]
      exact t_no 7 (by decide) rfl hT hQ
    rw [if_neg q] at hQ
    rw [if_neg (show ¬ nI (S.1 10 0) = (8 : Int32) from nI_eqf (b := 8) (by omega) (by decide) q), nI_clamp (by omega)]
    refine ⟨vp_inN (by omega) (by decide), bnd_sA fun σ1 w1 v1 _ _ => ?_⟩
    rw [w1.I (by decide), hT.1.1.1.2.1, nI_clamp (by omega)]
    refine ⟨vp_inN (by omega) (by decide), bnd_sA fun σ2 w2 v2 _ _ => ?_⟩
    rw [w2.I (by decide), w1.I (by decide), hT.1.1.1.2.1, nI_clamp (by omega)]
    refine ⟨vp_inN (by omega) (by decide), bnd_sA fun σ3 w3 v3 _ _ => ?_⟩
    rw [w3.I (by decide), w2.I (by decide), w1.I (by decide), hT.1.1.1.2.1, nI_clamp (by omega)]
    refine ⟨vp_inN (by omega) (by decide), bnd_sA fun σ4 w4 v4 _ _ => ?_⟩
    rw [w4.I (by decide), w3.I (by decide), w2.I (by decide), w1.I (by decide), hT.1.1.1.2.1]
    refine bnd_sI fun σ5 w5 v5 _ _ => ?_
    have W : Tw [2511, 2512, 2513, 2514, 2500] t σ σ5 := ((((w1.mono (by decide)).up w2 (by decide)).up w3 (by decide)).up w4 (by decide)).up w5 (by decide)
    rw [v5, nIl_1, nI_add, show nI (S.1 10 0 + 1) - nI 1 = nI (S.1 10 0) from nI_pred _]
    have f1 : aI σ5 2511 t = upd (aI σ 2511 t) (S.1 10 0) r := by rw [w5.A (by decide), w4.A (by decide), w3.A (by decide), w2.A (by decide), v1]
    have f2 : aI σ5 2512 t = upd (aI σ 2512 t) (S.1 10 0) c := by rw [w5.A (by decide), w4.A (by decide), w3.A (by decide), v2, w1.A (by decide)]
    have f3 : aI σ5 2513 t = upd (aI σ 2513 t) (S.1 10 0) o := by rw [w5.A (by decide), w4.A (by decide), v3, w2.A (by decide), w1.A (by decide)]
    have f4 : aI σ5 2514 t = upd (aI σ 2514 t) (S.1 10 0) p := by rw [w5.A (by decide), v4, w3.A (by decide), w2.A (by decide), w1.A (by decide)]
    obtain ⟨⟨k1, k2, k3, k4⟩, kE, kG, kT, kD⟩ := hT.1.1
    obtain ⟨x1, x2⟩ := hT.1.2.1
    refine hQ σ5 W.tu (tt_mem hT W (by decide) ⟨⟨W.ok hT.ok, ?_, ?_, ?_⟩, ?_, ?_, ?_, ?_⟩ ⟨?_, ?_⟩ (hT.1.2.2.tw W (by decide)) rfl)
    · rw [v5, nIl_1, nI_add]
      show _ = nI (up (S.1 10) 0 (S.1 10 0 + 1) 0)
      rw [up_s]
    · rw [W.I (by decide)]; exact k3
    · rw [W.I (by decide)]; exact k4
    · intro e he
      rw [W.A (by decide), W.A (by decide), W.A (by decide), W.A (by decide), W.A (by decide), W.A (by decide)]
      exact kE e he
    · intro g hg
      rw [W.A (by decide)]
      exact kG g hg
    · intro i hi
      rw [f1, f2]
      show _ = nI (up (S.1 11) (S.1 10 0) r' i) ∧ _ = nI (up (S.1 12) (S.1 10 0) c' i)
      by_cases z : i = S.1 10 0
      · rw [z, upd_s, upd_s, up_s, up_s]; exact ⟨er, ec⟩
      · rw [upd_n z, upd_n z, up_n z, up_n z]
        have hi' : i < up (S.1 10) 0 (S.1 10 0 + 1) 0 := hi
        rw [up_s] at hi'
        exact kT i (by omega)
    · intro i hi
      rw [W.A (by decide)]
      exact kD i hi
    · rw [W.I (by decide)]; exact x1
    · intro i hi
      rw [f3, f4]
      show _ = eI (up (S.1 13) (S.1 10 0) o' i) ∧ _ = nI (up (S.1 14) (S.1 10 0) p' i)
      by_cases z : i = S.1 10 0
      · rw [z, upd_s, upd_s, up_s, up_s]; exact ⟨e3, e4⟩
      · rw [upd_n z, upd_n z, up_n z, up_n z]
        have hi' : i < up (S.1 10) 0 (S.1 10 0 + 1) 0 := hi
        rw [up_s] at hi'
        exact x2 i (by omega)
  have b36 : ∀ o', ord c' o = some o' → o = eI o' → b_X24_table_36 t r c o p Q σ := by
    intro o' e1 e3
    unfold b_X24_table_36
    by_cases q : p = 4
    · rw [if_pos q]
      refine b59 o' 4 e1 ?_ e3 q
      unfold plc
      rw [q, show num 5 (4 : Int32) = some 4 from num_some (n := 4) (by decide) (by decide)]
      exact if_pos (Or.inl rfl)
    · rw [if_neg q]
      rw [ec]
      refine ⟨hT.ok, t_isColA c2 (fun hp => ?_) (fun x hx hxp ep hb => ?_)⟩
      · rw [if_pos rfl]
        refine b52 ?_
        rw [eo, e1]
        have : plc c' p = none := by
          unfold plc
          cases e5 : num 5 p with
          | none => rfl
          | some x =>
            dsimp only
            rcases num_cs (N := 5) (by decide) p with ⟨n, hn, ha, e⟩ | ⟨e, -⟩
            · rw [e] at e5
              cases e5
              have x4 : x ≠ 4 := fun z => q (by rw [ha, z]; rfl)
              rw [if_neg]
              rintro (z | z)
              · exact x4 z
              · have := hp x (by rw [ha]; exact num_some (by decide) (by omega))
                rw [this] at z; cases z
            · rw [e] at e5; cases e5
        rw [this]
      · rw [if_neg (by decide), ← ec]
        refine b59 o' x e1 ?_ e3 hxp
        unfold plc
        rw [hxp, num_some (by decide) (show x < 5 by omega)]
        exact if_pos (Or.inr hb)
  by_cases q : o = -1
  · rw [if_pos q]
    exact b36 0 (by unfold ord; exact if_pos q) q
  · rw [if_neg q, ec]
    refine ⟨hT.ok, t_isColA c2 (fun hp => ?_) (fun x hx hxp ep hb => ?_)⟩
    · rw [if_pos rfl]
      refine b52 ?_
      rw [eo]
      have : ord c' o = none := by
        unfold ord
        rw [if_neg q]
        cases e5 : num 4 o with
        | none => rfl
        | some x =>
          dsimp only
          rw [hp x e5]
          rfl
      rw [this]
    · rw [if_neg (by decide), ← ec]
      refine b36 (x + 1) ?_ hxp
      unfold ord
      rw [if_neg q, ep]
      exact if_pos hb
theorem t_tableOf {Q : Int32 → wS → Prop} {a b : Int32} (hT : TT σ t S) (h8 : S.1 10 0 ≤ 8) (hQ : ∀ τ, Tu t σ τ → TT τ t (o_tableOf S a b).2 → Q (o_tableOf S a b).1 τ) : w_X24_tableOf σ t a b Q := by
  unfold w_X24_tableOf
  have b22 : o_tableOf S a b = noA S 5 → b_X24_tableOf_22 t Q σ := fun e2 => by
    rw [e2] at hQ
    exact ⟨hT.ok, t_no 5 (by decide) rfl hT hQ⟩
  have n1 : num (S.1 10 0) a = none → o_tableOf S a b = noA S 5 := fun e => by
    unfold o_tableOf
    rw [e] <;> cases num 4 b <;> rfl
  rcases num_cs (N := S.1 10 0) (by omega) a with ⟨n, hn, ha, e⟩ | ⟨e, h | ⟨h, h'⟩⟩
  · rw [hT.1.1.1.2.1, ha, if_neg (nI_pos (by omega)), if_neg (nI_ge hn (by omega))]
    refine ⟨hT.ok, t_isFrom (N := 3) (by decide) rfl (fun eb => ?_) (fun k hk hkb eb => ?_)⟩
    · rw [if_pos rfl]
      exact b22 (by unfold o_tableOf; rw [e, eb])
    · rw [if_neg (by decide), hkb, nI_clamp (by omega)]
      have eo : o_tableOf S a b = (if k = 0 then nI (S.1 11 n) else if k = 1 then nI (S.1 12 n) else if k = 2 then eI (S.1 13 n) else nI (S.1 14 n), S) := by unfold o_tableOf; rw [e, eb]
      rw [eo] at hQ
      have hq := hQ σ Tu.refl hT
      obtain ⟨i1, i2⟩ := hT.1.1.2.2.2.1 n hn
      obtain ⟨i3, i4⟩ := hT.1.2.1.2 n hn
      rw [i1, i2, i3, i4]
      have v := vp_inN (show n < 8 by omega) (by decide)
      by_cases k0 : k = 0
      · rw [if_pos (by rw [k0]; rfl)]
        rw [if_pos k0] at hq
        exact ⟨v, hq⟩
      rw [if_neg (show ¬ nI k = (0 : Int32) from nI_eqf (b := 0) (by omega) (by decide) k0)]
      rw [if_neg k0] at hq
      by_cases k1 : k = 1
      · rw [if_pos (by rw [k1]; rfl)]
        rw [if_pos k1] at hq
        exact ⟨v, hq⟩
      rw [if_neg (show ¬ nI k = (1 : Int32) from nI_eqf (b := 1) (by omega) (by decide) k1)]
      rw [if_neg k1] at hq
      by_cases k2 : k = 2
      · rw [if_pos (by rw [k2]; rfl)]
        rw [if_pos k2] at hq
        exact ⟨v, hq⟩
      rw [if_neg (show ¬ nI k = (2 : Int32) from nI_eqf (b := 2) (by omega) (by decide) k2)]
      rw [if_neg k2] at hq
      exact ⟨v, hq⟩
  · rw [if_pos h]; exact b22 (n1 e)
  · rw [if_neg h, hT.1.1.1.2.1, if_pos h']; exact ⟨hT.ok, b22 (n1 e)⟩
theorem t_distinct {Q : Int32 → wS → Prop} {a v : Int32} (hT : TT σ t S) (hQ : ∀ τ, Tu t σ τ → TT τ t (o_distinct S a v).2 → Q (o_distinct S a v).1 τ) : w_X24_distinct σ t a v Q := by
  unfold w_X24_distinct
  refine ⟨hT.ok, t_isFrom (N := 3) (by decide) rfl (fun ea => ?_) (fun k hk hka ea => ?_)⟩
  · rw [if_pos rfl]
    have e2 : o_distinct S a v = noA S 1 := by unfold o_distinct; rw [ea]
    rw [e2] at hQ
    exact t_no 1 (by decide) rfl hT hQ
  rw [if_neg (by decide)]
  have b27 : o_distinct S a v = noA S 6 → b_X24_distinct_27 t Q σ := fun e2 => by
    rw [e2] at hQ
    exact ⟨hT.ok, t_no 6 (by decide) rfl hT hQ⟩
  by_cases h1 : v < 1
  · rw [if_pos h1]
    refine b27 ?_
    unfold o_distinct
    rw [ea]
    dsimp only
    rcases lt1 h1 with z | z
    · rw [if_pos z]
    · rw [num_lo z]
      split <;> rfl
  obtain ⟨v', v1, v2, ev⟩ := ge1 h1
  have v0 : ¬ v = 0 := by rw [ev]; exact fun z => absurd ((nI_n0 v2).mp z) (by omega)
  rw [if_neg h1]
  by_cases h2 : v ≤ (1000000 : Int32)
  · rw [if_pos h2]
    have v3 : v' ≤ 1000000 := (nI_leI v2 (by decide)).mp (show nI v' ≤ nI 1000000 from ev ▸ h2)
    have eo : o_distinct S a v = (nI (S.1 15 k), sM S (st S.1 15 (up (S.1 15) k v'))) := by
      unfold o_distinct
      rw [ea]
      dsimp only
      rw [if_neg v0, ev, num_some (by decide) (show v' < 1000001 by omega)]
    rw [eo] at hQ
    rw [hka, nI_clamp (by omega)]
    refine ⟨vp_inN hk (by decide), fun x hx => bnd_sA fun σ1 w1 z1 _ _ => ?_⟩
    obtain ⟨⟨k1, k2, k3, k4⟩, kE, kG, kT, kD⟩ := hT.1.1
    rw [hx, kD k hk]
    refine hQ σ1 w1.tu (tt_mem hT w1 (by decide) ⟨⟨w1.ok hT.ok, ?_, ?_, ?_⟩, ?_, ?_, ?_, ?_⟩ (hT.1.2.1.tw w1 (by decide)) (hT.1.2.2.tw w1 (by decide)) rfl)
    · rw [w1.I (by decide)]; exact k2
    · rw [w1.I (by decide)]; exact k3
    · rw [w1.I (by decide)]; exact k4
    · intro e he
      rw [w1.A (by decide), w1.A (by decide), w1.A (by decide), w1.A (by decide), w1.A (by decide), w1.A (by decide)]
      exact kE e he
    · intro g hg
      rw [w1.A (by decide)]
      exact kG g hg
    · intro i hi
      rw [w1.A (by decide), w1.A (by decide)]
      exact kT i hi
    · intro i hi
      rw [z1]
      show _ = nI (up (S.1 15) k v' i)
      by_cases z : i = k
      · rw [z, upd_s, up_s]; exact ev
      · rw [upd_n z, up_n z]; exact kD i hi
  · rw [if_neg h2]
    refine b27 ?_
    unfold o_distinct
    rw [ea]
    dsimp only
    rw [if_neg v0, ev, num_hi (N := 1000001) (by
      rw [ev] at h2
      exact nI_le (Nat.lt_of_not_le (fun z => h2 (show nI v' ≤ nI 1000000 from nI_le z (by decide)))) v2)]
end PT
