set_option linter.unusedVariables false
set_option maxRecDepth 10000
/-! ===== component: rows ===== -/
section PC
variable {σ τ υ : wS} {m F : Nat} {s : mS}
/-- rows of a group that the first i expressions tell -/
def pv (s : mS) (i g : Nat) : Nat := if lsu s i g = none then 0 else rwu s i g
def CP (σ : wS) (m : Nat) (s : mS) (i : Nat) : Prop := oI σ 2318 m = 1 ∧ ∀ g, g < mG s → R s g = g → aI σ 2317 m g = nI (pv s i g)
theorem pv_ok {e : Nat} (hs : Sh s) (l : Lo s) (hb : Tb s) (he : e < mN s) {g : Nat} (h : ∃ e', e' < e ∧ s 8 e' = 0 ∧ R s (s 6 e') = R s g) : pv s e (R s g) = rwu s e (R s g) ∧ 1 ≤ rwu s e (R s g) ∧ rwu s e (R s g) ≤ 1000000 := by
  obtain ⟨e', h1, h2, h3⟩ := h
  obtain ⟨f, hf, -⟩ := lsu_of h1 h2 h3
  have hne : lsu s e (R s g) ≠ none := by rw [hf]; exact fun z => (nomatch z)
  refine ⟨?_, rwu_le hs l hb e (by omega) _ hne⟩
  unfold pv
  rw [if_neg hne]
theorem c_xrows {Q : Int32 → wS → Prop} {rc : wS → Nat → Int32 → (Int32 → wS → Prop) → Prop} {o e : Nat} (hC : CM σ m s) (hs : Sh s) (l : Lo s) (hb : Tb s) (hN : mN s ≤ 64) (he : e < mN s) (h8 : s 8 e = 0) (ho : aR σ 102308 m e = some o) (hrc : ∀ g (Q : Int32 → wS → Prop), g < mG s → Q (nI (pv s e (R s g))) σ → rc σ m (nI g) Q) (hQ : Q (nI (xrw s (rwu s e) e)) σ) : v_X32v_rows F rc σ o (some m) Q := by
  obtain ⟨⟨o', a1, a2⟩, a3, a4, a5, a6⟩ := hC.2.1 e he
  rw [a1] at ho
  cases ho
  have hk := sx_2 hs he
  have d := sh_bnd hs he
  obtain ⟨b1, b2⟩ := l.1 e he h8
  have ve := vp_inN (show e < 64 by omega) (by decide)
  have ce : (nI e).toNatClampNeg = e := nI_clamp (by omega)
  have x32 : ∀ Q' : Int32 → wS → Prop, s 2 e ≠ 1 → Q' (nI (rwu s e (R s (s 4 e)))) σ → w_X32_rows F rc σ o (some m) Q' := fun Q' k1 q => by
    obtain ⟨g, g1, g2, g3⟩ := a3 k1
    obtain ⟨p1, -, -⟩ := pv_ok hs l hb he (b1 k1)
    unfold w_X32_rows
    refine ⟨m, rfl, hC.1.1, a2.oS hk, ?_⟩
    rw [a2.2.1, ce, g1]
    exact ⟨ve, hrc g _ g2 (by rw [g3, p1]; exact q)⟩
  unfold xrw at hQ
  have hks := kd5 hk
  have x37 : ∀ Q' : Int32 → wS → Prop, 5 ≤ s 2 e → Q' (nI (jn s (rwu s e) e)) σ → w_X37_rows F rc σ o (some m) Q' := fun Q' k5 q => by
    obtain ⟨g, g1, g2, g3⟩ := a4 k5
    obtain ⟨p1, q1, q2⟩ := pv_ok hs l hb he (b1 (by omega))
    obtain ⟨p1', q1', q2'⟩ := pv_ok hs l hb he (b2 k5)
    have p4 := sx_p4 hs he (by omega)
    obtain ⟨t1, t2⟩ := hb.2 _ p4
    unfold w_X37_rows
    refine ⟨?_, x32 _ (by omega) ⟨m, rfl, hC.1.1, ?_⟩⟩
    · unfold oS137
      rw [a2.1]
      rcases hks with z | z | z | z | z <;> first | omega | (rw [z.1]; decide)
    · rw [a2.2.1, ce, g1]
      refine ⟨ve, hrc g _ g2 ?_⟩
      rw [g3, p1', a2.2.2, nI_clamp (by omega), hC.2.2.2.2 _ p4, nI_l (by omega), nI_l (by omega), nI_l (by omega), lN_mul]
      unfold jn at q
      generalize rwu s e (R s (s 4 e)) = x at q q1 q2 ⊢
      generalize rwu s e (R s (s 5 e)) = y at q q1' q2' ⊢
      generalize s 15 (s 3 e) = v at q t1 t2 ⊢
      have hxy : x * y ≤ 1000000 * 1000000 := Nat.mul_le_mul q2 q2'
      have hd : x * y / v ≤ x * y := Nat.div_le_self _ _
      refine ⟨vp_inN (by omega) (by decide), fun z => absurd ((pk_lEQ (b := 0) (by omega) (by decide)).mp z) (by omega), ?_⟩
      rw [pk_lDiv (by omega) (by omega) (by omega), show (1000000 : Int64) = lN 1000000 from rfl, show (1 : Int64) = lN 1 from rfl]
      have e1 : (if lN (x * y / v) < lN 1000000 then lN (x * y / v) else lN 1000000) = lN (min 1000000 (x * y / v)) := by
        by_cases z : x * y / v < 1000000
        · rw [if_pos ((pk_lLT (by omega) (by decide)).mpr z), Nat.min_eq_right (by omega)]
        · rw [if_neg (fun w => z ((pk_lLT (by omega) (by decide)).mp w)), Nat.min_eq_left (by omega)]
      rw [e1]
      have e2 : (if lN (min 1000000 (x * y / v)) < lN 1 then lN 1 else lN (min 1000000 (x * y / v))) = lN (max 1 (min 1000000 (x * y / v))) := by
        have hm : min 1000000 (x * y / v) ≤ 1000000 := Nat.min_le_left _ _
        by_cases z : min 1000000 (x * y / v) < 1
        · rw [if_pos ((pk_lLT (by omega) (by decide)).mpr z), Nat.max_eq_left (by omega)]
        · rw [if_neg (fun w => z ((pk_lLT (by omega) (by decide)).mp w)), Nat.max_eq_right (by omega)]
      rw [e2, lN_i]
      exact q
  unfold v_X32v_rows
  rcases hks with ⟨z, k⟩ | ⟨z, k⟩ | ⟨z, k⟩ | ⟨z, k⟩ | ⟨z, k⟩
  · rw [a2.1, z, if_pos rfl]
    rw [if_pos k] at hQ
    have hp := sx_p1 hs he k
    have h8' := hs.2.2.2.1
    obtain ⟨o2, t1, t2⟩ := hC.2.2.2.1 _ hp
    unfold w_X33_rows
    refine ⟨m, rfl, hC.1.1, ?_⟩
    rw [a2.2.2, nI_clamp (by omega)]
    refine ⟨by show oC σ o = 34; rw [a2.1, z], vp_inN (by omega) (by decide), o2, t1, t2.1, ?_⟩
    rw [t2.2.1]
    exact hQ
  · rw [a2.1, z, if_neg (by decide), if_pos rfl]
    rw [if_neg (by omega), if_pos k] at hQ
    obtain ⟨-, q1, q2⟩ := pv_ok hs l hb he (b1 (by omega))
    unfold w_X35_rows
    refine ⟨by show oC σ o = 36; rw [a2.1, z], x32 _ (by omega) ?_⟩
    have em : (if nI (s 3 e) - nI (s 3 e) / (2 : Int32) * (2 : Int32) = 0 then (10 : Int32) else (2 : Int32)) = nI (if s 3 e % 2 = 0 then 10 else 2) := by
      rw [show nI (s 3 e) - nI (s 3 e) / (2 : Int32) * (2 : Int32) = nI (s 3 e % 2) from mod_I (b := 2) (by omega) (by decide) (by decide)]
      by_cases y : s 3 e % 2 = 0
      · rw [if_pos (by rw [y]; rfl), if_pos y]; rfl
      · rw [if_neg (show ¬ nI (s 3 e % 2) = (0 : Int32) from nI_eqf (b := 0) (by omega) (by decide) y), if_neg y]; rfl
    rw [a2.2.2, em]
    have hd2 : 2 ≤ (if s 3 e % 2 = 0 then 10 else 2) ∧ (if s 3 e % 2 = 0 then 10 else 2) ≤ 10 := by split <;> omega
    generalize (if s 3 e % 2 = 0 then 10 else 2) = v at hQ hd2 ⊢
    generalize rwu s e (R s (s 4 e)) = x at hQ q1 q2 ⊢
    have hd : x / v ≤ x := Nat.div_le_self _ _
    refine ⟨nI_eqf (b := 0) (by omega) (by decide) (by omega), ?_⟩
    rw [div_I (by omega) (by omega) (by omega)]
    have e2 : (if (1 : Int32) < nI (x / v) then nI (x / v) else (1 : Int32)) = nI (max 1 (x / v)) := by
      by_cases y : 1 < x / v
      · rw [if_pos (show (1 : Int32) < nI (x / v) from nI_lt (a := 1) y (by omega)), Nat.max_eq_right (by omega)]
      · rw [if_neg (show ¬ (1 : Int32) < nI (x / v) from nI_nlt (a := 1) (by omega) (by decide)), Nat.max_eq_left (by omega)]; rfl
    rw [e2]
    exact hQ
  · rw [a2.1, z, if_neg (by decide), if_neg (by decide), if_pos rfl]
    rw [if_neg (by omega), if_neg (by omega), if_pos k] at hQ
    obtain ⟨-, q1, q2⟩ := pv_ok hs l hb he (b1 (by omega))
    have p4 := sx_p4 hs he (by omega)
    obtain ⟨t1, t2⟩ := hb.2 _ p4
    unfold w_X36_rows
    refine ⟨by show oC σ o = 37; rw [a2.1, z], x32 _ (by omega) ⟨m, rfl, hC.1.1, ?_⟩⟩
    rw [a2.2.2, nI_clamp (by omega), hC.2.2.2.2 _ p4, minI (by omega) (by omega)]
    exact ⟨vp_inN (by omega) (by decide), hQ⟩
  · rw [a2.1, z, if_neg (by decide), if_neg (by decide), if_neg (by decide), if_pos rfl]
    rw [if_neg (by omega), if_neg (by omega), if_neg (by omega), if_pos k] at hQ
    exact x37 _ (by omega) hQ
  · rw [a2.1, z, if_neg (by decide), if_neg (by decide), if_neg (by decide), if_neg (by decide), if_pos rfl]
    rw [if_neg (by omega), if_neg (by omega), if_neg (by omega), if_neg (by omega)] at hQ
    obtain ⟨g, g1, g2, g3⟩ := a3 (by omega)
    obtain ⟨p1, q1, q2⟩ := pv_ok hs l hb he (b1 (by omega))
    have hj : 1 ≤ jn s (rwu s e) e ∧ jn s (rwu s e) e ≤ 1000000 := by unfold jn; omega
    unfold w_X38_rows
    refine ⟨m, rfl, hC.1.1, by show oC σ o = 39; rw [a2.1, z], ?_⟩
    rw [a2.2.1, ce, g1]
    refine ⟨ve, hrc g _ g2 ?_⟩
    rw [g3, p1]
    refine x37 _ (by omega) ?_
    rw [minI (by omega) (by omega)]
    exact hQ
theorem c_rows11 {Q : Int32 → wS → Prop} {rc : wS → Nat → Int32 → (Int32 → wS → Prop) → Prop} {g i : Nat} (hC : CM σ m s) (hs : Sh s) (hN : mN s ≤ 64) (hP : CP σ m s i) (hg : g < mG s) (hF : 200 ≤ F) (hQ : Q (nI (pv s i (R s g))) σ) : b_X22_rowsOf_11 F rc m (nI g) Q σ := by
  have hb2 := hs.2.1
  have r := sh_lt hs hg
  unfold b_X22_rowsOf_11
  refine ⟨hC.1.1, c_find hC hs hN hg (by omega) ?_⟩
  rw [nI_clamp (by omega), hP.2 _ r (sh_RR hs hg)]
  exact ⟨vp_inN (by omega) (by decide), hQ⟩
/-- counted already -/
theorem c_rows1 {Q : Int32 → wS → Prop} {D g i : Nat} (hC : CM σ m s) (hs : Sh s) (hN : mN s ≤ 64) (hP : CP σ m s i) (hg : g < mG s) (hF : 200 ≤ F) (hD : 1 ≤ D) (hQ : Q (nI (pv s i (R s g))) σ) : w_X22_rowsOf F D σ m (nI g) Q := by
  obtain ⟨n, rfl⟩ : ∃ n, D = n + 1 := ⟨D - 1, by omega⟩
  show wm_X22_rowsOf F (w_X22_rowsOf F n) σ m (nI g) Q
  unfold wm_X22_rowsOf
  rw [hP.1, if_neg (by decide)]
  exact ⟨hC.1.1, c_rows11 hC hs hN hP hg hF hQ⟩
theorem c_count15 {Q : wS → Prop} {D : Nat} {σ0 : wS} (hs : Sh s) (l : Lo s) (hb : Tb s) (hN : mN s ≤ 64) (hF : 200 ≤ F) (hD : 1 ≤ D) (hQ : ∀ τ, Tw [2317] m σ0 τ → CM τ m s → CP τ m s (mN s) → Q τ) : ∀ n i σ, i ≤ mN s → mN s - i < n → Tw [2317] m σ0 σ → CM σ m s → CP σ m s i → l_X22_count_15 F (w_X22_rowsOf F D) m Q n σ (nI i) := by
  have hb2 := hs.2.1
  intro n
  induction n with
  | zero => intro i σ _ h; omega
  | succ n ih =>
    intro i σ hi hn W hC hP
    unfold l_X22_count_15
    rw [hC.1.2.2.1]
    refine ⟨hC.1.1, ?_⟩
    by_cases c : i = mN s
    · rw [if_pos (nI_le (by omega) (by omega))]
      rw [c] at hP
      exact hQ σ W hC hP
    · have hi' : i < mN s := by omega
      have d := sh_bnd hs hi'
      have r6 := sh_lt hs d.2.2.1
      have rr := sh_RR hs d.2.2.1
      rw [if_neg (nI_ge hi' (by omega)), nI_clamp (by omega), (hC.2.1 i hi').2.2.2.1]
      refine ⟨vp_inN (by omega) (by decide), ?_⟩
      have keep : (∀ g, g < mG s → R s g = g → pv s (i + 1) g = pv s i g) → l_X22_count_15 F (w_X22_rowsOf F D) m Q n σ (nI i + (1 : Int32)) := fun e => by
        rw [nIl_1, nI_add]
        exact ih (i + 1) σ (by omega) (by omega) W hC ⟨hP.1, fun g h1 h2 => by rw [e g h1 h2]; exact hP.2 g h1 h2⟩
      have same : ∀ g, ¬ (lsu s i g = none ∧ s 8 i = 0 ∧ R s (s 6 i) = g) → pv s (i + 1) g = pv s i g := fun g z => by
        unfold pv
        rw [lsu_succ]
        cases h : lsu s i g with
        | some f =>
          dsimp only
          rw [if_neg (fun z => (nomatch z)), if_neg (fun z => (nomatch z))]
          exact (rwu_set (m := i + 1) (by rw [h]; exact fun z => (nomatch z)) (by omega)).1
        | none =>
          dsimp only
          rw [if_neg (fun y => z ⟨h, y⟩), if_pos rfl, if_pos rfl]
      by_cases c8 : s 8 i = 0
      · rw [if_pos ((nI_n0 (by omega)).mpr c8)]
        refine c_home hC hs hN hi' (by omega) ?_
        rw [nI_clamp (by omega), hP.2 _ r6 rr]
        refine ⟨vp_inN (by omega) (by decide), ?_⟩
        by_cases q : lsu s i (R s (s 6 i)) = none
        · have e0 : pv s i (R s (s 6 i)) = 0 := by unfold pv; rw [if_pos q]
          rw [e0, if_pos (show nI 0 = (0 : Int32) from rfl)]
          refine c_home hC hs hN hi' (by omega) ?_
          obtain ⟨o, a1, -⟩ := (hC.2.1 i hi').1
          rw [a1]
          refine ⟨o, rfl, c_xrows hC hs l hb hN hi' c8 a1 (fun g Q' hg hq => c_rows1 hC hs hN hP hg hF hD hq) ⟨vp_inN (by omega) (by decide), bnd_sA fun τ w v _ _ => ?_⟩⟩
          rw [nI_clamp (by omega)] at v
          rw [nIl_1, nI_add]
          refine ih (i + 1) τ (by omega) (by omega) (W.trans w) (hC.tw w (by decide)) ⟨by rw [w.I (by decide)]; exact hP.1, fun g h1 h2 => ?_⟩
          rw [v]
          by_cases z : g = R s (s 6 i)
          · subst z
            rw [upd_s]
            congr 1
            unfold pv
            rw [lsu_succ, q]
            dsimp only
            rw [if_pos (show s 8 i = 0 ∧ R s (s 6 i) = R s (s 6 i) from ⟨c8, rfl⟩), if_neg (fun z => (nomatch z))]
            show _ = (if lsu s i (R s (s 6 i)) = none ∧ s 8 i = 0 ∧ R s (s 6 i) = R s (s 6 i) then xrw s (rwu s i) i else rwu s i _)
            rw [if_pos ⟨q, c8, rfl⟩]
          · rw [upd_n z, same g (fun y => z y.2.2.symm)]
            exact hP.2 g h1 h2
        · have e1 : 1 ≤ pv s i (R s (s 6 i)) ∧ pv s i (R s (s 6 i)) ≤ 1000000 := by
            unfold pv
            rw [if_neg q]
            exact rwu_le hs l hb i (by omega) _ q
          rw [if_neg (show ¬ nI (pv s i (R s (s 6 i))) = (0 : Int32) from nI_eqf (b := 0) (by omega) (by decide) (by omega))]
          exact keep (fun g _ _ => same g (fun y => q (by rw [y.2.2]; exact y.1)))
      · rw [if_neg (fun z => c8 ((nI_n0 (by omega)).mp z))]
        exact keep (fun g _ _ => same g (fun y => c8 y.2.1))
theorem pv_all (l : Lo s) {g : Nat} (hg : g < mG s) (hr : R s g = g) : pv s (mN s) g = rw' s g := by
  obtain ⟨e, e1, e2, e3⟩ := l.2.1 g hg
  rw [hr] at e3
  obtain ⟨f, hf, -⟩ := lsu_of e1 e2 e3
  unfold pv
  rw [hf, if_neg (fun z => (nomatch z))]
  rfl
abbrev GRw : List Nat := [2317, 2318]
theorem c_rowsOf {Q : Int32 → wS → Prop} {D g : Nat} (hC : CM σ m s) (hc : CN σ m s) (hs : Sh s) (l : Lo s) (hb : Tb s) (hN : mN s ≤ 64) (hg : g < mG s) (hF : 200 ≤ F) (hD : 2 ≤ D) (hQ : ∀ τ, Tw GRw m σ τ → CM τ m s → CN τ m s → Q (nI (rw' s (R s g))) τ) : w_X22_rowsOf F D σ m (nI g) Q := by
  obtain ⟨n, rfl⟩ : ∃ n, D = n + 1 := ⟨D - 1, by omega⟩
  have r := sh_lt hs hg
  have rr := sh_RR hs hg
  have cp : ∀ {τ' : wS}, CP τ' m s (mN s) → CN τ' m s := fun h => Or.inr ⟨h.1, fun g h1 h2 => by rw [h.2 g h1 h2, pv_all l h1 h2]⟩
  show wm_X22_rowsOf F (w_X22_rowsOf F n) σ m (nI g) Q
  unfold wm_X22_rowsOf
  refine ⟨hC.1.1, ?_⟩
  rcases hc with h | h
  · rw [h, if_pos rfl]
    unfold w_X22_count
    refine ⟨hC.1.1, bnd_sI fun τ1 w1 v1 _ _ => bnd_sA fun τ2 w2 v2 _ _ => ?_⟩
    have W2 : Tw GRw m σ τ2 := (w1.mono (by decide)).up w2 (by decide)
    have C2 := hC.tw W2 (by decide)
    refine c_count15 hs l hb hN hF (by omega) (fun τ w C P => ?_) F 0 τ2 (by omega) (by omega) Tw.refl C2 ⟨by rw [w2.I (by decide)]; exact v1, fun g hg' _ => ?_⟩
    · refine c_rows11 C hs hN P hg hF ?_
      rw [pv_all l r rr]
      exact hQ τ (W2.trans (w.mono (by decide))) C (cp P)
    · rw [v2]
      have hb2 := hs.2.1
      show (if 0 ≤ g ∧ g < 64 then (0 : Int32) else _) = _
      rw [if_pos ⟨by omega, by omega⟩]
      rfl
  · rw [h.1, if_neg (by decide)]
    have P : CP σ m s (mN s) := ⟨h.1, fun g h1 h2 => by rw [pv_all l h1 h2]; exact h.2 g h1 h2⟩
    refine c_rows11 hC hs hN P hg hF ?_
    rw [pv_all l r rr]
    exact hQ σ Tw.refl hC (Or.inr h)
end PC
