set_option linter.unusedVariables false
set_option maxRecDepth 10000
/-! ===== twin: copies, what shelves show and say, tables ===== -/
section PT
variable {σ τ : wS} {t F : Nat} {s : mS} {S : gS}
theorem up_id {f : Nat → Nat} {i : Nat} : up f i (f i) = f := by
  funext j
  by_cases q : j = i
  · rw [q, up_s]
  · rw [up_n q]
theorem t_show {Q : Int32 → wS → Prop} {a e : Int32} (hT : TT σ t S) (hN : mN S.1 ≤ 64) (hQ : ∀ τ, Tu t σ τ → TT τ t (o_show S a e).2 → Q (o_show S a e).1 τ) : w_X24_show σ t a e Q := by
  unfold w_X24_show
  have b21 : o_show S a e = noA S 1 → b_X24_show_21 t Q σ := fun e2 => by
    rw [e2] at hQ
    exact ⟨hT.ok, t_no 1 (by decide) rfl hT hQ⟩
  refine ⟨hT.ok, t_isShelf (fun ea => ?_) (fun k hk ha ea => ?_)⟩
  · rw [if_pos rfl]
    exact b21 (by unfold o_show; rw [ea])
  rw [if_neg (by decide), ha]
  by_cases q : e = -1
  · rw [if_pos q]
    have e2 : o_show S a e = (0, sAp S 1 (up (S.2.1 1) k 0)) := by unfold o_show; rw [ea]; exact if_pos q
    rw [e2] at hQ
    refine t_show27 (v := 0) (w := S.2.1 4 k) (r := 0) hT hk (by rw [if_pos q]; rfl) (by rw [if_pos q]) (fun z => absurd z (by decide)) (Or.inl rfl) ?_
    rw [up_id, st_id (s := st S.2.1 1 (up (S.2.1 1) k 0)) (k := 4) (f := S.2.1 4) rfl]
    exact hQ
  · rw [if_neg q]
    refine t_isExpr hT.1.1 (by omega) (fun ee => ?_) (fun x hx hxe ee => ?_)
    · rw [if_pos rfl]
      exact b21 (by unfold o_show; rw [ea]; simp only [if_neg q, ee])
    · rw [if_neg (by decide)]
      have e2 : o_show S a e = (1, sAp (sAp S 1 (up (S.2.1 1) k 2)) 4 (up (S.2.1 4) k x)) := by unfold o_show; rw [ea]; simp only [if_neg q, ee]
      rw [e2] at hQ
      exact t_show27 (v := 2) (w := x) (r := 1) hT hk (by rw [if_neg q]; rfl) (by rw [if_neg q]) (fun _ => hxe) (Or.inr rfl) hQ
theorem t_cp1 {Q : Int32 → wS → Prop} {kk : wS → Prop} {σ0 : wS} {a2 a4 : Int32} {p i m : Nat} (ok : ok24 σ0 t) (hm : m ≤ 160) (hb : 160 * p + i + m ≤ 1280) (hQ : ∀ τ, Tw [12529] t σ0 τ → (∀ j, j < m → aJ τ 12529 t j = aJ σ0 12528 t (160 * p + i + j)) → kk τ) : ∀ n x σ, x ≤ m → m - x < n → Tw [12529] t σ0 σ → (∀ j, j < x → aJ σ 12529 t j = aJ σ0 12528 t (160 * p + i + j)) → l_X24_copy_167 F t (nI p) a2 (nI i) a4 (nI m) Q kk n σ (nI x) := by
  intro n
  induction n with
  | zero => intro x σ h1 h2; omega
  | succ n ih =>
    intro x σ h1 h2 w e
    unfold l_X24_copy_167
    by_cases q : x = m
    · rw [q] at e
      rw [if_pos (by rw [q]; exact nI_le (Nat.le_refl m) (by omega))]
      exact hQ σ w e
    · rw [if_neg (nI_ge (by omega) (by omega)), nIl_160, nI_mul, nI_add, nI_add, nI_clamp (by omega), nI_clamp (by omega)]
      refine ⟨w.ok ok, vp_inN (by omega) (by decide), vp_inN (by omega) (by decide), bnd_sAJ fun τ w1 v1 _ _ => ?_⟩
      rw [nIl_1, nI_add]
      refine ih (x + 1) τ (by omega) (by omega) (w.trans w1) (fun j hj => ?_)
      rw [v1]
      by_cases z : j = x
      · rw [z, updL_s, w.AJ (by decide)]
      · rw [updL_n z]; exact e j (by omega)
theorem t_cp2 {Q : Int32 → wS → Prop} {σ0 : wS} {p i m : Nat} (ok : ok24 σ0 t) (hm : m ≤ 160) (hb : 160 * p + i + m ≤ 1280) (hQ : ∀ τ, Tw [12528] t σ0 τ → (∀ j, j < 1280 → aJ τ 12528 t j = if 160 * p + i ≤ j ∧ j < 160 * p + i + m then aJ σ0 12529 t (j - (160 * p + i)) else aJ σ0 12528 t j) → Q 1 τ) : ∀ n x σ, x ≤ m → m - x < n → Tw [12528] t σ0 σ → (∀ j, j < 1280 → aJ σ 12528 t j = if 160 * p + i ≤ j ∧ j < 160 * p + i + x then aJ σ0 12529 t (j - (160 * p + i)) else aJ σ0 12528 t j) → l_X24_copy_205 F t (nI p) (nI i) (nI m) Q n σ (nI x) := by
  intro n
  induction n with
  | zero => intro x σ h1 h2; omega
  | succ n ih =>
    intro x σ h1 h2 w e
    unfold l_X24_copy_205
    by_cases q : x = m
    · rw [q] at e
      rw [if_pos (by rw [q]; exact nI_le (Nat.le_refl m) (by omega))]
      exact hQ σ w e
    · rw [if_neg (nI_ge (by omega) (by omega)), nIl_160, nI_mul, nI_add, nI_add, nI_clamp (by omega), nI_clamp (by omega)]
      refine ⟨w.ok ok, vp_inN (by omega) (by decide), vp_inN (by omega) (by decide), bnd_sAJ fun τ w1 v1 _ _ => ?_⟩
      rw [nIl_1, nI_add]
      refine ih (x + 1) τ (by omega) (by omega) (w.trans w1) (fun j hj => ?_)
      rw [v1]
      by_cases z : j = 160 * p + i + x
      · rw [z, updL_s, w.AJ (by decide), if_pos (by omega)]
        rw [show 160 * p + i + x - (160 * p + i) = x by omega]
      · rw [updL_n z, e j hj]
        by_cases y : 160 * p + i ≤ j ∧ j < 160 * p + i + x
        · rw [if_pos y, if_pos (by omega)]
        · rw [if_neg y, if_neg (by omega)]
theorem t_copy {Q : Int32 → wS → Prop} {a b i j n : Int32} (hT : TT σ t S) (hA : AV S) (hF : 1000 ≤ F) (hQ : ∀ τ, Tu t σ τ → TT τ t (o_copy S a b i j n).2 → Q (o_copy S a b i j n).1 τ) : w_X24_copy F σ t a b i j n Q := by
  unfold w_X24_copy
  refine ⟨hT.ok, t_isShelf (fun ea => ?_) (fun p hp hpa ea => ?_)⟩
  · rw [if_pos rfl]
    have e2 : o_copy S a b i j n = noA S 1 := by unfold o_copy; rw [ea] <;> cases num 8 b <;> rfl
    rw [e2] at hQ
    exact ⟨hT.ok, t_no 1 (by decide) rfl hT hQ⟩
  rw [if_neg (by decide)]
  refine t_isShelf (fun eb => ?_) (fun q hq hqa eb => ?_)
  · rw [if_pos rfl]
    have e2 : o_copy S a b i j n = noA S 1 := by unfold o_copy; rw [ea, eb]
    rw [e2] at hQ
    exact ⟨hT.ok, t_no 1 (by decide) rfl hT hQ⟩
  obtain ⟨p1, p2, p3, p4⟩ := hA p hp
  obtain ⟨q1, q2, q3, q4⟩ := hA q hq
  obtain ⟨g1, g2, g3, -⟩ := hT.2.1.2.1 p hp
  obtain ⟨h1, h2, h3, -⟩ := hT.2.1.2.1 q hq
  have eo : o_copy S a b i j n = if S.2.1 1 p = 2 ∨ S.2.1 1 q = 2 ∨ S.2.1 1 p = 1 ∧ S.2.1 1 q = 1 ∧ S.2.1 2 p ≠ S.2.1 2 q then noA S 2
    else if S.2.1 1 p = 0 ∨ S.2.1 1 q = 0 then noA S 3
    else if n < 0 then noA S 4
    else if i < 0 ∨ j < 0 ∨ nI (S.2.1 3 p) - n < i ∨ nI (S.2.1 3 q) - n < j then noA S 5
    else (1, sCl S (cpy S.2.2.2.1 (160 * p + i.toNatClampNeg) (160 * q + j.toNatClampNeg) n.toNatClampNeg)) := by unfold o_copy; rw [ea, eb]
  rw [eo] at hQ
  rw [if_neg (by decide), hpa, hqa, nI_clamp (by omega), nI_clamp (by omega), g1, g2, h1, h2]
  refine ⟨vp_inN hp (by decide), ?_⟩
  have b77 : (S.2.1 1 p = 2 ∨ S.2.1 1 q = 2 ∨ S.2.1 1 p = 1 ∧ S.2.1 1 q = 1 ∧ S.2.1 2 p ≠ S.2.1 2 q) → b_X24_copy_77 F t Q σ := fun z => by
    rw [if_pos z] at hQ
    exact ⟨hT.ok, t_no 2 (by decide) rfl hT hQ⟩
  have b84 : ¬ (S.2.1 1 p = 2 ∨ S.2.1 1 q = 2 ∨ S.2.1 1 p = 1 ∧ S.2.1 1 q = 1 ∧ S.2.1 2 p ≠ S.2.1 2 q) → b_X24_copy_84 F t (nI p) (nI q) i j n Q σ := fun z => by
    rw [if_neg z] at hQ
    unfold b_X24_copy_84
    rw [nI_clamp (by omega), nI_clamp (by omega), g1, h1, g3, h3]
    refine ⟨hT.ok, vp_inN hp (by decide), ?_⟩
    have b102 : (S.2.1 1 p = 0 ∨ S.2.1 1 q = 0) → b_X24_copy_102 F t Q σ := fun z => by
      rw [if_pos z] at hQ
      exact ⟨hT.ok, t_no 3 (by decide) rfl hT hQ⟩
    by_cases z1 : S.2.1 1 p = 0
    · rw [if_pos (by rw [z1]; rfl)]; exact b102 (Or.inl z1)
    rw [if_neg (show ¬ nI (S.2.1 1 p) = (0 : Int32) from nI_eqf (b := 0) (by omega) (by decide) z1)]
    refine ⟨vp_inN hq (by decide), ?_⟩
    by_cases z2 : S.2.1 1 q = 0
    · rw [if_pos (by rw [z2]; rfl)]; exact b102 (Or.inr z2)
    rw [if_neg (show ¬ nI (S.2.1 1 q) = (0 : Int32) from nI_eqf (b := 0) (by omega) (by decide) z2)]
    rw [if_neg (fun z => z.elim z1 z2)] at hQ
    by_cases hn : n < 0
    · rw [if_neg (c_nle hn)]
      rw [if_pos hn] at hQ
      exact t_no 4 (by decide) rfl hT hQ
    rw [if_pos (c_le0 hn)]
    rw [if_neg hn] at hQ
    have b157 : (i < 0 ∨ j < 0 ∨ nI (S.2.1 3 p) - n < i ∨ nI (S.2.1 3 q) - n < j) → b_X24_copy_157 F t Q σ := fun z => by
      rw [if_pos z] at hQ
      exact ⟨hT.ok, t_no 5 (by decide) rfl hT hQ⟩
    by_cases y1 : i < 0
    · rw [if_pos y1]; exact b157 (Or.inl y1)
    rw [if_neg y1]
    by_cases y2 : j < 0
    · rw [if_pos y2]; exact b157 (Or.inr (Or.inl y2))
    rw [if_neg y2]
    by_cases y3 : nI (S.2.1 3 p) - n < i
    · rw [if_pos y3]; exact b157 (Or.inr (Or.inr (Or.inl y3)))
    rw [if_neg y3]
    by_cases y4 : nI (S.2.1 3 q) - n < j
    · rw [if_neg (Int32.not_le.mpr y4)]; exact b157 (Or.inr (Or.inr (Or.inr y4)))
    rw [if_pos (Int32.not_lt.mp y4)]
    rw [if_neg (fun z => z.elim (fun z => y1 z) (fun z => z.elim (fun z => y2 z) (fun z => z.elim (fun z => y3 z) (fun z => y4 z))))] at hQ
    obtain ⟨m, hm, rfl⟩ := nI_of hn
    obtain ⟨i', hi, rfl⟩ := nI_of y1
    obtain ⟨j', hj, rfl⟩ := nI_of y2
    rw [sub_lt (by omega) hm hi] at y3
    rw [sub_lt (by omega) hm hj] at y4
    rw [nI_clamp hm, nI_clamp hi, nI_clamp hj] at hQ
    refine t_cp1 hT.ok (by omega) (by omega) (fun σ1 w1 v1 => ?_) F 0 σ (by omega) (by omega) Tw.refl (fun j h => absurd h (by omega))
    refine t_cp2 (w1.ok hT.ok) (by omega) (by omega) (fun σ2 w2 v2 => ?_) F 0 σ1 (by omega) (by omega) Tw.refl (fun j h => by rw [if_neg (by omega)])
    have W : Tw [12528, 12529] t σ σ2 := (Tw.mono w1 (by decide)).trans (w2.mono (by decide))
    refine hQ σ2 W.tu (tt_cells hT W (by decide) (fun x hx => ?_))
    rw [v2 x hx]
    unfold cpy
    by_cases y : 160 * q + j' ≤ x ∧ x < 160 * q + j' + m
    · rw [if_pos y, if_pos y, v1 _ (by omega)]
      exact hT.2.1.2.2.1 _ (by omega)
    · rw [if_neg y, if_neg y, w1.AJ (by decide)]
      exact hT.2.1.2.2.1 x hx
  by_cases c1 : S.2.1 1 p = 2
  · rw [if_pos (by rw [c1]; rfl)]; exact b77 (Or.inl c1)
  rw [if_neg (show ¬ nI (S.2.1 1 p) = (2 : Int32) from nI_eqf (b := 2) (by omega) (by decide) c1)]
  refine ⟨vp_inN hq (by decide), ?_⟩
  by_cases c2 : S.2.1 1 q = 2
  · rw [if_pos (by rw [c2]; rfl)]; exact b77 (Or.inr (Or.inl c2))
  rw [if_neg (show ¬ nI (S.2.1 1 q) = (2 : Int32) from nI_eqf (b := 2) (by omega) (by decide) c2)]
  by_cases c3 : S.2.1 1 p = 1
  · rw [if_pos (by rw [c3]; rfl)]
    by_cases c4 : S.2.1 1 q = 1
    · rw [if_pos (by rw [c4]; rfl)]
      by_cases c5 : S.2.1 2 p = S.2.1 2 q
      · rw [if_pos (by rw [c5])]
        exact b84 (fun z => z.elim (fun z => c1 z) (fun z => z.elim (fun z => c2 z) (fun z => z.2.2 c5)))
      · rw [if_neg (nI_eqf (by omega) (by omega) c5)]
        exact b77 (Or.inr (Or.inr ⟨c3, c4, c5⟩))
    · rw [if_neg (show ¬ nI (S.2.1 1 q) = (1 : Int32) from nI_eqf (b := 1) (by omega) (by decide) c4)]
      exact b84 (fun z => z.elim (fun z => c1 z) (fun z => z.elim (fun z => c2 z) (fun z => c4 z.2.1)))
  · rw [if_neg (show ¬ nI (S.2.1 1 p) = (1 : Int32) from nI_eqf (b := 1) (by omega) (by decide) c3)]
    exact b84 (fun z => z.elim (fun z => c1 z) (fun z => z.elim (fun z => c2 z) (fun z => c3 z.1)))
theorem isOf_d : ∀ is, is < 7 → ∀ k, k < 7 → (if nI k = 0 then (1 : Int32) else if nI is = nI k then (1 : Int32) else if nI k = (2 : Int32) then if nI is = (3 : Int32) then (1 : Int32) else if nI is = (4 : Int32) then (1 : Int32) else if nI k = (5 : Int32) then if nI is = (6 : Int32) then (1 : Int32) else (0 : Int32) else (0 : Int32) else if nI k = (5 : Int32) then if nI is = (6 : Int32) then (1 : Int32) else (0 : Int32) else (0 : Int32)) = if isOf is k = true then 1 else 0 := by decide
theorem t_says {Q : Int32 → wS → Prop} {a b : Int32} (hT : TT σ t S) (hA : AV S) (hs : Sh S.1) (hN : mN S.1 ≤ 64) (hF : 1000 ≤ F) (hQ : ∀ τ, Tu t σ τ → TT τ t (o_says S a b).2 → Q (o_says S a b).1 τ) : w_X24_says F σ t a b Q := by
  unfold w_X24_says
  refine ⟨hT.ok, t_isShelf (fun ea => ?_) (fun p hp hpa ea => ?_)⟩
  · rw [if_pos rfl]
    have e2 : o_says S a b = noA S 1 := by unfold o_says; rw [ea] <;> cases num 7 b <;> rfl
    rw [e2] at hQ
    exact ⟨hT.ok, t_no 1 (by decide) rfl hT hQ⟩
  rw [if_neg (by decide)]
  refine t_isFrom (N := 6) (by decide) rfl (fun eb => ?_) (fun k hk hkb eb => ?_)
  · rw [if_pos rfl]
    have e2 : o_says S a b = noA S 1 := by unfold o_says; rw [ea, eb]
    rw [e2] at hQ
    exact ⟨hT.ok, t_no 1 (by decide) rfl hT hQ⟩
  obtain ⟨p1, p2, p3, p4⟩ := hA p hp
  obtain ⟨g1, g2, g3, g4⟩ := hT.2.1.2.1 p hp
  have eo : o_says S a b = if S.2.1 1 p = 1 ∨ S.2.1 1 p = 2 ∧ isOf (S.1 2 (S.2.1 4 p)) k = false then noA S 2
    else if S.2.1 1 p = 0 then noA S 3
    else (if k = 0 then (if S.1 8 (S.2.1 4 p) = 0 then nI (R S.1 (S.1 6 (S.2.1 4 p))) else 99)
      else if k = 2 then (if S.1 8 (S.2.1 4 p) = 0 then nI (R S.1 (S.1 4 (S.2.1 4 p))) else 99)
      else if k = 6 then nI (10 + S.1 3 (S.2.1 4 p)) else nI (S.1 3 (S.2.1 4 p)), S) := by unfold o_says; rw [ea, eb]
  rw [eo] at hQ
  rw [if_neg (by decide), hpa, hkb, nI_clamp (by omega), g1]
  refine ⟨vp_inN hp (by decide), ?_⟩
  have b64 : (S.2.1 1 p = 1 ∨ S.2.1 1 p = 2 ∧ isOf (S.1 2 (S.2.1 4 p)) k = false) → b_X24_says_64 F t Q σ := fun z => by
    rw [if_pos z] at hQ
    exact ⟨hT.ok, t_no 2 (by decide) rfl hT hQ⟩
  by_cases c1 : S.2.1 1 p = 1
  · rw [if_pos (by rw [c1]; rfl)]; exact b64 (Or.inl c1)
  rw [if_neg (show ¬ nI (S.2.1 1 p) = (1 : Int32) from nI_eqf (b := 1) (by omega) (by decide) c1)]
  by_cases c2 : S.2.1 1 p = 2
  · have he := p4 c2
    obtain ⟨m1, m2, m3, m4, m5, m6⟩ := hT.1.1.2.1 _ he
    obtain ⟨s1, s2, s3, s4⟩ := sh_bnd hs he
    rw [if_pos (by rw [c2]; rfl), g4 c2, nI_clamp (by omega), m1]
    refine ⟨vp_inN (by omega) (by decide), ?_⟩
    unfold w_X24_isOf
    rw [isOf_d _ s1 _ hk]
    by_cases c3 : isOf (S.1 2 (S.2.1 4 p)) k = true
    · rw [if_pos c3]
      dsimp only
      rw [if_neg (by decide)]
      rw [if_neg (fun z => z.elim (fun z => c1 z) (fun z => by rw [z.2] at c3; cases c3)), if_neg (by omega)] at hQ
      have hQ' := fun v => hQ σ Tu.refl v
      unfold b_X24_says_71
      rw [nI_clamp (by omega), g1, if_neg (show ¬ nI (S.2.1 1 p) = (0 : Int32) from nI_eqf (b := 0) (by omega) (by decide) (by omega)), g4 c2]
      refine ⟨hT.ok, vp_inN hp (by decide), fun v hv => ?_⟩
      subst hv
      have hq := hQ σ Tu.refl hT
      rw [nI_clamp (by omega)]
      by_cases k0 : k = 0
      · rw [if_pos (by rw [k0]; rfl), m6, m5]
        rw [if_pos k0] at hq
        refine ⟨vp_inN (by omega) (by decide), ?_⟩
        by_cases z : S.1 8 (S.2.1 4 p) = 0
        · rw [if_pos (by rw [z]; rfl)]
          rw [if_pos z] at hq
          exact t_root hT.1.1 hs s3 (by omega) hq
        · rw [if_neg (show ¬ nI (S.1 8 (S.2.1 4 p)) = (0 : Int32) from nI_eqf (b := 0) (by omega) (by decide) z)]
          rw [if_neg z] at hq
          exact hq
      rw [if_neg (show ¬ nI k = (0 : Int32) from nI_eqf (b := 0) (by omega) (by decide) k0)]
      rw [if_neg k0] at hq
      by_cases k2 : k = 2
      · have x1 : S.1 2 (S.2.1 4 p) ≠ 1 := fun z => by rw [z, k2] at c3; exact absurd c3 (by decide)
        rw [if_pos (by rw [k2]; rfl), m6, m3 x1]
        rw [if_pos k2] at hq
        refine ⟨vp_inN (by omega) (by decide), ?_⟩
        by_cases z : S.1 8 (S.2.1 4 p) = 0
        · rw [if_pos (by rw [z]; rfl)]
          rw [if_pos z] at hq
          exact t_root hT.1.1 hs (sx_4 hs he x1) (by omega) hq
        · rw [if_neg (show ¬ nI (S.1 8 (S.2.1 4 p)) = (0 : Int32) from nI_eqf (b := 0) (by omega) (by decide) z)]
          rw [if_neg z] at hq
          exact hq
      rw [if_neg (show ¬ nI k = (2 : Int32) from nI_eqf (b := 2) (by omega) (by decide) k2), m2]
      rw [if_neg k2] at hq
      by_cases k6 : k = 6
      · rw [if_pos (by rw [k6]; rfl), nIl_10, nI_add]
        rw [if_pos k6] at hq
        exact ⟨vp_inN (by omega) (by decide), hq⟩
      · rw [if_neg (show ¬ nI k = (6 : Int32) from nI_eqf (b := 6) (by omega) (by decide) k6)]
        rw [if_neg k6] at hq
        exact ⟨vp_inN (by omega) (by decide), hq⟩
    · rw [if_neg c3]
      dsimp only
      rw [if_pos rfl]
      exact b64 (Or.inr ⟨c2, by simpa using c3⟩)
  · rw [if_neg (show ¬ nI (S.2.1 1 p) = (2 : Int32) from nI_eqf (b := 2) (by omega) (by decide) c2)]
    unfold b_X24_says_71
    have c0 : S.2.1 1 p = 0 := by omega
    rw [if_neg (fun z => z.elim (fun z => c1 z) (fun z => c2 z.1)), if_pos c0] at hQ
    rw [nI_clamp (by omega), g1, if_pos (by rw [c0]; rfl)]
    exact ⟨hT.ok, vp_inN hp (by decide), t_no 3 (by decide) rfl hT hQ⟩
end PT
