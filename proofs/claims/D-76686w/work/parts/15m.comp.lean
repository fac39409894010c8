set_option linter.unusedVariables false
set_option maxRecDepth 10000
/-! ===== component: group, table ===== -/
section PC
variable {σ τ υ σ0 : wS} {x m F : Nat} {s : mS} {S : gS} {K : Nat → Nat} {P P' : Nat → Nat → Prop} {a b c d : Nat}
theorem c_isInput {Q : Int32 → wS → Prop} {e g : Nat} (hK : CK σ x K S) (hI : IV S) (he : e < mN S.1) (hg : g < mG S.1) (hF : 1000 ≤ F) (hQ : Q (if usr S.1 g e = true then 1 else 0) σ) : w_X0_isInput F σ x (nI e) (nI g) Q := by
  have hs := hI.1.1.1.1.1
  have hG := hs.2.1
  have hN := hI.1.1.1.2.2
  have C := hK.1.2.1.1
  have kx := hK.1.1.1.1
  have km := ck_m hK
  have vin := vp_inN (show e < 64 by omega) (by decide)
  have cl : (nI e).toNatClampNeg = e := nI_clamp (by omega)
  obtain ⟨s1, s2, s3, s4⟩ := sh_bnd hs he
  obtain ⟨⟨o, x1, x2⟩, x3, x4, x5, x6⟩ := C.2.1 e he
  have hk := (hs.2.2.2.2 e he).2.2.1
  have eu : usr S.1 g e = (decide (S.1 8 e = 0) && (decide (S.1 2 e ≠ 1) && decide (R S.1 (S.1 4 e) = g) || decide (5 ≤ S.1 2 e) && decide (R S.1 (S.1 5 e) = g))) := rfl
  unfold w_X0_isInput
  refine ⟨kx, K 0, km.1, km.2, vin, ?_⟩
  rw [cl, x5, x1]
  have b53 : ∀ i, i < 3 → (i < 2 → usr S.1 g e = false) → (i = 2 → S.1 8 e = 0 ∧ 5 ≤ S.1 2 e ∧ R S.1 (S.1 4 e) ≠ g) → b_X0_isInput_53 F x (nI e) (nI g) Q σ (nI i) := fun i i3 h0 h2 => by
    unfold b_X0_isInput_53
    by_cases q : i < 2
    · rw [if_pos (show nI i ≤ (1 : Int32) from nI_le (b := 1) (by omega) (by decide))]
      rw [h0 q] at hQ
      exact hQ
    · obtain ⟨z, k5, ng⟩ := h2 (by omega)
      rw [if_neg (show ¬ nI i ≤ (1 : Int32) from nI_ge (a := 1) (by omega) (by omega)), cl]
      obtain ⟨g', g1, g2, g3⟩ := x4 k5
      refine ⟨kx, K 0, km.1, km.2, vin, ?_⟩
      rw [g1]
      have r := sh_lt hs g2
      refine c_find C hs hN g2 (by omega) ?_
      have : usr S.1 g e = decide (R S.1 g' = g) := by
        rw [eu, g3]
        simp [z, k5, ng]
      rw [this] at hQ
      by_cases y : R S.1 g' = g
      · rw [if_pos (by rw [y])]
        rw [decide_eq_true y] at hQ; exact hQ
      · rw [if_neg (nI_eqf (by omega) (by omega) y)]
        rw [decide_eq_false y] at hQ; exact hQ
  by_cases z : S.1 8 e = 0
  · rw [if_pos (by rw [z]; rfl)]
    refine ⟨o, rfl, v_inputs x2 hk ?_⟩
    unfold b_X0_isInput_28
    by_cases k1 : S.1 2 e = 1
    · have i0 : inp (S.1 2 e) = 0 := by unfold inp; rw [if_pos k1]
      rw [i0, if_pos (by decide)]
      refine b53 0 (by decide) (fun _ => ?_) (fun y => by cases y)
      rw [eu]; simp [k1]
    · have i1 : 1 ≤ inp (S.1 2 e) ∧ inp (S.1 2 e) < 3 := by
        unfold inp; rw [if_neg k1]; split <;> decide
      rw [if_neg (show ¬ nI (inp (S.1 2 e)) ≤ (0 : Int32) from nI_ge (a := 0) (by omega) (by omega)), cl]
      obtain ⟨g', g1, g2, g3⟩ := x3 k1
      refine ⟨kx, K 0, km.1, km.2, vin, ?_⟩
      rw [g1]
      have r := sh_lt hs g2
      refine c_find C hs hN g2 (by omega) ?_
      by_cases y : R S.1 g' = g
      · rw [if_pos (by rw [y])]
        have : usr S.1 g e = true := by
          rw [eu, ← g3]
          simp [z, k1, y]
        rw [this] at hQ
        exact hQ
      · rw [if_neg (nI_eqf (by omega) (by omega) y)]
        refine b53 _ i1.2 (fun q => ?_) (fun q => ⟨z, ?_, by rw [← g3]; exact y⟩)
        · have k4 : S.1 2 e < 5 := Nat.lt_of_not_le fun k5 => by
            have : inp (S.1 2 e) = 2 := by unfold inp; rw [if_neg k1, if_neg (by omega)]
            omega
          rw [eu, ← g3]
          simp [z, k1, y]
          omega
        · refine Nat.le_of_not_lt fun k4 => ?_
          have : inp (S.1 2 e) = 1 := by unfold inp; rw [if_neg k1, if_pos k4]
          omega
  · rw [if_neg (show ¬ nI (S.1 8 e) = (0 : Int32) from nI_eqf (b := 0) (by omega) (by decide) z)]
    unfold b_X0_isInput_28
    rw [if_pos (by decide)]
    refine b53 0 (by decide) (fun _ => ?_) (fun y => by cases y)
    rw [eu]; simp [z]
theorem c_usersOf {Q : Int32 → wS → Prop} {g : Nat} (hK : CK σ x K S) (hI : IV S) (hg : g < mG S.1) (hF : 1000 ≤ F) (hQ : Q (nI (ctn (usr S.1 g) (mN S.1))) σ) : w_X0_usersOf F σ x (nI g) Q := by
  have hN := hI.1.1.1.2.2
  have C := hK.1.2.1.1
  have key : ∀ n i, i ≤ mN S.1 → mN S.1 - i < n → l_X0_usersOf_4 F x (nI g) Q n σ (nI (ctn (usr S.1 g) i)) (nI i) := by
    intro n
    induction n with
    | zero => intro i _ h; omega
    | succ n ih =>
      intro i hi hn
      unfold l_X0_usersOf_4
      refine ⟨hK.1.1.1.1, K 0, (ck_m hK).1, (ck_m hK).2, ?_⟩
      rw [C.1.2.2.1]
      by_cases c : i = mN S.1
      · rw [if_pos (nI_le (by omega) (by omega)), c]
        exact hQ
      · have hi' : i < mN S.1 := by omega
        rw [if_neg (nI_ge hi' (by omega))]
        refine c_isInput hK hI hi' hg hF ?_
        intro y hy
        have e : (if (if usr S.1 g i = true then (1 : Int32) else 0) = 0 then (0 : Int32) else 1) = if usr S.1 g i = true then 1 else 0 := by
          cases usr S.1 g i <;> rfl
        rw [hy, e, nI_if2, ← ctn_s, show nI i + 1 = nI (i + 1) from (nI_succ i).symm]
        exact ih (i + 1) hi' (by omega)
  exact key F 0 (Nat.zero_le _) (by omega)
theorem ctn_0 {p : Nat → Bool} : ∀ n, (∀ k, k < n → p k = false) → ctn p n = 0
  | 0, _ => rfl
  | n + 1, h => by rw [ctn_s, ctn_0 n (fun k hk => h k (by omega)), h n (by omega)]; rfl
theorem mbs_ct {g : Nat} (hN : mN s ≤ 64) : ctn (mbs s g (mN s)).testBit 64 = ctn (mem s g) (mN s) := by
  rw [show 64 = mN s + (64 - mN s) by omega, ctn_split, ctn_0 (64 - mN s) (fun k _ => by rw [mbs_bit, decide_eq_false (show ¬ mN s + k < mN s by omega)]; rfl), Nat.add_zero]
  refine ctn_cong fun k hk => ?_
  rw [mbs_bit, decide_eq_true hk, Bool.true_and]
  rfl
theorem c_group {Q : Int32 → wS → Prop} {v w : Int32} (hK : CK σ x K S) (hI : IV S) (hF : 1000 ≤ F) (hQ : ∀ τ, Cf σ τ → CC τ x (o_group S v w).2 → Q (o_group S v w).1 τ) : w_X0_group F σ x v w Q := by
  obtain ⟨⟨hs, l, -⟩, ⟨hb, -⟩, hN⟩ := hI.1.1.1
  have hG := hs.2.1
  have C := hK.1.2.1.1
  have kx := hK.1.1.1.1
  have km := ck_m hK
  have hA := hI.1.2
  unfold w_X0_group
  refine ⟨kx, K 0, km.1, km.2, c_isGroup C (by omega) (fun ea => ?_) (fun g hg ha ea => ?_)⟩
  · have e2 : o_group S v w = noA S 5 := by unfold o_group; rw [ea] <;> cases num 5 w <;> rfl
    rw [e2] at hQ
    rw [if_pos rfl]
    exact c_bey hK hA hQ
  rw [if_neg (by decide), ha]
  refine ⟨K 0, km.1, km.2, c_find C hs hN hg (by omega) ?_⟩
  have r := sh_lt hs hg
  have rr := sh_RR hs hg
  have lit : ∀ k, k < 5 → w = nI k → o_group S v w = (if k = 1 then nI (rw' S.1 (R S.1 g)) else if k = 2 then nI (S.1 9 (R S.1 g)) else if k = 3 then oN (lsu S.1 (mN S.1) (R S.1 g))
      else if k = 0 then nI (ctn (mem S.1 (R S.1 g)) (mN S.1)) else nI (ctn (usr S.1 (R S.1 g)) (mN S.1)), S) := fun k hk hw => by
    unfold o_group
    rw [ea, hw, num_some (by decide) hk]
  have go : ∀ r, o_group S v w = (r, S) → Q r σ := fun r e => by
    rw [e] at hQ
    exact hQ σ cf_0 ⟨K, hK⟩
  have hl : mbs S.1 (R S.1 g) (mN S.1) < 2 ^ 64 := Nat.lt_of_lt_of_le (mbs_lt _) (Nat.pow_le_pow_right (by decide) hN)
  by_cases c0 : w = 0
  · rw [if_pos c0]
    refine ⟨K 0, km.1, km.2, c_members C hs hN r (by omega) (c_bitCount hl ?_)⟩
    rw [mbs_ct hN]
    exact go _ (lit 0 (by decide) c0)
  rw [if_neg c0]
  by_cases c1 : w = 1
  · rw [if_pos c1]
    have l1 := lit 1 (by decide) c1
    rw [l1] at hQ
    refine ⟨K 0, km.1, km.2, c_rowsOf C hK.1.2.1.2.2 hs l hb hN r (by omega) (by decide) (fun τ w1 C1 N1 => ?_)⟩
    have f : Fr (fun g o => o = K 0 ∧ g ∈ [2317, 2318]) 0 0 σ τ := w1.wq.fr (fun g hg => ⟨rfl, hg⟩)
    rw [rr]
    have hm : oC σ (K 0) ≠ 0 := by rw [C.1.1.1]; decide
    have no : ∀ g, g ∉ [2317, 2318] → ∀ o, ¬ (o = K 0 ∧ g ∈ [2317, 2318]) := fun g hg o z => hg z.2
    have ck := ck_memo hK hA f (by decide) (s' := S.1) ⟨C1, hK.1.2.1.2.1.fr hm f (fun g hg => no g (by revert g; decide) _), N1⟩ (fun _ _ _ => ⟨rfl, rfl⟩)
    exact hQ τ (f.cf (ck_P hK) (by decide) (by decide)) ⟨K, ck⟩
  rw [if_neg c1]
  by_cases c2 : w = 2
  · rw [if_pos c2]
    refine ⟨K 0, km.1, km.2, ?_⟩
    rw [nI_clamp (by omega), (C.2.2.1 _ r).2]
    exact ⟨vp_inN (by omega) (by decide), go _ (lit 2 (by decide) c2)⟩
  rw [if_neg c2]
  by_cases c3 : w = 3
  · rw [if_pos c3]
    have l3 := go _ (lit 3 (by decide) c3)
    obtain ⟨e, e1, e2, e3⟩ := l.2.1 g hg
    obtain ⟨f, hf, -⟩ := lsu_of e1 e2 e3
    rw [hf] at l3
    obtain ⟨f1, f2, f3⟩ := lsu_some hf
    refine ⟨K 0, km.1, km.2, c_members C hs hN r (by omega) (c_ntz (i := f) hl (by omega) ?_ (fun j hj => ?_) l3)⟩
    · rw [mbs_bit]; simp [f1, f2, f3]
    · rw [mbs_bit]
      by_cases y : S.1 8 j = 0 ∧ R S.1 (S.1 6 j) = R S.1 g
      · obtain ⟨f', hf', lf⟩ := lsu_of (s := S.1) (n := mN S.1) (show j < mN S.1 by omega) y.1 y.2
        rw [hf] at hf'
        cases hf'
        omega
      · simp
        intro _ y1 y2
        exact y ⟨y1, y2⟩
  rw [if_neg c3]
  by_cases c4 : w = 4
  · rw [if_pos c4]
    exact c_usersOf hK hI r hF (go _ (lit 4 (by decide) c4))
  rw [if_neg c4]
  have e2 : o_group S v w = noA S 5 := by
    unfold o_group
    rcases num_cs (N := 5) (by decide) w with ⟨n, hn, hw, -⟩ | ⟨e', -⟩
    · have h5 : n = 0 ∨ n = 1 ∨ n = 2 ∨ n = 3 ∨ n = 4 := by omega
      rcases h5 with rfl | rfl | rfl | rfl | rfl
      · exact absurd hw c0
      · exact absurd hw c1
      · exact absurd hw c2
      · exact absurd hw c3
      · exact absurd hw c4
    · rw [ea, e']
  rw [e2] at hQ
  exact c_bey hK hA hQ
theorem adt_n {r c o p k : Nat} (h1 : k ≠ 10) (h2 : k ≠ 11) (h3 : k ≠ 12) (h4 : k ≠ 13) (h5 : k ≠ 14) : adt s r c o p k = s k := by
  unfold adt
  rw [st_n h1, st_n h2, st_n h3, st_n h4, st_n h5]
theorem c_table {Q : Int32 → wS → Prop} {r c o p : Int32} (hK : CK σ x K S) (hI : IV S) (hr : RM σ) (hQ : ∀ τ, Cf σ τ → CC τ x (o_table S r c o p).2 → Q (o_table S r c o p).1 τ) : w_X0_table σ x r c o p Q := by
  have hs := hI.1.1.1.1.1
  have h8 := hs.2.2.2.1
  have C := hK.1.2.1.1
  have kx := hK.1.1.1.1
  have km := ck_m hK
  have hA := hI.1.2
  have hm : oC σ (K 0) ≠ 0 := by rw [C.1.1.1]; decide
  have b92 : ∀ y : Int32, (y = 0 ∧ o_table S r c o p = noA S 6) ∨ (y = 1 ∧ ∃ r' c' o' p', (r = nI r' ∧ c = nI c' ∧ o = eI o' ∧ p = nI p') ∧ o_table S r c o p = if S.1 10 0 = 8 then noA S 7 else (nI (S.1 10 0), sM S (adt S.1 r' c' o' p'))) → b_X0_table_92 x r c o p Q σ y := fun y hy => by
    unfold b_X0_table_92
    refine c_needX (n := 6) hK hA (by decide) (fr0 (σ := σ)) noP hr (by decide) (by decide) (fun _ _ => rfl) (fun z => ⟨kx, K 0, km.1, km.2, ?_⟩) (fun z => ?_)
    · rcases hy with ⟨y0, -⟩ | ⟨-, r', c', o', p', ⟨er, ec, eo', ep⟩, eo⟩
      · exact absurd y0 z
      rw [eo] at hQ
      rw [C.1.2.1]
      by_cases q : S.1 10 0 = 8
      · rw [if_pos q] at hQ
        rw [if_pos (show (8 : Int32) ≤ nI (S.1 10 0) from nI_le (a := 8) (by omega) (by omega))]
        exact c_needX (n := 7) (Q := Q) hK hA (by decide) (fr0 (σ := σ)) noP hr (by decide) (by decide) (fun _ _ => rfl) (fun z => absurd rfl z) (fun _ => hQ)
      rw [if_neg q] at hQ
      rw [if_neg (show ¬ (8 : Int32) ≤ nI (S.1 10 0) from nI_ge (b := 8) (by omega) (by decide))]
      refine c_needX (n := 7) (Q := Q) hK hA (by decide) (fr0 (σ := σ)) noP hr (by decide) (by decide) (fun _ _ => rfl) (fun _ => ⟨K 0, km.1, km.2, ?_⟩) (fun z => absurd z (by decide))
      intro u hu
      refine ⟨K 0, hu.trans km.1, km.2, ?_⟩
      rw [C.1.2.1]
      refine bnd_I fun τ1 w1 e1 => ?_
      have f1 : Fr (fun g o => o = K 0 ∧ g ∈ [2300, 92306]) 0 0 σ τ1 := w1.fr (fun g hg => ⟨rfl, by rw [List.mem_singleton.mp hg]; decide⟩)
      have nox : ∀ {τ : wS}, Fr (fun g o => o = K 0 ∧ g ∈ [2300, 92306]) 0 0 σ τ → True := fun _ => trivial
      obtain ⟨r1, r2⟩ := hr
      refine c_nwo (by rw [w1.1.2.2.2.2.1, w1.1.2.2.2.2.2]; omega) (fun τ2 f2 n2 e2 => ?_)
      have hq0 : oC σ (nx τ1) = 0 := by rw [← w1.1.1]; exact n2.2.1
      have F2 : Fr (fun g o => o = K 0 ∧ g ∈ [2300, 92306]) 1 4 σ τ2 := f1.trans f2.no
      unfold w_X31_init
      refine ⟨n2.1, bnd_I fun τ3 w3 v3 => bnd_I fun τ4 w4 v4 => bnd_I fun τ5 w5 v5 => bnd_I fun τ6 w6 v6 => ?_⟩
      have W6 : Wq [3200, 3201, 3202, 3203] (nx τ1) τ2 τ6 := ((((w3.mono (by decide)).up w4 (by decide)).up w5 (by decide)).up w6 (by decide))
      have F6 : Fr (fun g o => o = K 0 ∧ g ∈ [2300, 92306]) 1 4 σ τ6 := F2.w W6 (Or.inl hq0)
      have hneq : K 0 ≠ nx τ1 := fun z => hm (by rw [z]; exact hq0)
      rw [nI_clamp (show S.1 10 0 < 2 ^ 31 by omega)]
      refine ⟨vp_inN (by omega) (by decide), bnd_AR fun τ7 w7 v7 => ?_⟩
      have F7 : Fr (fun g o => o = K 0 ∧ g ∈ [2300, 92306]) 1 4 σ τ7 := F6.w w7 (Or.inr (fun g hg => ⟨rfl, by rw [List.mem_singleton.mp hg]; decide⟩))
      have no : ∀ g, g ∉ [2300, 92306] → ∀ o, ¬ (o = K 0 ∧ g ∈ [2300, 92306]) := fun g hg o z => hg z.2
      have i7 : oI τ7 2300 (K 0) = nI (S.1 10 0 + 1) := by
        rw [(w7.sam (by decide) _).1.1, (W6.sam (by decide) _).1.1, (f2.2.1 2300 (K 0) (by rw [w1.1.1]; exact hm) (fun z => z)).1.1.1, e1, nI_succ]
      have a7 : aR τ6 92306 (K 0) = aR σ 92306 (K 0) := by
        rw [(W6.sam (by decide) _).2.2, (f2.2.1 92306 (K 0) (by rw [w1.1.1]; exact hm) (fun z => z)).1.2.2, (w1.sam (by decide) _).2.2]
      rw [a7] at v7
      have hx : oC σ x ≠ 0 := by rw [kx.1]; decide
      refine ⟨K 0, by rw [(F7.2.1 107 x hx (no _ (by decide) _)).1.1.2.2.1]; exact km.1, ok22.ext km.2 F7.1, ?_⟩
      rw [i7, show nI (S.1 10 0 + 1) - (1 : Int32) = nI (S.1 10 0) from nI_pred _]
      obtain ⟨⟨p1, p2, p3⟩, p4, p5⟩ := cm_part C F7 (fun g hg => no g (by revert g; decide) _) (fun g hg => no g (by revert g; decide))
      have C7 : CM τ7 (K 0) (adt S.1 r' c' o' p') := by
        refine ⟨⟨p1, ?_, p2, p3⟩, p4, p5, fun i hi => ?_, fun i hi => ?_⟩
        · show _ = nI (up (S.1 10) 0 (S.1 10 0 + 1) 0)
          rw [up_s]; exact i7
        · have hi' : i < up (S.1 10) 0 (S.1 10 0 + 1) 0 := hi
          rw [up_s] at hi'
          rw [v7]
          by_cases z : i = S.1 10 0
          · refine ⟨nx τ1, by rw [z, aup_s], ?_⟩
            unfold TO
            show _ ∧ _ = nI (up (S.1 11) (S.1 10 0) r' i) ∧ _ = nI (up (S.1 12) (S.1 10 0) c' i) ∧ _ = eI (up (S.1 13) (S.1 10 0) o' i) ∧ _ = nI (up (S.1 14) (S.1 10 0) p' i)
            rw [z, up_s, up_s, up_s, up_s]
            rw [(w7.sam (by decide) _).1.1, (w7.sam (by decide) _).1.1, (w7.sam (by decide) _).1.1, (w7.sam (by decide) _).1.1, v6, (w6.sam (by decide) _).1.1, (w6.sam (by decide) _).1.1, (w6.sam (by decide) _).1.1, v5, (w5.sam (by decide) _).1.1, (w5.sam (by decide) _).1.1, v4, (w4.sam (by decide) _).1.1, v3]
            exact ⟨by rw [w7.1.1, W6.1.1]; exact n2.1, er, ec, eo', ep⟩
          · obtain ⟨ob, o1, o2⟩ := C.2.2.2.1 i (by omega)
            refine ⟨ob, by rw [aup_n z]; exact o1, ?_⟩
            have t := o2.fr F7 (fun g hg => no g (by revert g; decide) _)
            unfold TO
            show _ ∧ _ = nI (up (S.1 11) (S.1 10 0) r' i) ∧ _ = nI (up (S.1 12) (S.1 10 0) c' i) ∧ _ = eI (up (S.1 13) (S.1 10 0) o' i) ∧ _ = nI (up (S.1 14) (S.1 10 0) p' i)
            rw [up_n z, up_n z, up_n z, up_n z]
            exact t
        · rw [(F7.2.1 2307 _ hm (no _ (by decide) _)).1.1.2.2.2]; exact C.2.2.2.2 i hi
      have N7 : CN τ7 (K 0) (adt S.1 r' c' o' p') := by
        refine cn_k (hK.1.2.1.2.2.fr hm F7 (fun g hg => no g (by revert g; decide) _)) (fun k hk => adt_n (by omega) (by omega) (by omega) (by omega) (by omega)) rfl (fun n hn h1 => ?_)
        have := (hs.2.2.2.2 n hn).2.2.2.1 h1
        show up (S.1 11) (S.1 10 0) r' (S.1 3 n) = _
        rw [up_n (by omega)]
      have ck := ck_memo hK hA F7 (by decide) (s' := adt S.1 r' c' o' p') ⟨C7, hK.1.2.1.2.1.fr hm F7 (fun g hg => no g (by revert g; decide) _), N7⟩ (fun _ _ _ => ⟨rfl, rfl⟩)
      exact hQ τ7 (F7.cf (ck_P hK) (by decide) (by decide)) ⟨K, ck⟩
    · rcases hy with ⟨-, e2⟩ | ⟨y1, -⟩
      · rw [e2] at hQ; exact hQ
      · rw [y1] at z; exact absurd z (by decide)
  have t6 : ∀ y : Int32, y = 0 → o_table S r c o p = noA S 6 → ∀ Q1 : wS → Prop, w_X0_need σ y (-nI 6) Q1 (fun c9 q9 τ9 => c9 = 25 ∧ b_X0_table_163 x Q τ9 q9) := fun y y0 e2 Q1 => by
    rw [e2] at hQ
    exact c_needX (n := 6) (Q := Q) hK hA (by decide) (fr0 (σ := σ)) noP hr (by decide) (by decide) (fun _ _ => rfl) (fun z => absurd y0 z) (fun _ => hQ)
  have b29_0 : o_table S r c o p = noA S 6 → b_X0_table_29 x r c o p Q σ 0 := fun e2 => by
    unfold b_X0_table_29
    exact t6 0 rfl e2 _
  unfold w_X0_table
  refine c_in1 (N := 1000001) (by decide) (by decide) (fun e => ?_) (fun r' r1 r2 er enr => ?_)
  · rw [if_pos rfl]
    refine b29_0 ?_
    unfold o_table
    by_cases z : r = 0 ∨ c = 0
    · rw [if_pos z]
    · rw [if_neg z, e.resolve_left (fun y => z (Or.inl y))]
  rw [if_neg (by decide)]
  refine c_in1 (N := 16) (by decide) (by decide) (fun e => ?_) (fun c' c1 c2 ec enc => ?_)
  · rw [if_pos rfl]
    refine b29_0 ?_
    unfold o_table
    by_cases z : r = 0 ∨ c = 0
    · rw [if_pos z]
    · rw [if_neg z, enr, e.resolve_left (fun y => z (Or.inr y))]
  rw [if_neg (by decide)]
  have eo : o_table S r c o p = match ord c' o, plc c' p with
    | some o', some p' => if S.1 10 0 = 8 then noA S 7 else (nI (S.1 10 0), sM S (adt S.1 r' c' o' p'))
    | _, _ => noA S 6 := by
    unfold o_table
    rw [enr, enc, if_neg (by
      rintro (z | z)
      · rw [er] at z; exact nI_eqf (b := 0) (by omega) (by decide) (by omega) z
      · rw [ec] at z; exact nI_eqf (b := 0) (by omega) (by decide) (by omega) z)]
    rfl
  have b59 : ∀ o', ord c' o = some o' → o = eI o' → b_X0_table_59 x r c o p Q σ 1 := fun o' e1 e3 => by
    have ok : ∀ p', plc c' p = some p' → p = nI p' → b_X0_table_92 x r c o p Q σ 1 := fun p' e2 e4 => by
      refine b92 1 (Or.inr ⟨rfl, r', c', o', p', ⟨er, ec, e3, e4⟩, ?_⟩)
      rw [eo, e1, e2]
    have no : plc c' p = none → b_X0_table_92 x r c o p Q σ 0 := fun e2 => by
      refine b92 0 (Or.inl ⟨rfl, ?_⟩)
      rw [eo, e1, e2]
    unfold b_X0_table_59
    refine c_needX (n := 6) (Q := Q) hK hA (by decide) (fr0 (σ := σ)) noP hr (by decide) (by decide) (fun _ _ => rfl) (fun _ => ?_) (fun z => absurd z (by decide))
    by_cases q : p = 4
    · rw [if_pos q]
      refine ok 4 ?_ q
      unfold plc
      rw [q, show num 5 (4 : Int32) = some 4 from num_some (n := 4) (by decide) (by decide)]
      exact if_pos (Or.inl rfl)
    · rw [if_neg q]
      refine c_isCol (fun e => ?_) (fun n hn ha e => ?_)
      · rw [if_pos rfl]
        refine no ?_
        unfold plc
        rcases num_cs (N := 5) (by decide) p with ⟨k, hk, hp, e5⟩ | ⟨e5, -⟩
        · rcases Nat.lt_or_ge k 4 with y | y
          · rw [hp, num_some (by decide) y] at e; cases e
          · exact absurd (by rw [hp, show k = 4 by omega]; rfl) q
        · rw [e5]
      · rw [if_neg (by decide), ec, ha]
        refine c_has (by omega) (by omega) ?_
        rw [← ec, ← ha]
        have ep : plc c' p = if n = 4 ∨ c'.testBit n = true then some n else none := by
          unfold plc
          rw [ha, num_some (by decide) (show n < 5 by omega)]
        by_cases z : c'.testBit n = true
        · rw [if_pos z, if_neg (by decide)]
          exact ok n (by rw [ep, if_pos (Or.inr z)]) ha
        · rw [if_neg z, if_pos rfl]
          exact no (by rw [ep, if_neg (fun y => y.elim (fun y => by omega) z)])
  have b59_0 : ord c' o = none → b_X0_table_59 x r c o p Q σ 0 := fun e1 => by
    unfold b_X0_table_59
    refine t6 0 rfl ?_ _
    rw [eo, e1]
  unfold b_X0_table_29
  refine c_needX (n := 6) (Q := Q) hK hA (by decide) (fr0 (σ := σ)) noP hr (by decide) (by decide) (fun _ _ => rfl) (fun _ => ?_) (fun z => absurd z (by decide))
  by_cases q : o = -1
  · rw [if_pos q]
    refine b59 0 ?_ q
    unfold ord
    exact if_pos q
  · rw [if_neg q]
    refine c_isCol (fun e => ?_) (fun n hn ha e => ?_)
    · rw [if_pos rfl]
      refine b59_0 ?_
      unfold ord
      rw [if_neg q, e]
    · rw [if_neg (by decide), ec, ha]
      refine c_has (by omega) (by omega) ?_
      rw [← ec, ← ha]
      have ep : ord c' o = if c'.testBit n = true then some (n + 1) else none := by
        unfold ord
        rw [if_neg q, e]
      by_cases z : c'.testBit n = true
      · rw [if_pos z, if_neg (by decide)]
        exact b59 (n + 1) (by rw [ep, if_pos z]) ha
      · rw [if_neg z, if_pos rfl]
        exact b59_0 (by rw [ep, if_neg z])
end PC
