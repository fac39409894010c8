set_option linter.unusedVariables false
set_option maxRecDepth 10000
/-! ===== component: the constructor ===== -/
section PC
variable {σ τ υ σ0 : wS} {x m F t q : Nat} {s : mS} {S : gS} {K K' : Nat → Nat} {P P' : Nat → Nat → Prop} {a b c d : Nat} {kk : wS → Prop}
theorem Fr.bo (f : Fr P a b σ τ) (hq : oC σ q ≠ 0) (hp : ∀ g, ¬ P g q) : Bo [] q σ τ := ⟨f.1.1 q hq, fun g _ => ⟨(f.2.1 g q hq (hp g)).1, (f.2.1 g q hq (hp g)).2.1⟩⟩
theorem Bo.n {G : List Nat} (h : Bo [] q σ τ) : Bo G q σ τ := h.mono (fun _ z => nomatch z)
/-- a trace -/
theorem c_new1 (hr : 2 ≤ rC σ ∧ 22 ≤ rS σ) (hk : ∀ τ, Fr (fun _ _ => False) 2 22 σ τ → oC σ (nx σ) = 0 → ok1 τ (nx σ) → TrC τ (nx σ) (0, fun _ => 0) → kk τ) : nwo σ 2 (bnd (mkO σ 1 2) fun σ5 => w_X1_init σ5 (nx σ) kk) := by
  refine c_nwo (by omega) (fun τ f no _ => ?_)
  obtain ⟨g1, g2⟩ := f.2.2.1
  unfold w_X1_init
  refine nwo_oc no.1 ?_
  refine c_mkv (P := fun _ _ => False) (by decide) (by decide) f no.2.1 no.1 (no.2.2 _).2.2.2 (by omega) (fun τ2 f2 b2 _ e2 e3 => ?_)
  exact hk τ2 f2 no.2.1 ⟨b2.1.trans no.1, e2⟩ ⟨by rw [(b2.2 201 (by decide)).1.1.1]; exact (no.2.2 _).1, funext fun j => (e3 j).1⟩
def RU (σ : wS) (q : Nat) (R : Nat → Nat) (r : Nat) : Prop := (oC σ q = 3 ∧ aN σ 70300 q = some 7) ∧ ∀ j, j < r → aR σ 70300 q j = some (R j) ∧ oC σ (R j) = 5 + j
theorem c_rule {r : Nat} {R : Nat → Nat} (h : RU σ q R r) (h7 : r < 7) (hr : 1 ≤ rC σ ∧ 0 ≤ rS σ) (hk : ∀ τ R', Fr (fun g o => o = q ∧ g = 70300) 1 0 σ τ → RU τ q R' (r + 1) → Bo [70300] q σ τ → kk τ) : nwo σ 0 (bnd (mkO σ (4 + r) 0) fun σ41 => vp_in (nI r) 7 ∧ bnd (sAR σ41 70300 q (va_up (aR σ41 70300 q) (nI r).toNatClampNeg (some (nx σ)))) kk) := by
  obtain ⟨⟨h1, h2⟩, h3⟩ := h
  refine c_nwo hr (fun τ f no _ => ⟨vp_inN h7 (by decide), bnd_AR fun τ2 w v => ?_⟩)
  have b1 := f.bo (q := q) (by omega) (fun _ z => z)
  have b2 : Bo [70300] q σ τ2 := b1.n.trans w.bo
  refine hk τ2 (fun j => if j = r then nx σ else R j) ((f.mono (P' := fun g o => o = q ∧ g = 70300) (fun _ _ z => z.elim) (Nat.le_refl _) (Nat.le_refl _)).w w (Or.inr (fun g hg => ⟨rfl, List.mem_singleton.mp hg⟩))) ⟨⟨b2.1.trans h1, ?_⟩, fun j hj => ?_⟩ b2
  · rw [w.1.2.1, (b1.2 _ (fun z => nomatch z)).2]; exact h2
  · rw [v, nI_clamp (by omega)]
    by_cases z : j = r
    · subst z
      dsimp only
      rw [aup_s, if_pos rfl, w.1.1]
      exact ⟨rfl, by rw [no.1]; omega⟩
    · dsimp only
      rw [aup_n z, if_neg z, (b1.2 _ (fun z => nomatch z)).1.2.2, w.1.1]
      have := h3 j (by omega)
      exact ⟨this.1, (f.1.1 _ (by omega)).trans this.2⟩
/-- a firing -/
def FI (τ : wS) (q d1 d2 : Nat) (R : Nat → Nat) : Prop := ok2 τ q ∧ (ok3 τ d1 ∧ ok3 τ d2 ∧ d1 ≠ d2) ∧ (oR τ 301 q = some d1 ∧ oR τ 302 q = some d2) ∧ ∀ r, r < 7 → aR τ 70300 q r = some (R r) ∧ oC τ (R r) = 5 + r
theorem c_new2 (hr : 11 ≤ rC σ ∧ 22 ≤ rS σ) (hk : ∀ τ d1 d2 R, Fr (fun _ _ => False) 11 22 σ τ → oC σ (nx σ) = 0 → FI τ (nx σ) d1 d2 R → kk τ) : nwo σ 7 (bnd (mkO σ 2 7) fun σ5 => w_X2_init σ5 (nx σ) kk) := by
  refine c_nwo (by omega) (fun τ f no _ => ?_)
  obtain ⟨g1, g2⟩ := f.2.2.1
  unfold w_X2_init
  refine nwo_oc no.1 ?_
  have hq := no.2.1
  refine c_mkv (P := fun _ _ => False) (by decide) (by decide) f hq no.1 (no.2.2 _).2.2.2 (by omega) (fun τ2 f2 b2 _ e2 e3 => ?_)
  have c2 : oC τ2 (nx σ) = 3 := b2.1.trans no.1
  obtain ⟨g3, g4⟩ := f2.2.2.1
  refine c_nwo (by omega) (fun τ3 f3 no3 _ => ?_)
  unfold w_X3_init
  refine bnd_R fun τ4 w4 v4 => ?_
  have F4 : Fr (fun _ _ => False) 3 18 σ τ4 := ((f2.trans f3).w w4 (Or.inl hq)).mono (fun _ _ z => z) (by decide) (by decide)
  obtain ⟨g5, g6⟩ := F4.2.2.1
  have b4 := (f3.bo (q := nx σ) (by omega) (fun _ z => z)).n.trans w4.bo
  have c4 : oC τ4 (nx σ) = 3 := b4.1.trans c2
  have d4 : oC τ4 (nx τ2) = 4 := by rw [w4.1.1]; exact no3.1
  refine c_nwo (by omega) (fun τ5 f5 no5 _ => ?_)
  refine bnd_R fun τ6 w6 v6 => ?_
  have F6 : Fr (fun _ _ => False) 4 22 σ τ6 := ((F4.trans f5).w w6 (Or.inl hq)).mono (fun _ _ z => z) (by decide) (by decide)
  obtain ⟨g7, g8⟩ := F6.2.2.1
  have b5 := f5.bo (q := nx σ) (by omega) (fun _ z => z)
  have b6 := b5.n.trans w6.bo
  have c6 : oC τ6 (nx σ) = 3 := b6.1.trans c4
  have d6 : oC τ6 (nx τ2) = 4 := by rw [w6.1.1, f5.1.1 _ (by omega)]; exact d4
  have e6 : oC τ6 (nx τ4) = 4 := by rw [w6.1.1]; exact no5.1
  have ne : nx τ2 ≠ nx τ4 := fun z => by rw [z, no5.2.1] at d4; cases d4
  have u6 : oR τ6 301 (nx σ) = some (nx τ2) := by rw [((w6.sam (by decide)) _).1.2.2.1, (b5.2 _ (fun z => nomatch z)).1.1.2.2.1]; exact v4
  have n6 : aN τ6 70300 (nx σ) = some 7 := by rw [(b6.2 _ (by decide)).2, (b4.2 _ (by decide)).2]; exact e2
  have R0 : RU τ6 (nx σ) (fun _ => 0) 0 := ⟨⟨c6, n6⟩, fun j hj => absurd hj (Nat.not_lt_zero _)⟩
  refine c_rule (r := 0) R0 (by decide) (by omega) (fun σ1 R1 h1 u1 B1 => ?_)
  obtain ⟨x1, y1⟩ := h1.2.2.1
  refine c_rule (r := 1) u1 (by decide) (by omega) (fun σ2 R2 h2 u2 B2 => ?_)
  obtain ⟨x2, y2⟩ := h2.2.2.1
  refine c_rule (r := 2) u2 (by decide) (by omega) (fun σ3 R3 h3 u3 B3 => ?_)
  obtain ⟨x3, y3⟩ := h3.2.2.1
  refine c_rule (r := 3) u3 (by decide) (by omega) (fun σ4 R4 h4 u4 B4 => ?_)
  obtain ⟨x4, y4⟩ := h4.2.2.1
  refine c_rule (r := 4) u4 (by decide) (by omega) (fun σ5 R5 h5 u5 B5 => ?_)
  obtain ⟨x5, y5⟩ := h5.2.2.1
  refine c_rule (r := 5) u5 (by decide) (by omega) (fun σ6 R6 h6 u6' B6 => ?_)
  obtain ⟨x6, y6⟩ := h6.2.2.1
  refine c_rule (r := 6) u6' (by decide) (by omega) (fun σ7 R7 h7 u7 B7 => ?_)
  have H := (((((h1.trans h2).trans h3).trans h4).trans h5).trans h6).trans h7
  have BB := (((((B1.trans B2).trans B3).trans B4).trans B5).trans B6).trans B7
  have FF : Fr (fun _ _ => False) 11 22 σ σ7 := by
    have HH : Fr (fun g o => o = nx σ ∧ g = 70300) 11 22 σ σ7 := ((F6.mono (P' := fun g o => o = nx σ ∧ g = 70300) (fun _ _ z => z.elim) (Nat.le_refl _) (Nat.le_refl _)).trans H).mono (fun _ _ z => z) (by decide) (by decide)
    exact ⟨HH.1, fun g o ho _ => HH.2.1 g o ho (fun z => ho (by rw [z.1]; exact hq)), HH.2.2⟩
  refine hk σ7 (nx τ2) (nx τ4) R7 FF hq ⟨⟨u7.1.1, u7.1.2⟩, ⟨?_, ?_, ne⟩, ⟨?_, ?_⟩, u7.2⟩
  · exact (H.1.1 _ (by omega)).trans d6
  · exact (H.1.1 _ (by omega)).trans e6
  · rw [(BB.2 _ (by decide)).1.1.2.2.1]; exact u6
  · rw [(BB.2 _ (by decide)).1.1.2.2.1]; exact v6
theorem c_wayOf {Q : Option Nat → wS → Prop} {k : Nat} (hk : k < 12) (hr : 1 ≤ rC σ ∧ 0 ≤ rS σ) (hQ : ∀ τ, Fr (fun _ _ => False) 1 0 σ τ → oC σ (nx σ) = 0 → oC τ (nx σ) = wyT k → Q (some (nx σ)) τ) : w_X0_wayOf σ (nI k) Q := by
  have go : ∀ c, c + 1 = wyT k → nwo σ 0 (bnd (mkO σ c 0) fun σ10 => Q (some (nx σ)) σ10) := fun c hc => c_nwo hr (fun τ f no _ => hQ τ f no.2.1 (no.1.trans hc))
  unfold w_X0_wayOf
  rcases (show k = 0 ∨ k = 1 ∨ k = 2 ∨ k = 3 ∨ k = 4 ∨ k = 5 ∨ k = 6 ∨ k = 7 ∨ k = 8 ∨ k = 9 ∨ k = 10 ∨ k = 11 by omega) with rfl | rfl | rfl | rfl | rfl | rfl | rfl | rfl | rfl | rfl | rfl | rfl
  · exact go 13 rfl
  · exact go 13 rfl
  · exact go 13 rfl
  · exact go 14 rfl
  · exact go 15 rfl
  · exact go 16 rfl
  · exact go 17 rfl
  · exact go 18 rfl
  · exact go 19 rfl
  · exact go 18 rfl
  · exact go 20 rfl
  · exact go 21 rfl
theorem wyT_S : ∀ k, k < 12 → wyT k = 14 ∨ wyT k = 15 ∨ wyT k = 16 ∨ wyT k = 17 ∨ wyT k = 18 ∨ wyT k = 19 ∨ wyT k = 20 ∨ wyT k = 21 ∨ wyT k = 22 := by decide
/-- the ways -/
def WI (τ : wS) (q t : Nat) (W : Nat → Nat) : Prop := ok12 τ q ∧ ok1 τ t ∧ oR τ 1301 q = some t ∧ ∀ k, k < 12 → aR τ 81300 q k = some (W k) ∧ oC τ (W k) = wyT k
theorem c_new12 (hF : 100 ≤ F) (hr : 16 ≤ rC σ ∧ 40 ≤ rS σ) (hk : ∀ τ t W, Fr (fun _ _ => False) 16 40 σ τ → oC σ (nx σ) = 0 → oC σ t = 0 → WI τ (nx σ) t W → kk τ) : nwo σ 6 (bnd (mkO σ 12 6) fun σ5 => w_X12_init F σ5 (nx σ) kk) := by
  refine c_nwo (by omega) (fun τ f no _ => ?_)
  obtain ⟨g1, g2⟩ := f.2.2.1
  unfold w_X12_init
  have hq := no.2.1
  refine nwo_oc no.1 ?_
  refine c_mkv (P := fun _ _ => False) (by decide) (by decide) f hq no.1 (no.2.2 _).2.2.2 (by omega) (fun τ2 f2 b2 _ e2 e3 => ?_)
  have c2 : oC τ2 (nx σ) = 13 := b2.1.trans no.1
  obtain ⟨g3, g4⟩ := f2.2.2.1
  refine c_new1 (by omega) (fun τ3 f3 hq3 o3 _ => ?_)
  refine bnd_R fun τ4 w4 v4 => ?_
  have F4 : Fr (fun _ _ => False) 4 40 σ τ4 := ((f2.trans f3).w w4 (Or.inl hq)).mono (fun _ _ z => z) (by decide) (by decide)
  have b3 := f3.bo (q := nx σ) (by omega) (fun _ z => z)
  have b4 := b3.n.trans w4.bo
  have hq2 : oC σ (nx τ2) = 0 := by
    rcases Nat.eq_zero_or_pos (oC σ (nx τ2)) with z | z
    · exact z
    · have := f2.1.1 _ (Nat.pos_iff_ne_zero.mp z)
      rw [hq3] at this
      omega
  obtain ⟨g5, g6⟩ := F4.2.2.1
  have t4 : ok1 τ4 (nx τ2) := ok1.ext o3 w4.ext
  have key : ∀ n i τ' (W : Nat → Nat), i ≤ 12 → 12 - i < n → Fr (fun _ _ => False) (4 + i) 40 σ τ' → oC τ' (nx σ) = 13 → aN τ' 81300 (nx σ) = some 12 → oR τ' 1301 (nx σ) = some (nx τ2) → ok1 τ' (nx τ2) → (∀ k, k < i → aR τ' 81300 (nx σ) k = some (W k) ∧ oC τ' (W k) = wyT k) → l_X12_init_26 F (nx σ) kk n τ' (nI i) := by
    intro n
    induction n with
    | zero => intro i _ _ _ h; omega
    | succ n ih =>
      intro i τ' W hi hn fr k1 k2 k3 k4 k5
      unfold l_X12_init_26
      by_cases z : i = 12
      · rw [if_pos (show (12 : Int32) ≤ nI i from nI_le (a := 12) (by omega) (by omega))]
        subst z
        exact hk τ' (nx τ2) W fr hq hq2 ⟨⟨k1, k2⟩, k4, k3, k5⟩
      · rw [if_neg (show ¬ (12 : Int32) ≤ nI i from nI_ge (b := 12) (by omega) (by decide))]
        obtain ⟨x1, x2⟩ := fr.2.2.1
        refine ⟨k1, 12, k2, c_wayOf (by omega) (by omega) (fun τ5 f5 h5 e5 => ?_)⟩
        refine ⟨vp_inN (by omega) (by decide), nx τ', rfl, ?_, bnd_AR fun τ6 w6 v6 => ?_⟩
        · unfold oS113
          rw [e5]
          exact wyT_S i (by omega)
        rw [nIl_1, nI_add]
        have b5 := f5.bo (q := nx σ) (by omega) (fun _ z => z)
        refine ih (i + 1) τ6 (fun k => if k = i then nx τ' else W k) (by omega) (by omega) (((fr.trans f5).w w6 (Or.inl hq)).mono (fun _ _ z => z) (by omega) (by omega)) ?_ ?_ ?_ (ok1.ext (ok1.ext k4 f5.1) w6.ext) (fun k hk' => ?_)
        · rw [w6.1.1, b5.1]; exact k1
        · rw [w6.1.2.1, (b5.2 _ (fun z => nomatch z)).2]; exact k2
        · rw [((w6.sam (by decide)) _).1.2.2.1, (b5.2 _ (fun z => nomatch z)).1.1.2.2.1]; exact k3
        · rw [v6, nI_clamp (by omega)]
          by_cases y : k = i
          · subst y
            rw [aup_s, if_pos rfl, w6.1.1]
            exact ⟨rfl, e5⟩
          · rw [aup_n y, if_neg y, (b5.2 _ (fun z => nomatch z)).1.2.2, w6.1.1]
            have := k5 k (by omega)
            refine ⟨this.1, (f5.1.1 _ ?_).trans this.2⟩
            rw [this.2]
            have := wyT_S k (by omega)
            omega
  refine key F 0 τ4 (fun _ => 0) (by decide) (by omega) F4 (b4.1.trans c2) ?_ v4 t4 (fun k hk' => absurd hk' (Nat.not_lt_zero _))
  rw [(b4.2 _ (by decide)).2]; exact e2
end PC
