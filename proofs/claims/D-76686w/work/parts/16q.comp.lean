set_option linter.unusedVariables false
set_option maxRecDepth 10000
/-! ===== component: the ways, walked ===== -/
section PC
variable {σ τ υ σ0 : wS} {x m w q7 F d al : Nat} {s : mS} {S : gS} {K K' W : Nat → Nat} {P P' : Nat → Nat → Prop} {a b c : Nat} {J : List Wy → wS → Prop} {L : List Wy}
/-- what stands while ways are told of -/
def WBs (σ : wS) (m w q7 : Nat) (W : Nat → Nat) (s : mS) (al d : Nat) : Prop := (WI σ w q7 W ∧ oR σ 1302 w = some m ∧ oI σ 1303 w = nI al ∧ oI σ 1304 w = nI d) ∧ CM σ m s ∧ CN σ m s
/-- what the walk knows of the memo -/
def MS (s : mS) : Prop := (Sh s ∧ Lo s ∧ Tb s) ∧ Xo s ∧ mN s ≤ 64
def PQt (m q7 g o : Nat) : Prop := (o = m ∧ g ∈ GRw) ∨ (o = q7 ∧ g ∈ GTr)
/-- a way's price, as it is told -/
def wpr (s : mS) (d k : Nat) (e : Option Nat) : Nat := match e with
  | none => prc k (rw' s (d / 30)) 0 (rw' s (d / 30))
  | some e => prc k (if k = 1 then rw' s (d / 30) else rw' s (R s (s 4 e))) (if 5 ≤ s 2 e then rw' s (R s (s 5 e)) else 0) (rw' s (d / 30))
def okv (s : mS) (d : Nat) (v : Wy) : Prop := v.1 < 12 ∧ v.2.2.2.2.2 = wpr s d v.1 v.2.1 ∧ (∀ e, v.2.1 = some e → e < mN s ∧ (v.1 ≠ 1 → s 2 e ≠ 1)) ∧ (∀ y, v.2.2.1 = some y → Dm s y) ∧ ∀ y, v.2.2.2.1 = some y → Dm s y
theorem c_priceW2 {Q : Int64 → wS → Prop} {k r : Nat} (h : WI σ w q7 W) (hk : k < 12) (ha : a < 2 ^ 31) (hQ : ∀ τ, Wq GTr q7 σ τ → Q (lN (prc k a b r)) τ) : w_X12_price σ w (nI k) (lN a) (lN b) (lN r) (some q7) Q := by
  obtain ⟨h1, h2, h3, h4⟩ := h
  refine ⟨q7, rfl, h2, bnd_I fun τ u v => ⟨ok12.ext h1 u.ext, vp_inN hk (by decide), ?_⟩⟩
  rw [nI_clamp (by omega), ((u.sam (by decide)) _).2.2]
  refine ⟨W k, (h4 k hk).1, ?_⟩
  refine c_priceV (y := (0, aI σ 200 q7)) (by rw [u.1.1]; exact (h4 k hk).2) (ok1.ext h2 u.ext) ⟨v, ((u.sam (by decide)) q7).1.2.2.2⟩ (show 0 < 900 by decide) hk ha (fun τ2 w2 B2 => ?_)
  exact hQ τ2 ((u.mono (by simp)).trans w2)
theorem Tw.pq {G : List Nat} (h : Tw G m σ τ) (hG : ∀ g ∈ G, g ∈ GRw) : Fr (PQt m q7) 0 0 σ τ := h.wq.fr (fun g hg => Or.inl ⟨rfl, hG g hg⟩)
theorem WI.pq {t : Nat} (h : WI σ w t W) (f : Fr (PQt m q7) a b σ τ) : WI τ w t W := h.fr f (fun g hg z => by
  rcases z with z | z
  · exact absurd z.2 ((by decide : ∀ g ∈ [1301, 81300], g ∉ GRw) g hg)
  · exact absurd z.2 ((by decide : ∀ g ∈ [1301, 81300], g ∉ GTr) g hg))
theorem c_pO87 {Q : Int64 → wS → Prop} {k r : Nat} (h : WI σ w q7 W) (hk : k < 12) (ha : a < 2 ^ 31) (hb : b < 2 ^ 31) (hr : r < 2 ^ 31) (hQ : ∀ τ, Wq GTr q7 σ τ → Q (lN (prc k a b r)) τ) : b_X12_priceOf_87 F w (nI k) Q σ (nI r) (nI a) (nI b) := by
  unfold b_X12_priceOf_87
  rw [nI_l ha, nI_l hb, nI_l hr, h.2.2.1]
  exact ⟨h.1, c_priceW2 h hk ha hQ⟩
theorem c_priceOf {Q : Int64 → wS → Prop} {k : Nat} {e : Option Nat} (h : WBs σ m w q7 W s al d) (hM : MS s) (hd : Dm s d) (hk : k < 12) (he : ∀ x, e = some x → x < mN s ∧ (k ≠ 1 → s 2 x ≠ 1)) (hF : 1000 ≤ F) (hQ : ∀ τ, Fr (PQt m q7) 0 0 σ τ → CM τ m s → CN τ m s → Q (lN (wpr s d k e)) τ) : w_X12_priceOf F σ w (nI k) (oN e) (nI d) Q := by
  obtain ⟨⟨wi, h2, h3, h4⟩, hC, hN⟩ := h
  obtain ⟨⟨hs, l, hb⟩, -, h64⟩ := hM
  have hG := hs.2.1
  have rd := rw_le hs l hb hd.1
  rw [hd.2] at rd
  have d19 : d < 1920 := dm_lt (by omega) hd
  have nG : ∀ {G : List Nat} {τ1 τ2 : wS}, Tw G m τ1 τ2 → (∀ g ∈ G, g ∈ GRw) → oR τ2 1302 w = oR τ1 1302 w := fun u hG => ((u.wq.sam (fun z => absurd (hG _ z) (by decide))) w).1.2.2.1
  unfold w_X12_priceOf w_X0_groupIn
  rw [show (30 : Int32) = nI 30 from rfl, div_I (by omega) (by decide) (by decide)]
  refine ⟨wi.1, m, h2, hC.1.1, c_rowsOf hC hN hs l hb h64 hd.1 (by omega) (by decide) (fun τ1 u1 C1 N1 => ?_)⟩
  rw [hd.2]
  have f1 : Fr (PQt m q7) 0 0 σ τ1 := u1.pq (fun _ h => h)
  have wi1 := wi.pq f1
  have h21 : oR τ1 1302 w = some m := by rw [nG u1 (fun _ h => h)]; exact h2
  have fin : ∀ a b τ2, a < 2 ^ 31 → b < 2 ^ 31 → Fr (PQt m q7) 0 0 σ τ2 → CM τ2 m s → CN τ2 m s → prc k a b (rw' s (d / 30)) = wpr s d k e → b_X12_priceOf_87 F w (nI k) Q τ2 (nI (rw' s (d / 30))) (nI a) (nI b) := fun a b τ2 ha hb' f2 C2 N2 he => by
    refine c_pO87 (wi.pq f2) hk ha hb' (by omega) (fun τ3 w3 => ?_)
    have f3 : Fr (fun g o => o = q7 ∧ g ∈ GTr) 0 0 τ2 τ3 := w3.fr (fun g hg => ⟨rfl, hg⟩)
    have no : ∀ g, g ∉ GTr → ∀ o, ¬ (o = q7 ∧ g ∈ GTr) := fun g hg o z => hg z.2
    rw [he]
    exact hQ τ3 (f2.trans (f3.mono (fun _ _ z => Or.inr z) (Nat.le_refl _) (Nat.le_refl _))) (C2.fr f3 (fun g hg => no g (by revert g; decide) _) (fun g hg => no g (by revert g; decide))) (N2.fr (by rw [C2.1.1.1]; decide) f3 (fun g hg => no g (by revert g; decide) _))
  cases e with
  | none =>
    rw [if_pos (show oN none = (-1 : Int32) from rfl)]
    unfold b_X12_priceOf_23 b_X12_priceOf_44
    rw [if_pos (show oN none = (-1 : Int32) from rfl)]
    unfold b_X12_priceOf_86
    exact fin _ 0 τ1 (by omega) (by decide) f1 C1 N1 rfl
  | some e =>
    obtain ⟨e1, e2⟩ := he e rfl
    have ne1 : ¬ oN (some e) = (-1 : Int32) := nI_m1 (by omega)
    have ce : (oN (some e)).toNatClampNeg = e := nI_clamp (by omega)
    have ve : vp_in (oN (some e)) 64 := vp_inN (by omega) (by decide)
    have k2 := sx_2 hs e1
    have b44 : ∀ a τ2, a < 2 ^ 31 → Fr (PQt m q7) 0 0 σ τ2 → CM τ2 m s → CN τ2 m s → oR τ2 1302 w = some m → a = (if k = 1 then rw' s (d / 30) else rw' s (R s (s 4 e))) → b_X12_priceOf_44 F w (nI k) (oN (some e)) Q τ2 (nI (rw' s (d / 30))) (nI a) := fun a τ2 ha f2 C2 N2 r2 hae => by
      unfold b_X12_priceOf_44
      rw [if_neg ne1, r2, ce]
      obtain ⟨⟨o, a1, a2⟩, -, a4, -⟩ := C2.2.1 e e1
      refine ⟨(wi.pq f2).1, m, rfl, C2.1.1, ve, o, a1, v_inputs a2 k2 ?_⟩
      by_cases k5 : 5 ≤ s 2 e
      · have i2 : inp (s 2 e) = 2 := by unfold inp; rw [if_neg (by omega), if_neg (by omega)]
        rw [i2, if_pos (show nI 2 = (2 : Int32) from rfl)]
        obtain ⟨g', y1, y2, y3⟩ := a4 k5
        have B5 := sx_5 hs e1 k5
        have r5 := rw_le hs l hb B5
        refine ⟨m, r2, C2.1.1, ?_⟩
        rw [y1]
        refine c_rowsOf C2 N2 hs l hb h64 y2 (by omega) (by decide) (fun τ3 u3 C3 N3 => ?_)
        rw [y3]
        refine fin a _ τ3 ha (by omega) (f2.trans (u3.pq (fun _ h => h))) C3 N3 ?_
        show _ = prc k (if k = 1 then rw' s (d / 30) else rw' s (R s (s 4 e))) (if 5 ≤ s 2 e then rw' s (R s (s 5 e)) else 0) (rw' s (d / 30))
        rw [if_pos k5, hae]
      · have i2 : ¬ nI (inp (s 2 e)) = (2 : Int32) := by
          have : inp (s 2 e) < 2 := by unfold inp; split; decide; rw [if_pos (by omega)]; decide
          exact nI_eqf (b := 2) (by omega) (by decide) (by omega)
        rw [if_neg i2]
        unfold b_X12_priceOf_86
        refine fin a 0 τ2 ha (by decide) f2 C2 N2 ?_
        show _ = prc k (if k = 1 then rw' s (d / 30) else rw' s (R s (s 4 e))) (if 5 ≤ s 2 e then rw' s (R s (s 5 e)) else 0) (rw' s (d / 30))
        rw [if_neg k5, hae]
    rw [if_neg ne1]
    by_cases k1 : k = 1
    · rw [if_pos (show nI k = (1 : Int32) by rw [k1]; rfl)]
      unfold b_X12_priceOf_23
      exact b44 _ τ1 (by omega) f1 C1 N1 h21 (by rw [if_pos k1])
    · rw [if_neg (show ¬ nI k = (1 : Int32) from nI_eqf (b := 1) (by omega) (by decide) k1), h21, ce]
      obtain ⟨g', y1, y2, y3⟩ := (C1.2.1 e e1).2.1 (e2 k1)
      have B4 := sx_4 hs e1 (e2 k1)
      have r4 := rw_le hs l hb B4
      refine ⟨m, rfl, C1.1.1, ve, ?_⟩
      rw [y1]
      refine c_rowsOf C1 N1 hs l hb h64 y2 (by omega) (by decide) (fun τ3 u3 C3 N3 => ?_)
      rw [y3]
      exact b44 _ τ3 (by omega) (f1.trans (u3.pq (fun _ h => h))) C3 N3 (by rw [nG u3 (fun _ h => h)]; exact h21) (by rw [if_neg k1])
end PC
