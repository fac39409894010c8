set_option linter.unusedVariables false
set_option maxRecDepth 10000
/-! ===== component: prices, the ways ===== -/
section PC
variable {σ τ υ σ0 : wS} {x m F : Nat} {s : mS} {S : gS} {K K' : Nat → Nat} {P P' : Nat → Nat → Prop} {a b c d r : Nat}
abbrev GTr : List Nat := [200, 201]
theorem c_runs {Q : wS → Prop} {q : Nat} {y : trS} {v : Int32} (hk : ok1 σ q) (h : TrC σ q y) (hx : y.1 < 1000) (hQ : ∀ τ, Wq GTr q σ τ → TrC τ q (rn1 y v) → Q τ) : w_X1_runs σ q v Q := by
  refine ⟨hk, ?_⟩
  rw [h.1]
  by_cases c : 20 ≤ y.1
  · rw [if_pos (show (20 : Int32) ≤ nI y.1 from nI_le (a := 20) c (lt31 (by omega)))]
    refine bnd_I fun τ w v => hQ τ (w.mono (by simp)) ⟨?_, ?_⟩
    · rw [v, ← nI_succ]; rfl
    · show aI τ 200 q = (if y.1 < 20 then _ else y.2)
      rw [if_neg (by omega), ((w.sam (by decide)) q).1.2.2.2, h.2]
  · rw [if_neg (show ¬ (20 : Int32) ≤ nI y.1 from nI_ge (b := 20) (by omega) (by decide))]
    refine ⟨vp_inN (by omega) (by decide), bnd_A fun σ1 w1 v1 => ?_⟩
    rw [((w1.sam (by decide)) q).1.1, h.1]
    rw [nI_clamp (by omega), h.2] at v1
    refine bnd_I fun τ w v => hQ τ ((Wq.refl.up w1 (by decide)).up w (by decide)) ⟨?_, ?_⟩
    · rw [v, ← nI_succ]; rfl
    · show aI τ 200 q = (if y.1 < 20 then _ else y.2)
      rw [if_pos (by omega), ((w.sam (by decide)) q).1.2.2.2, v1]
/-- what a way's method does -/
def CRd (w c q : Nat) (A : wS → (Int64 → wS → Prop) → Prop) (l : List Int32) (v : Int64) : Prop := ∀ (σ : wS) (y : trS) (Q : Int64 → wS → Prop), oC σ w = c → ok1 σ q → TrC σ q y → y.1 + l.length < 1000 → (∀ τ, Wq GTr q σ τ → TrC τ q (rnl y l) → Q v τ) → A σ Q
section
variable {A A0 : wS → (Int64 → wS → Prop) → Prop} {w q : Nat} {l l' : List Int32} {u v v' : Int64}
theorem cr_end {v0 : Int32} (e : ∀ (σ : wS) (Q : Int64 → wS → Prop), (nn (some q) fun b1 => ok1 σ b1 ∧ w_X1_runs σ b1 v0 (fun σ5 => Q v σ5)) → A σ Q) : CRd w c q A [v0] v := by
  intro σ y Q hw ok h hx hQ
  exact e σ Q ⟨q, rfl, ok, c_runs ok h (by omega) (fun τ w B => hQ τ w B)⟩
theorem cr_run {v0 : Int32} {O : wS → Prop} {g : Int64 → Int64} (h0 : CRd w c q A0 l v) (hO : ∀ σ, oC σ w = c → O σ) (e : ∀ (σ : wS) (Q : Int64 → wS → Prop), (nn (some q) fun b1 => ok1 σ b1 ∧ w_X1_runs σ b1 v0 (fun σ5 => O σ5 ∧ A0 σ5 (fun r σ9 => Q (g r) σ9))) → A σ Q) : CRd w c q A (v0 :: l) (g v) := by
  intro σ y Q hw ok h hx hQ
  have hx' : y.1 + (l.length + 1) < 1000 := hx
  refine e σ Q ⟨q, rfl, ok, c_runs ok h (by omega) (fun τ u B => ?_)⟩
  have hc : oC τ w = c := by rw [u.1.1]; exact hw
  refine ⟨hO τ hc, h0 τ (rn1 y v0) _ hc (ok1.ext ok u.ext) B (by show y.1 + 1 + l.length < 1000; omega) (fun υ w2 B2 => ?_)⟩
  exact hQ υ (u.trans w2) B2
theorem vI {c d : Nat} {A B : Prop} (n : c ≠ d) (h : B) : (if c = d then A else B) := by rw [if_neg n]; exact h
theorem vT {c : Nat} {A B : Prop} (h : A) : (if c = c then A else B) := by rw [if_pos rfl]; exact h
variable {a1 a3 a5 : Int64}
theorem c13_rd : CRd w c q (fun σ Q => w_X13_reads σ w a1 a3 a5 (some q) Q) [10] a1 := cr_end (fun σ Q h => h)
theorem c14_rd (hc : c = 15 ∨ c = 16 ∨ c = 17 ∨ c = 18) : CRd w c q (fun σ Q => w_X14_reads σ w a1 a3 a5 (some q) Q) [30, 10] (a1 + a3) :=
  cr_run (g := fun r => r + a3) (O := fun σ => oS114 σ w) c13_rd (fun σ h => by unfold oS114; rw [h]; exact hc) (fun σ Q h => h)
theorem c16_rd : CRd w 17 q (fun σ Q => w_X16_reads σ w a1 a3 a5 (some q) Q) [50, 30, 10] (a1 + a3 + a5) :=
  cr_run (g := fun r => r + a5) (O := fun σ => ok16 σ w) (c14_rd (by decide)) (fun σ h => h) (fun σ Q h => h)
theorem c19_rd : CRd w 20 q (fun σ Q => w_X19_reads σ w a1 a3 a5 (some q) Q) [80, 10] (a1 * 2) :=
  cr_run (g := fun r => r * 2) (O := fun σ => ok19 σ w) c13_rd (fun σ h => h) (fun σ Q h => h)
theorem c13_wk : CRd w c q (fun σ Q => w_X13_works σ w a1 a3 a5 (some q) Q) [11] 0 := cr_end (fun σ Q h => h)
theorem c14_wk (hc : c = 15 ∨ c = 16 ∨ c = 17 ∨ c = 18) : CRd w c q (fun σ Q => w_X14_works σ w a1 a3 a5 (some q) Q) [31, 11] (0 + a5) :=
  cr_run (g := fun r => r + a5) (O := fun σ => oS114 σ w) c13_wk (fun σ h => by unfold oS114; rw [h]; exact hc) (fun σ Q h => h)
theorem c15_wk : CRd w 16 q (fun σ Q => w_X15_works σ w a1 a3 a5 (some q) Q) [40, 31, 11] (0 + a5 + a3) :=
  cr_run (g := fun r => r + a3) (O := fun σ => ok15 σ w) (c14_wk (by decide)) (fun σ h => h) (fun σ Q h => h)
theorem c17_wk : CRd w 18 q (fun σ Q => w_X17_works σ w a1 a3 a5 (some q) Q) [60, 31, 11] (0 + a5 + a1 * a3) :=
  cr_run (g := fun r => r + a1 * a3) (O := fun σ => ok17 σ w) (c14_wk (by decide)) (fun σ h => h) (fun σ Q h => h)
theorem c18_wk (hc : c = 19 ∨ c = 20) : CRd w c q (fun σ Q => w_X18_works σ w a1 a3 a5 (some q) Q) [70, 11] (0 + a5) :=
  cr_run (g := fun r => r + a5) (O := fun σ => oS118 σ w) c13_wk (fun σ h => by unfold oS118; rw [h]; exact hc) (fun σ Q h => h)
theorem c20_wk (ha : a < 2 ^ 31) : CRd w 21 q (fun σ Q => w_X20_works σ w (lN a) a3 a5 (some q) Q) [100, 11] (0 + lN a * lN (bl 64 a)) := by
  intro σ y Q hw ok h hx hQ
  have hx' : y.1 + 2 < 1000 := hx
  refine ⟨q, rfl, ok, c_runs ok h (by omega) (fun τ w1 B => ?_)⟩
  have hc : oC τ w = 21 := by rw [w1.1.1]; exact hw
  refine ⟨hc, c13_wk (c := 21) τ (rn1 y 100) _ hc (ok1.ext ok w1.ext) B (by show y.1 + 1 + 1 < 1000; omega) (fun υ w2 B2 => ?_)⟩
  refine c_nlz ha ?_
  have b := bl_le 64 a
  have := hQ υ (w1.trans w2) B2
  rw [show (64 : Int32) = nI 64 from rfl, sub_I (by omega), show 64 - (64 - bl 64 a) = bl 64 a by omega, nI_l (by omega)]
  exact this
end
theorem c_reads {w q k : Nat} (hk : k < 12) : CRd w (wyT k) q (fun σ Q => v_X13v_reads σ w (lN a) (lN b) (lN r) (some q) Q) (rdl k) (lN (rdp k a b r)) := by
  intro σ y Q hw ok h hx hQ
  have h2 : (2 : Int64) = lN 2 := rfl
  show v_X13v_reads σ w (lN a) (lN b) (lN r) (some q) Q
  unfold v_X13v_reads
  rw [hw]
  match k, hk with
  | 0, _ => exact vT (c13_rd σ y Q hw ok h hx hQ)
  | 1, _ => exact vT (c13_rd σ y Q hw ok h hx hQ)
  | 2, _ => exact vT (c13_rd σ y Q hw ok h hx hQ)
  | 3, _ => exact vI (by decide) (vT (c14_rd (by decide) σ y Q hw ok h hx (by rw [lN_add]; exact hQ)))
  | 4, _ => exact vI (by decide) (vI (by decide) (vT (c14_rd (by decide) σ y Q hw ok h hx (by rw [lN_add]; exact hQ))))
  | 5, _ => exact vI (by decide) (vI (by decide) (vI (by decide) (vT (c16_rd σ y Q hw ok h hx (by rw [lN_add, lN_add]; exact hQ)))))
  | 6, _ => exact vI (by decide) (vI (by decide) (vI (by decide) (vI (by decide) (vT (c14_rd (by decide) σ y Q hw ok h hx (by rw [lN_add]; exact hQ))))))
  | 7, _ => exact vI (by decide) (vI (by decide) (vI (by decide) (vI (by decide) (vI (by decide) (vT (c13_rd σ y Q hw ok h hx hQ))))))
  | 8, _ => exact vI (by decide) (vI (by decide) (vI (by decide) (vI (by decide) (vI (by decide) (vI (by decide) (vT (c19_rd σ y Q hw ok h hx (by rw [h2, lN_mul]; exact hQ))))))))
  | 9, _ => exact vI (by decide) (vI (by decide) (vI (by decide) (vI (by decide) (vI (by decide) (vT (c13_rd σ y Q hw ok h hx hQ))))))
  | 10, _ => exact vI (by decide) (vI (by decide) (vI (by decide) (vI (by decide) (vI (by decide) (vI (by decide) (vI (by decide) (vT (c13_rd σ y Q hw ok h hx hQ))))))))
  | 11, _ => exact vI (by decide) (vI (by decide) (vI (by decide) (vI (by decide) (vI (by decide) (vI (by decide) (vI (by decide) (vI (by decide) (vT (c13_rd σ y Q hw ok h hx hQ)))))))))
theorem c_works {w q k : Nat} (hk : k < 12) (ha : a < 2 ^ 31) : CRd w (wyT k) q (fun σ Q => v_X13v_works σ w (lN a) (lN b) (lN r) (some q) Q) (wkl k) (lN (wkp k a b r)) := by
  intro σ y Q hw ok h hx hQ
  have h0 : (0 : Int64) = lN 0 := rfl
  show v_X13v_works σ w (lN a) (lN b) (lN r) (some q) Q
  unfold v_X13v_works
  rw [hw]
  match k, hk with
  | 0, _ => exact vT (c13_wk σ y Q hw ok h hx hQ)
  | 1, _ => exact vT (c13_wk σ y Q hw ok h hx hQ)
  | 2, _ => exact vT (c13_wk σ y Q hw ok h hx hQ)
  | 3, _ => exact vI (by decide) (vT (c14_wk (by decide) σ y Q hw ok h hx (by rw [h0, lN_add]; exact hQ)))
  | 4, _ => exact vI (by decide) (vI (by decide) (vT (c15_wk σ y Q hw ok h hx (by rw [h0, lN_add, lN_add]; exact hQ))))
  | 5, _ => exact vI (by decide) (vI (by decide) (vI (by decide) (vT (c14_wk (by decide) σ y Q hw ok h hx (by rw [h0, lN_add]; exact hQ)))))
  | 6, _ => exact vI (by decide) (vI (by decide) (vI (by decide) (vI (by decide) (vT (c17_wk σ y Q hw ok h hx (by rw [h0, lN_mul, lN_add, lN_add]; exact hQ))))))
  | 7, _ => exact vI (by decide) (vI (by decide) (vI (by decide) (vI (by decide) (vI (by decide) (vT (c18_wk (by decide) σ y Q hw ok h hx (by rw [h0, lN_add]; exact hQ)))))))
  | 8, _ => exact vI (by decide) (vI (by decide) (vI (by decide) (vI (by decide) (vI (by decide) (vI (by decide) (vT (c18_wk (by decide) σ y Q hw ok h hx (by rw [h0, lN_add]; exact hQ))))))))
  | 9, _ => exact vI (by decide) (vI (by decide) (vI (by decide) (vI (by decide) (vI (by decide) (vT (c18_wk (by decide) σ y Q hw ok h hx (by rw [h0, lN_add]; exact hQ)))))))
  | 10, _ => exact vI (by decide) (vI (by decide) (vI (by decide) (vI (by decide) (vI (by decide) (vI (by decide) (vI (by decide) (vT (c20_wk ha σ y Q hw ok h hx (by rw [h0, lN_mul, lN_add]; exact hQ)))))))))
  | 11, _ => exact vI (by decide) (vI (by decide) (vI (by decide) (vI (by decide) (vI (by decide) (vI (by decide) (vI (by decide) (vI (by decide) (vT (c13_wk σ y Q hw ok h hx hQ)))))))))
theorem rdl_le (k : Nat) : (rdl k).length ≤ 3 := by unfold rdl; repeat' split
                                                    all_goals decide
theorem wkl_le (k : Nat) : (wkl k).length ≤ 3 := by unfold wkl; repeat' split
                                                    all_goals decide
/-- a way's price -/
theorem c_priceV {Q : Int64 → wS → Prop} {w q k : Nat} {y : trS} (hw : oC σ w = wyT k) (ok : ok1 σ q) (h : TrC σ q y) (hx : y.1 < 900) (hk : k < 12) (ha : a < 2 ^ 31) (hQ : ∀ τ, Wq GTr q σ τ → TrC τ q (rnl y (prl k)) → Q (lN (prc k a b r)) τ) : v_X13v_price σ w (lN a) (lN b) (lN r) (some q) Q := by
  have l1 := rdl_le k
  have l2 := wkl_le k
  have core : ∀ (σ : wS) (y : trS) (Q : Int64 → wS → Prop), oC σ w = wyT k → ok1 σ q → TrC σ q y → y.1 < 950 → (∀ τ, Wq GTr q σ τ → TrC τ q (rnl y ([12] ++ rdl k ++ wkl k)) → Q (lN (rdp k a b r + wkp k a b r)) τ) → w_X13_price σ w (lN a) (lN b) (lN r) (some q) Q := by
    intro σ y Q hw ok h hx hQ
    refine ⟨q, rfl, ok, c_runs ok h (by omega) (fun τ w1 B => ?_)⟩
    refine c_reads hk τ _ _ (by rw [w1.1.1]; exact hw) (ok1.ext ok w1.ext) B (by show y.1 + 1 + _ < 1000; omega) (fun τ2 w2 B2 => ?_)
    have n2 := rnl_1 (x := rn1 y 12) (rdl k)
    have n1 : (rn1 y 12).1 = y.1 + 1 := rfl
    refine c_works hk ha τ2 _ _ (by rw [w2.1.1, w1.1.1]; exact hw) (ok1.ext (ok1.ext ok w1.ext) w2.ext) B2 (by omega) (fun τ3 w3 B3 => ?_)
    rw [lN_add]
    refine hQ τ3 ((w1.trans w2).trans w3) ?_
    rw [rnl_app, rnl_app]
    exact B3
  by_cases c : k = 11
  · subst c
    unfold v_X13v_price
    rw [hw]
    refine vI (by decide) (vI (by decide) (vI (by decide) (vI (by decide) (vI (by decide) (vI (by decide) (vI (by decide) (vI (by decide) (vT ?_))))))))
    refine ⟨q, rfl, ok, c_runs ok h (by omega) (fun τ w1 B => ⟨(by rw [w1.1.1]; exact hw : oC τ w = 22), ?_⟩)⟩
    refine core τ _ _ (by rw [w1.1.1]; exact hw) (ok1.ext ok w1.ext) B (by show y.1 + 1 < 950; omega) (fun τ2 w2 B2 => ?_)
    have := hQ τ2 (w1.trans w2) B2
    rw [show (3 : Int64) = lN 3 from rfl, lN_mul]
    exact this
  · have e1 : prl k = [12] ++ rdl k ++ wkl k := by unfold prl; rw [if_neg c]
    have e2 : prc k a b r = rdp k a b r + wkp k a b r := by unfold prc; rw [if_neg c]
    rw [e1, e2] at hQ
    have := core σ y Q hw ok h (by omega) hQ
    unfold v_X13v_price
    rw [hw]
    match k, hk with
    | 0, _ => exact vT this
    | 1, _ => exact vT this
    | 2, _ => exact vT this
    | 3, _ => exact vI (by decide) (vT this)
    | 4, _ => exact vI (by decide) (vI (by decide) (vT this))
    | 5, _ => exact vI (by decide) (vI (by decide) (vI (by decide) (vT this)))
    | 6, _ => exact vI (by decide) (vI (by decide) (vI (by decide) (vI (by decide) (vT this))))
    | 7, _ => exact vI (by decide) (vI (by decide) (vI (by decide) (vI (by decide) (vI (by decide) (vT this)))))
    | 8, _ => exact vI (by decide) (vI (by decide) (vI (by decide) (vI (by decide) (vI (by decide) (vI (by decide) (vT this))))))
    | 9, _ => exact vI (by decide) (vI (by decide) (vI (by decide) (vI (by decide) (vI (by decide) (vT this)))))
    | 10, _ => exact vI (by decide) (vI (by decide) (vI (by decide) (vI (by decide) (vI (by decide) (vI (by decide) (vI (by decide) (vT this)))))))
    | 11, _ => exact absurd rfl c
/-- the ways' price, any trace -/
theorem c_priceW {Q : Int64 → wS → Prop} {q k : Nat} (h6 : ok12 σ (K 6)) (hW : ∀ k, k < 12 → aR σ 81300 (K 6) k = some (K (30 + k)) ∧ oC σ (K (30 + k)) = wyT k) (ok : ok1 σ q) (hk : k < 12) (ha : a < 2 ^ 31) (hQ : ∀ τ, Wq GTr q σ τ → TrC τ q (rnl (0, aI σ 200 q) (prl k)) → Q (lN (prc k a b r)) τ) : w_X12_price σ (K 6) (nI k) (lN a) (lN b) (lN r) (some q) Q := by
  refine ⟨q, rfl, ok, bnd_I fun τ w v => ⟨ok12.ext h6 w.ext, vp_inN hk (by decide), ?_⟩⟩
  rw [nI_clamp (by omega), ((w.sam (by decide)) _).2.2]
  refine ⟨K (30 + k), (hW k hk).1, ?_⟩
  refine c_priceV (y := (0, aI σ 200 q)) (by rw [w.1.1]; exact (hW k hk).2) (ok1.ext ok w.ext) ⟨v, ((w.sam (by decide)) q).1.2.2.2⟩ (show 0 < 900 by decide) hk ha (fun τ2 w2 B2 => ?_)
  exact hQ τ2 ((w.mono (by simp)).trans w2) B2
theorem ck_tr {y : trS} (h : CK σ x K S) (hA : AV S) (f : Fr (fun g o => o = K 1 ∧ g ∈ GTr) a b σ τ) (e : TrC τ (K 1) y) : CK τ x K (sTr S y) := by
  obtain ⟨⟨k1, k2, k3⟩, ⟨k4, k5, k6⟩, k7, k8⟩ := h
  have hx := k1.1.1.1
  have no : ∀ g, g ∉ GTr → ∀ o, ¬ (o = K 1 ∧ g ∈ GTr) := fun g hg o z => hg z.2
  refine ⟨⟨k1.fr f (fun g hg => no g (by revert g; decide)), k2.fr f (fun g hg => no g (by revert g; decide) _) (fun g hg => no g (by revert g; decide)), fun i hi => ?_⟩, ⟨k4.fr k1 hA f (fun g hg => no g (by revert g; decide)), e, ?_⟩, k7.fr hx f (fun g hg o _ => no g (by revert g; decide) o) (fun g hg => no g (by revert g; decide)), k8.fr hx f (fun g hg => no g (by revert g; decide))⟩
  · rw [f.A hx (no _ (by decide) _)]; exact k3 i hi
  · rw [f.I hx (no _ (by decide) _)]; exact k6
theorem c_price {Q : Int64 → wS → Prop} {v1 v2 v3 v4 : Int32} (hK : CK σ x K S) (hI : IV S) (hr : RM σ) (hQ : ∀ τ, Cf σ τ → CC τ x (o_price S v1 v2 v3 v4).2 → Q (o_price S v1 v2 v3 v4).1 τ) : w_X0_price σ x v1 v2 v3 v4 Q := by
  have hA := hI.1.2
  unfold w_X0_price
  have h1 : oC σ (K 1) ≠ 25 := by rw [hK.1.1.2.1.1.1]; decide
  refine c_in0 (N := 12) (by decide) (by decide) (fun ek => ?_) (fun k hk ek' ek => ?_)
  · have eo : o_price S v1 v2 v3 v4 = noL S 1 := by unfold o_price; rw [ek]
    rw [eo] at hQ
    exact c_needX (n := 1) (Q := fun r σ => Q r.toInt64 σ) hK hA (by decide) (fr0 (σ := σ)) noP hr (by decide) (by decide) (fun _ _ => rfl) (fun z => absurd rfl z) (fun _ => hQ)
  refine c_needX (n := 1) (Q := fun r σ => Q r.toInt64 σ) hK hA (by decide) (fr0 (σ := σ)) noP hr (by decide) (by decide) (fun _ _ => rfl) (fun _ => ?_) (fun z => absurd z (by decide))
  have bad : (num 1000001 v2 = none ∨ num 1000001 v3 = none ∨ num 1000001 v4 = none) → b_X0_price_40 x v1 v2 v3 v4 Q σ 0 := fun e => by
    have eo : o_price S v1 v2 v3 v4 = noL S 6 := by unfold o_price; rw [ek]; rcases e with e | e | e <;> rw [e] <;> cases num 1000001 v2 <;> cases num 1000001 v3 <;> rfl
    rw [eo] at hQ
    exact c_needX (n := 6) (Q := fun r σ => Q r.toInt64 σ) hK hA (by decide) (fr0 (σ := σ)) noP hr (by decide) (by decide) (fun _ _ => rfl) (fun z => absurd rfl z) (fun _ => hQ)
  refine c_in0 (N := 1000001) (by decide) (by decide) (fun e => ?_) (fun a' ha' ea e1 => ?_)
  · refine ⟨Or.inl rfl, ?_⟩
    dsimp only
    rw [if_pos rfl]; exact bad (Or.inl e)
  refine ⟨Or.inr rfl, ?_⟩
  dsimp only
  rw [if_neg (by decide)]
  refine c_in0 (N := 1000001) (by decide) (by decide) (fun e => ?_) (fun b' hb' eb e2 => ?_)
  · refine ⟨Or.inl rfl, ?_⟩
    dsimp only
    rw [if_pos rfl]; exact bad (Or.inr (Or.inl e))
  refine ⟨Or.inr rfl, ?_⟩
  dsimp only
  rw [if_neg (by decide)]
  refine c_in0 (N := 1000001) (by decide) (by decide) (fun e => ?_) (fun r' hr' er e3 => ?_)
  · refine ⟨Or.inl rfl, ?_⟩
    dsimp only
    rw [if_pos rfl]; exact bad (Or.inr (Or.inr e))
  refine ⟨Or.inr rfl, ?_⟩
  dsimp only
  rw [if_neg (by decide)]
  have eo : o_price S v1 v2 v3 v4 = (lN (prc k a' b' r'), sTr S (rnl (0, S.2.2.2.2.2) (prl k))) := by unfold o_price; rw [ek, e1, e2, e3]
  rw [eo] at hQ
  refine c_needX (n := 6) (Q := fun r σ => Q r.toInt64 σ) hK hA (by decide) (fr0 (σ := σ)) noP hr (by decide) (by decide) (fun _ _ => rfl) (fun _ => ?_) (fun z => absurd z (by decide))
  obtain ⟨⟨a1, a2, a3, a4, a5⟩, ⟨b1, b2, b3, b4, b5, b6, b7⟩, h2, ⟨c1, c2, c3, c4⟩, r, w, sh, di⟩ := hK.1.1
  refine ⟨a1, K 3, a5, b3, K 6, c3, b6, ?_⟩
  rw [a3, ek', ea, eb, er, nI_l (by omega), nI_l (by omega), nI_l (by omega)]
  refine c_priceW b6 w b1 hk (by omega) (fun τ w h => ?_)
  rw [hK.2.1.2.1.2] at h
  have f : Fr (fun g o => o = K 1 ∧ g ∈ GTr) 0 0 σ τ := w.fr (fun g hg => ⟨rfl, hg⟩)
  exact hQ τ (f.cf (fun g o z => by rw [z.1]; exact h1) (by decide) (by decide)) ⟨K, ck_tr hK hA f h⟩
end PC
