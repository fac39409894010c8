set_option linter.unusedVariables false
set_option maxRecDepth 10000
/-! ===== component: the constructor, whole ===== -/
section PC
variable {σ τ υ σ0 : wS} {x m F t q : Nat} {s : mS} {S : gS} {K K' : Nat → Nat} {P P' : Nat → Nat → Prop} {a b c d : Nat} {kk : wS → Prop}
theorem c_mkvG {g f n q c : Nat} {k : wS → Prop} (hf : f % 10000 = 0) (hgf : g ≠ f) (h0 : Fr P a b σ0 σ) (hq0 : oC σ0 q = 0 ∨ ∀ g', P g' q) (hc : oC σ q = c + 1) (hN : aN σ g q = none) (hr : 1 ≤ rC σ ∧ n ≤ rS σ) (hk : ∀ τ, Fr P (a + 1) (b + n) σ0 τ → Bo [g] q σ τ → rC τ = rC σ - 1 ∧ rS τ = rS σ - n → aN τ g q = some n → (∀ j, aI τ g q j = 0 ∧ aJ τ g q j = 0 ∧ aR τ g q j = none) → k τ) : nwo σ n (bnd (mkA σ f n) fun σ8 => aN σ8 g q = none ∧ bnd (mvA σ8 g q f (nx σ)) k) := by
  refine ⟨hr, fun hc0 _ σ8 e8 => ?_⟩
  subst e8
  have hN8 : aN (mkA σ f n) g q = none := (u2_g hgf).trans hN
  refine ⟨hN8, fun τ e => ?_⟩
  subst e
  have hqn : q ≠ nx σ := fun z => by rw [z, hc0] at hc; cases hc
  obtain ⟨f1, f2, ⟨f3, f4⟩, f5⟩ := h0
  refine hk _ ⟨(f1.trans (Ext.mkA hf)).trans (Ext.mvA hf hN8), fun g' o ho hp => ?_, ⟨?_, ?_⟩, ?_⟩ ⟨rfl, fun g' hg' => ?_⟩ ⟨rfl, rfl⟩ ?_ (fun j => ⟨?_, ?_, ?_⟩)
  · obtain ⟨⟨⟨x1, x2, x3, x4⟩, x5, x6⟩, x7, x8⟩ := f2 g' o ho hp
    have n1 : o ≠ nx σ := fun z => ho (by have := f1.1 o ho; rw [z, hc0] at this; rw [z]; exact this.symm)
    have n2 : o ≠ q := fun z => by
      rcases hq0 with y | y
      · exact ho (by rw [z]; exact y)
      · exact hp (by rw [z]; exact y g')
    refine ⟨⟨⟨x1, x2, x3, ?_⟩, ?_, ?_⟩, ?_, ?_⟩
    · exact ((u2_a n2).trans (u2_a n1)).trans x4
    · exact ((u2_a n2).trans (u2_a n1)).trans x5
    · exact ((u2_a n2).trans (u2_a n1)).trans x6
    · exact (((u2_a n2).trans (u2_a n1)).trans (u2_a n1)).trans x7
    · exact ((u2_a n2).trans (u2_a n1)).trans x8
  · show rC σ0 ≤ rC σ - 1 + (a + 1); omega
  · show rS σ0 ≤ rS σ - n + (b + n); omega
  · show nx σ0 ≤ nx σ + 1; omega
  · have ng : g' ≠ g := fun z => hg' (by rw [z]; exact List.mem_singleton.mpr rfl)
    refine ⟨⟨⟨rfl, rfl, rfl, ?_⟩, ?_, ?_⟩, ?_⟩
    · exact (u2_g ng).trans (u2_a hqn)
    · exact (u2_g ng).trans (u2_a hqn)
    · exact (u2_g ng).trans (u2_a hqn)
    · exact ((u2_g ng).trans (u2_a hqn)).trans (u2_a hqn)
  · exact u2_s.trans u2_s
  · exact congrFun (u2_s.trans u2_s) j
  · exact congrFun (u2_s.trans u2_s) j
  · exact congrFun (u2_s.trans u2_s) j
/-- an object that is new to the base counts for nothing -/
theorem Fr.new {P' : Nat → Nat → Prop} (h : Fr P a b σ τ) (d : ∀ g o, P g o → P' g o ∨ oC σ o = 0) : Fr P' a b σ τ := ⟨h.1, fun g o ho hp => h.2.1 g o ho (fun z => (d g o z).elim hp ho), h.2.2⟩
/-- a search -/
def SI (τ : wS) (q w t : Nat) (W : Nat → Nat) : Prop := ok11 τ q ∧ oR τ 1200 q = some w ∧ WI τ w t W
theorem WI.fr {w : Nat} {W : Nat → Nat} (h : WI σ w t W) (f : Fr P a b σ τ) (d : ∀ g ∈ [1301, 81300], ¬ P g w) : WI τ w t W := by
  obtain ⟨h1, h2, h3, h4⟩ := h
  refine ⟨ok12.ext h1 f.1, ok1.ext h2 f.1, by rw [f.R h1.1 (d _ (by decide))]; exact h3, fun k hk => ?_⟩
  rw [f.AR h1.1 (d _ (by decide))]
  have := h4 k hk
  refine ⟨this.1, (f.1.1 _ ?_).trans this.2⟩
  rw [this.2]
  have := wyT_S k hk
  omega
theorem c_new11 (hF : 100 ≤ F) (hr : 30 ≤ rC σ ∧ 125500 ≤ rS σ) (hk : ∀ τ w t W, Fr (fun _ _ => False) 30 125500 σ τ → oC σ (nx σ) = 0 → oC σ t = 0 → SI τ (nx σ) w t W → kk τ) : nwo σ 18 (bnd (mkO σ 11 18) fun σ5 => w_X11_init F σ5 (nx σ) kk) := by
  refine c_nwo (by omega) (fun τ0 f0 no _ => ?_)
  obtain ⟨g1, g2⟩ := f0.2.2.1
  have hq := no.2.1
  have i0 : oC τ0 (nx σ) = 11 + 1 := no.1
  unfold w_X11_init
  refine c_new12 hF (by omega) (fun τ1 tt W f1 hq1 ht0 wi => ?_)
  have ht : oC σ tt = 0 := by
    rcases Nat.eq_zero_or_pos (oC σ tt) with z | z
    · exact z
    · have := f0.1.1 _ (Nat.pos_iff_ne_zero.mp z)
      rw [ht0] at this
      omega
  have b1 := f1.bo (q := nx σ) (by omega) (fun _ z => z)
  have i1 : oC τ1 (nx σ) = 11 + 1 := b1.1.trans i0
  refine ⟨i1, bnd_R fun τ2 w2 v2 => ?_⟩
  have f2 : Fr (fun _ _ => False) 17 58 σ τ2 := ((f0.trans f1).w w2 (Or.inl hq)).mono (fun _ _ z => z) (by decide) (by decide)
  have i2 : oC τ2 (nx σ) = 11 + 1 := by rw [w2.1.1]; exact i1
  have nwq : nx τ0 ≠ nx σ := fun z => by rw [z, i0] at hq1; cases hq1
  have wi2 : WI τ2 (nx τ0) tt W := wi.fr (w2.fr (P := fun g o => o = nx σ ∧ g = 1200) (fun g hg => ⟨rfl, List.mem_singleton.mp hg⟩)) (fun g hg z => nwq z.1)
  have z2 : ∀ g, aN τ2 g (nx σ) = none := fun g => by rw [w2.1.2.1, (b1.2 g (fun z => nomatch z)).2]; exact (no.2.2 g).2.2.2
  obtain ⟨x2, y2⟩ := f2.2.2.1
  have e2 : Fr (fun _ o => o = nx σ) 0 0 τ2 τ2 := Fr.refl
  refine c_mkvG (g := 11201) (by decide) (by decide) e2 (Or.inr (fun _ => rfl)) i2 (z2 _) (by omega) (fun τ3 e3 b3 _ n3 _ => ?_)
  have B3 : Bo [11201] (nx σ) τ2 τ3 := b3
  have i3 : oC τ3 (nx σ) = 11 + 1 := B3.1.trans i2
  obtain ⟨x3, y3⟩ := e3.2.2.1
  refine c_mkvG (g := 21202) (by decide) (by decide) e3 (Or.inr (fun _ => rfl)) i3 (by rw [(B3.2 _ (by decide)).2]; exact z2 _) (by omega) (fun τ4 e4 b4 _ n4 _ => ?_)
  have B4 : Bo [11201, 21202] (nx σ) τ2 τ4 := (B3.mono (by decide)).up b4 (by decide)
  have i4 : oC τ4 (nx σ) = 11 + 1 := B4.1.trans i2
  obtain ⟨x4, y4⟩ := e4.2.2.1
  refine c_mkvG (g := 21203) (by decide) (by decide) e4 (Or.inr (fun _ => rfl)) i4 (by rw [(B4.2 _ (by decide)).2]; exact z2 _) (by omega) (fun τ5 e5 b5 _ n5 _ => ?_)
  have B5 : Bo [11201, 21202, 21203] (nx σ) τ2 τ5 := (B4.mono (by decide)).up b5 (by decide)
  have i5 : oC τ5 (nx σ) = 11 + 1 := B5.1.trans i2
  obtain ⟨x5, y5⟩ := e5.2.2.1
  refine c_mkvG (g := 1204) (by decide) (by decide) e5 (Or.inr (fun _ => rfl)) i5 (by rw [(B5.2 _ (by decide)).2]; exact z2 _) (by omega) (fun τ6 e6 b6 _ n6 _ => ?_)
  have B6 : Bo [11201, 21202, 21203, 1204] (nx σ) τ2 τ6 := (B5.mono (by decide)).up b6 (by decide)
  have i6 : oC τ6 (nx σ) = 11 + 1 := B6.1.trans i2
  obtain ⟨x6, y6⟩ := e6.2.2.1
  refine c_mkvG (g := 1205) (by decide) (by decide) e6 (Or.inr (fun _ => rfl)) i6 (by rw [(B6.2 _ (by decide)).2]; exact z2 _) (by omega) (fun τ7 e7 b7 _ n7 _ => ?_)
  have B7 : Bo [11201, 21202, 21203, 1204, 1205] (nx σ) τ2 τ7 := (B6.mono (by decide)).up b7 (by decide)
  have i7 : oC τ7 (nx σ) = 11 + 1 := B7.1.trans i2
  obtain ⟨x7, y7⟩ := e7.2.2.1
  refine c_mkvG (g := 1206) (by decide) (by decide) e7 (Or.inr (fun _ => rfl)) i7 (by rw [(B7.2 _ (by decide)).2]; exact z2 _) (by omega) (fun τ8 e8 b8 _ n8 _ => ?_)
  have B8 : Bo [11201, 21202, 21203, 1204, 1205, 1206] (nx σ) τ2 τ8 := (B7.mono (by decide)).up b8 (by decide)
  have i8 : oC τ8 (nx σ) = 11 + 1 := B8.1.trans i2
  obtain ⟨x8, y8⟩ := e8.2.2.1
  refine c_mkvG (g := 1207) (by decide) (by decide) e8 (Or.inr (fun _ => rfl)) i8 (by rw [(B8.2 _ (by decide)).2]; exact z2 _) (by omega) (fun τ9 e9 b9 _ n9 _ => ?_)
  have B9 : Bo [11201, 21202, 21203, 1204, 1205, 1206, 1207] (nx σ) τ2 τ9 := (B8.mono (by decide)).up b9 (by decide)
  have i9 : oC τ9 (nx σ) = 11 + 1 := B9.1.trans i2
  obtain ⟨x9, y9⟩ := e9.2.2.1
  refine c_mkvG (g := 1208) (by decide) (by decide) e9 (Or.inr (fun _ => rfl)) i9 (by rw [(B9.2 _ (by decide)).2]; exact z2 _) (by omega) (fun τ10 e10 b10 _ n10 _ => ?_)
  have B10 : Bo [11201, 21202, 21203, 1204, 1205, 1206, 1207, 1208] (nx σ) τ2 τ10 := (B9.mono (by decide)).up b10 (by decide)
  have i10 : oC τ10 (nx σ) = 11 + 1 := B10.1.trans i2
  obtain ⟨x10, y10⟩ := e10.2.2.1
  refine c_mkvG (g := 1209) (by decide) (by decide) e10 (Or.inr (fun _ => rfl)) i10 (by rw [(B10.2 _ (by decide)).2]; exact z2 _) (by omega) (fun τ11 e11 b11 _ n11 _ => ?_)
  have B11 : Bo [11201, 21202, 21203, 1204, 1205, 1206, 1207, 1208, 1209] (nx σ) τ2 τ11 := (B10.mono (by decide)).up b11 (by decide)
  have i11 : oC τ11 (nx σ) = 11 + 1 := B11.1.trans i2
  obtain ⟨x11, y11⟩ := e11.2.2.1
  refine c_mkvG (g := 1210) (by decide) (by decide) e11 (Or.inr (fun _ => rfl)) i11 (by rw [(B11.2 _ (by decide)).2]; exact z2 _) (by omega) (fun τ12 e12 b12 _ n12 _ => ?_)
  have B12 : Bo [11201, 21202, 21203, 1204, 1205, 1206, 1207, 1208, 1209, 1210] (nx σ) τ2 τ12 := (B11.mono (by decide)).up b12 (by decide)
  have i12 : oC τ12 (nx σ) = 11 + 1 := B12.1.trans i2
  obtain ⟨x12, y12⟩ := e12.2.2.1
  refine c_mkvG (g := 1211) (by decide) (by decide) e12 (Or.inr (fun _ => rfl)) i12 (by rw [(B12.2 _ (by decide)).2]; exact z2 _) (by omega) (fun τ13 e13 b13 _ n13 _ => ?_)
  have B13 : Bo [11201, 21202, 21203, 1204, 1205, 1206, 1207, 1208, 1209, 1210, 1211] (nx σ) τ2 τ13 := (B12.mono (by decide)).up b13 (by decide)
  have i13 : oC τ13 (nx σ) = 11 + 1 := B13.1.trans i2
  obtain ⟨x13, y13⟩ := e13.2.2.1
  refine c_mkvG (g := 31212) (by decide) (by decide) e13 (Or.inr (fun _ => rfl)) i13 (by rw [(B13.2 _ (by decide)).2]; exact z2 _) (by omega) (fun τ14 e14 b14 _ n14 _ => ?_)
  have B14 : Bo [11201, 21202, 21203, 1204, 1205, 1206, 1207, 1208, 1209, 1210, 1211, 31212] (nx σ) τ2 τ14 := (B13.mono (by decide)).up b14 (by decide)
  have i14 : oC τ14 (nx σ) = 11 + 1 := B14.1.trans i2
  obtain ⟨x14, y14⟩ := e14.2.2.1
  refine c_mkvG (g := 11213) (by decide) (by decide) e14 (Or.inr (fun _ => rfl)) i14 (by rw [(B14.2 _ (by decide)).2]; exact z2 _) (by omega) (fun τ15 e15 b15 _ n15 _ => ?_)
  have B15 : Bo [11201, 21202, 21203, 1204, 1205, 1206, 1207, 1208, 1209, 1210, 1211, 31212, 11213] (nx σ) τ2 τ15 := (B14.mono (by decide)).up b15 (by decide)
  have i15 : oC τ15 (nx σ) = 11 + 1 := B15.1.trans i2
  obtain ⟨x15, y15⟩ := e15.2.2.1
  have k : ∀ {τa τb : wS} {g : Nat} {n : Option Nat}, aN τa g (nx σ) = n → ∀ g', Bo [g'] (nx σ) τa τb → g ≠ g' → aN τb g (nx σ) = n := fun {τa τb g n} h g' bb hg => by
    rw [(bb.2 g (fun z => hg (List.mem_singleton.mp z))).2]; exact h
  have FF : Fr (fun _ _ => False) 30 125500 σ τ15 := (((f2.mono (P' := fun _ o => o = nx σ) (fun _ _ z => z.elim) (Nat.le_refl _) (Nat.le_refl _)).trans e15).mono (fun _ _ z => z) (by decide) (by decide)).new (fun g o z => Or.inr (by rw [z]; exact hq))
  refine hk τ15 (nx τ0) tt W FF hq ht ⟨⟨i15, ?_, ?_, ?_, ?_, ?_, ?_, ?_, ?_, ?_, ?_, ?_, ?_, ?_⟩, ?_, wi2.fr e15 (fun g hg z => nwq z)⟩
  · exact (k (k (k (k (k (k (k (k (k (k (k (k n3 _ b4 (by decide)) _ b5 (by decide)) _ b6 (by decide)) _ b7 (by decide)) _ b8 (by decide)) _ b9 (by decide)) _ b10 (by decide)) _ b11 (by decide)) _ b12 (by decide)) _ b13 (by decide)) _ b14 (by decide)) _ b15 (by decide))
  · exact (k (k (k (k (k (k (k (k (k (k (k n4 _ b5 (by decide)) _ b6 (by decide)) _ b7 (by decide)) _ b8 (by decide)) _ b9 (by decide)) _ b10 (by decide)) _ b11 (by decide)) _ b12 (by decide)) _ b13 (by decide)) _ b14 (by decide)) _ b15 (by decide))
  · exact (k (k (k (k (k (k (k (k (k (k n5 _ b6 (by decide)) _ b7 (by decide)) _ b8 (by decide)) _ b9 (by decide)) _ b10 (by decide)) _ b11 (by decide)) _ b12 (by decide)) _ b13 (by decide)) _ b14 (by decide)) _ b15 (by decide))
  · exact (k (k (k (k (k (k (k (k (k n6 _ b7 (by decide)) _ b8 (by decide)) _ b9 (by decide)) _ b10 (by decide)) _ b11 (by decide)) _ b12 (by decide)) _ b13 (by decide)) _ b14 (by decide)) _ b15 (by decide))
  · exact (k (k (k (k (k (k (k (k n7 _ b8 (by decide)) _ b9 (by decide)) _ b10 (by decide)) _ b11 (by decide)) _ b12 (by decide)) _ b13 (by decide)) _ b14 (by decide)) _ b15 (by decide))
  · exact (k (k (k (k (k (k (k n8 _ b9 (by decide)) _ b10 (by decide)) _ b11 (by decide)) _ b12 (by decide)) _ b13 (by decide)) _ b14 (by decide)) _ b15 (by decide))
  · exact (k (k (k (k (k (k n9 _ b10 (by decide)) _ b11 (by decide)) _ b12 (by decide)) _ b13 (by decide)) _ b14 (by decide)) _ b15 (by decide))
  · exact (k (k (k (k (k n10 _ b11 (by decide)) _ b12 (by decide)) _ b13 (by decide)) _ b14 (by decide)) _ b15 (by decide))
  · exact (k (k (k (k n11 _ b12 (by decide)) _ b13 (by decide)) _ b14 (by decide)) _ b15 (by decide))
  · exact (k (k (k n12 _ b13 (by decide)) _ b14 (by decide)) _ b15 (by decide))
  · exact (k (k n13 _ b14 (by decide)) _ b15 (by decide))
  · exact (k n14 _ b15 (by decide))
  · exact n15
  · rw [(B15.2 _ (by decide)).1.1.2.2.1]; exact v2
/-- the shelves -/
theorem c_shelves (hF : 100 ≤ F) (hr : 8 ≤ rC σ ∧ 8 ≤ rS σ) (hx : oC σ x = 1) (hN : aN σ 60100 x = some 8) (hk : ∀ τ (H : Nat → Nat), Fr (fun g o => o = x ∧ g = 60100) 8 8 σ τ → Bo [60100] x σ τ → (∀ i, i < 8 → aR τ 60100 x i = some (H i) ∧ oC τ (H i) = 24 ∧ oR τ 2400 (H i) = none) → (∀ i j, i < 8 → j < 8 → i ≠ j → H i ≠ H j) → kk τ) : l_X0_init_88 F x kk F σ 0 := by
  have key : ∀ n i τ (H : Nat → Nat), i ≤ 8 → 8 - i < n → Fr (fun g o => o = x ∧ g = 60100) i i σ τ → Bo [60100] x σ τ → aN τ 60100 x = some 8 → (∀ j, j < i → aR τ 60100 x j = some (H j) ∧ oC τ (H j) = 24 ∧ oR τ 2400 (H j) = none) → (∀ j k, j < i → k < i → j ≠ k → H j ≠ H k) → l_X0_init_88 F x kk n τ (nI i) := by
    intro n
    induction n with
    | zero => intro i _ _ _ h; omega
    | succ n ih =>
      intro i τ H hi hn fr bo hN' hH hd
      have hx' : oC τ x = 1 := bo.1.trans hx
      unfold l_X0_init_88
      by_cases z : i = 8
      · rw [if_pos (show (8 : Int32) ≤ nI i from nI_le (a := 8) (by omega) (by omega))]
        subst z
        exact hk τ H fr bo hH hd
      rw [if_neg (show ¬ (8 : Int32) ≤ nI i from nI_ge (b := 8) (by omega) (by decide))]
      obtain ⟨x1, x2⟩ := fr.2.2.1
      refine ⟨hx', 8, hN', c_nwo (by omega) (fun τ2 f2 no _ => ?_)⟩
      unfold w_X23_init
      refine ⟨vp_inN (by omega) (by decide), bnd_AR fun τ3 w v => ?_⟩
      have b2 := f2.bo (q := x) (by omega) (fun _ z => z)
      have b3 : Bo [60100] x τ τ3 := b2.n.trans w.bo
      rw [nIl_1, nI_add]
      refine ih (i + 1) τ3 (fun j => if j = i then nx τ else H j) (by omega) (by omega) ((fr.trans ((f2.mono (P' := fun g o => o = x ∧ g = 60100) (fun _ _ z => z.elim) (Nat.le_refl _) (Nat.le_refl _)))).w w (Or.inr (fun g hg => ⟨rfl, List.mem_singleton.mp hg⟩))) (bo.trans b3) ?_ (fun j hj => ?_) (fun j k hj hk' hjk => ?_)
      · rw [w.1.2.1, (b2.2 _ (fun z => nomatch z)).2]; exact hN'
      · rw [v, nI_clamp (by omega)]
        by_cases y : j = i
        · subst y
          rw [aup_s, if_pos rfl, w.1.1, ((w.sam (by decide)) _).1.2.2.1]
          exact ⟨rfl, no.1, (no.2.2 _).2.2.1⟩
        · rw [aup_n y, if_neg y, (b2.2 _ (fun z => nomatch z)).1.2.2, w.1.1, ((w.sam (by decide)) _).1.2.2.1]
          have h := hH j (by omega)
          exact ⟨h.1, f2.C (c := 23) h.2.1, by rw [f2.R (c := 23) h.2.1 (fun z => z)]; exact h.2.2⟩
      · by_cases y : j = i
        · rw [if_pos y, if_neg (by omega)]
          intro z
          have h := (hH k (by omega)).2.1
          rw [← z, no.2.1] at h
          cases h
        · rw [if_neg y]
          by_cases y2 : k = i
          · rw [if_pos y2]
            intro z
            have h := (hH j (by omega)).2.1
            rw [z, no.2.1] at h
            cases h
          · rw [if_neg y2]
            exact hd j k (by omega) (by omega) hjk
  exact key F 0 σ (fun _ => 0) (by decide) (by omega) (fr0.mono (fun _ _ z => z.elim) (by decide) (by decide)) ⟨rfl, fun _ _ => ⟨⟨⟨rfl, rfl, rfl, rfl⟩, rfl, rfl⟩, rfl⟩⟩ hN (fun j hj => absurd hj (Nat.not_lt_zero _)) (fun j k hj => absurd hj (Nat.not_lt_zero _))
end PC
