set_option linter.unusedVariables false
set_option maxRecDepth 10000
/-! ===== component: the constructor's relation ===== -/
section PC
variable {σ τ υ σ0 : wS} {x m F t q : Nat} {s : mS} {S : gS} {K K' : Nat → Nat} {P P' : Nat → Nat → Prop} {a b c d : Nat} {kk : wS → Prop}
theorem FI.fr {d1 d2 : Nat} {R : Nat → Nat} (h : FI σ q d1 d2 R) (f : Fr P a b σ τ) (d : ∀ g ∈ [301, 302, 70300], ¬ P g q) : FI τ q d1 d2 R := by
  obtain ⟨h1, ⟨h2, h3, h4⟩, ⟨h5, h6⟩, h7⟩ := h
  refine ⟨ok2.ext h1 f.1, ⟨ok3.ext h2 f.1, ok3.ext h3 f.1, h4⟩, ⟨?_, ?_⟩, fun r hr => ?_⟩
  · rw [f.R h1.1 (d _ (by decide))]; exact h5
  · rw [f.R h1.1 (d _ (by decide))]; exact h6
  · rw [f.AR h1.1 (d _ (by decide))]
    have := h7 r hr
    exact ⟨this.1, (f.1.1 _ (by omega)).trans this.2⟩
theorem SI.fr {w : Nat} {W : Nat → Nat} (h : SI σ q w t W) (f : Fr P a b σ τ) (d : ∀ g ∈ [1200, 1301, 81300], ∀ o, ¬ P g o) : SI τ q w t W :=
  ⟨ok11.ext h.1 f.1, by rw [f.R h.1.1 (d _ (by decide) _)]; exact h.2.1, h.2.2.fr f (fun g hg => d g (by revert g; decide) _)⟩
theorem NM.fr (h : NM σ q) (f : Fr P a b σ τ) (d : ∀ g, ¬ P g q) : NM τ q := by
  obtain ⟨h1, ⟨a1, a2, a3, a4⟩, ⟨b1, b2, b3⟩, h4, h5, h6⟩ := h
  refine ⟨ok22.ext h1 f.1, ⟨?_, ?_, ?_, ?_⟩, ⟨?_, ?_, ?_⟩, ?_, ?_, ?_⟩
  · rw [f.I h1.1 (d _)]; exact a1
  · rw [f.I h1.1 (d _)]; exact a2
  · rw [f.I h1.1 (d _)]; exact a3
  · rw [f.I h1.1 (d _)]; exact a4
  · rw [f.I h1.1 (d _)]; exact b1
  · rw [f.I h1.1 (d _)]; exact b2
  · rw [f.I h1.1 (d _)]; exact b3
  · rw [f.A h1.1 (d _)]; exact h4
  · rw [f.A h1.1 (d _)]; exact h5
  · rw [f.AJ h1.1 (d _)]; exact h6
theorem c_init (h0 : Fr P a b σ0 σ) (hq0 : oC σ0 x = 0) (hc : oC σ x = 1) (hz : ∀ g, oI σ g x = 0 ∧ oJ σ g x = 0 ∧ oR σ g x = none ∧ aN σ g x = none) (hr : 100 ≤ rC σ ∧ 130000 ≤ rS σ) (hF : 1000 ≤ F) (hQ : ∀ τ, Fr P (a + 100) (b + 130000) σ0 τ → CC τ x S00 → kk τ) : w_X0_init F σ x kk := by
  have h0' : Fr (fun g o => P g o ∨ o = x) a b σ0 σ := h0.mono (fun _ _ z => Or.inl z) (Nat.le_refl _) (Nat.le_refl _)
  obtain ⟨r1, r2⟩ := hr
  have ex0 : Fr (fun _ o => o = x) 0 0 σ σ := Fr.refl
  unfold w_X0_init
  have c0 : oC σ x = 0 + 1 := hc
  refine nwo_oc hc ?_
  refine c_mkvG (g := 60100) (by decide) (by decide) ex0 (Or.inr (fun _ => rfl)) c0 (hz _).2.2.2 (by omega) (fun τ1 f1 b1 _ n1 _ => ?_)
  have c1 : oC τ1 x = 0 + 1 := b1.1.trans c0
  obtain ⟨x1, y1⟩ := f1.2.2.1
  refine c_mkvG (g := 101) (by decide) (by decide) f1 (Or.inr (fun _ => rfl)) c1 (by rw [(b1.2 _ (by decide)).2]; exact (hz _).2.2.2) (by omega) (fun τ2 f2 b2 _ n2 z2 => ?_)
  have c2 : oC τ2 x = 0 + 1 := b2.1.trans c1
  obtain ⟨x2, y2⟩ := f2.2.2.1
  have B2 : Bo [60100, 101] x σ τ2 := (b1.mono (by decide)).up b2 (by decide)
  -- the trace
  refine c_new1 (by omega) (fun τ3 f3 hq3 o3 t3 => bnd_R fun τ4 w4 v4 => ?_)
  have b3 := f3.bo (q := x) (by omega) (fun _ z => z)
  have c3 : oC τ3 x = 0 + 1 := b3.1.trans c2
  have q3x : nx τ2 ≠ x := fun z => by rw [z, c2] at hq3; cases hq3
  have f4 : Fr (fun _ o => o = x) 2 22 τ2 τ4 := (f3.mono (P' := fun _ o => o = x) (fun _ _ z => z.elim) (Nat.le_refl _) (Nat.le_refl _)).w w4 (Or.inr (fun _ _ => rfl))
  have o4 : ok1 τ4 (nx τ2) := ok1.ext o3 w4.ext
  have t4 : TrC τ4 (nx τ2) (0, fun _ => 0) := ⟨by rw [((w4.sam (by decide)) _).1.1]; exact t3.1, by rw [((w4.sam (by decide)) _).1.2.2.2]; exact t3.2⟩
  have B4 : Bo [60100, 101, 102] x σ τ4 := (B2.mono (by decide)).trans ((b3.n.trans (w4.bo.mono (by decide))))
  have c4 : oC τ4 x = 0 + 1 := B4.1.trans c0
  have F4 := f2.trans f4
  obtain ⟨x4, y4⟩ := F4.2.2.1
  -- the firing
  refine c_new2 (by omega) (fun τ5 d1 d2 R f5 hq5 fi5 => bnd_R fun τ6 w6 v6 => ?_)
  have b5 := f5.bo (q := x) (by omega) (fun _ z => z)
  have q5x : nx τ4 ≠ x := fun z => by rw [z, c4] at hq5; cases hq5
  have f6 : Fr (fun _ o => o = x) 11 22 τ4 τ6 := (f5.mono (P' := fun _ o => o = x) (fun _ _ z => z.elim) (Nat.le_refl _) (Nat.le_refl _)).w w6 (Or.inr (fun _ _ => rfl))
  have w6f : Fr (fun _ o => o = x) 0 0 τ5 τ6 := w6.fr (fun _ _ => rfl)
  have fi6 := fi5.fr w6f (fun g _ z => q5x z)
  have B6 : Bo [60100, 101, 102, 103] x σ τ6 := (B4.mono (by decide)).trans ((b5.n.trans (w6.bo.mono (by decide))))
  have c6 : oC τ6 x = 0 + 1 := B6.1.trans c0
  have F6 := F4.trans f6
  obtain ⟨x6, y6⟩ := F6.2.2.1
  -- the search
  refine c_new11 (by omega) (by omega) (fun τ7 w tt W f7 hq7 ht7 si7 => bnd_R fun τ8 w8 v8 => ?_)
  have b7 := f7.bo (q := x) (by omega) (fun _ z => z)
  have q7x : nx τ6 ≠ x := fun z => by rw [z, c6] at hq7; cases hq7
  have f8 : Fr (fun _ o => o = x) 30 125500 τ6 τ8 := (f7.mono (P' := fun _ o => o = x) (fun _ _ z => z.elim) (Nat.le_refl _) (Nat.le_refl _)).w w8 (Or.inr (fun _ _ => rfl))
  have w8f : Fr (fun g o => o = x ∧ g = 104) 0 0 τ7 τ8 := w8.fr (fun g hg => ⟨rfl, List.mem_singleton.mp hg⟩)
  have si8 := si7.fr w8f (fun g hg o z => absurd z.2 ((by decide : ∀ g ∈ [1200, 1301, 81300], g ≠ 104) g hg))
  have B8 : Bo [60100, 101, 102, 103, 104] x σ τ8 := (B6.mono (by decide)).trans ((b7.n.trans (w8.bo.mono (by decide))))
  have c8 : oC τ8 x = 0 + 1 := B8.1.trans c0
  have F8 := F6.trans f8
  obtain ⟨x8, y8⟩ := F8.2.2.1
  -- trees' arrays
  have e8 : Fr (fun _ o => o = x) 0 0 τ8 τ8 := Fr.refl
  refine c_mkvG (g := 105) (by decide) (by decide) e8 (Or.inr (fun _ => rfl)) c8 (by rw [(B8.2 _ (by decide)).2]; exact (hz _).2.2.2) (by omega) (fun τ9 f9 b9 _ n9 _ => ?_)
  have c9 : oC τ9 x = 0 + 1 := b9.1.trans c8
  obtain ⟨x9, y9⟩ := f9.2.2.1
  refine c_mkvG (g := 106) (by decide) (by decide) f9 (Or.inr (fun _ => rfl)) c9 (by rw [(b9.2 _ (by decide)).2, (B8.2 _ (by decide)).2]; exact (hz _).2.2.2) (by omega) (fun τ10 f10 b10 _ n10 _ => ?_)
  have B10 : Bo [60100, 101, 102, 103, 104, 105, 106] x σ τ10 := (((B8.mono (by decide)).up b9 (by decide)).up b10 (by decide))
  have c10 : oC τ10 x = 0 + 1 := B10.1.trans c0
  have F10 := F8.trans f10
  obtain ⟨x10, y10⟩ := F10.2.2.1
  -- the memo
  refine c_nwo (by omega) (fun τ11 f11 no11 _ => ?_)
  obtain ⟨g11, g11'⟩ := f11.2.2.1
  refine c_nmemo (P := fun _ _ => False) f11 no11.2.1 no11.1 no11.2.2 (by omega) (fun τ12 f12 nm => ?_)
  have b12 := f12.bo (q := x) (by omega) (fun _ z => z)
  have q12x : nx τ10 ≠ x := fun z => by have := no11.2.1; rw [z, c10] at this; cases this
  refine bnd_R fun τ13 w13 v13 => bnd_I fun τ14 w14 v14 => ?_
  have u14 : Wq [107, 110] x τ12 τ14 := (w13.mono (by decide)).up w14 (by decide)
  have f14 : Fr (fun _ o => o = x) 13 998 τ10 τ14 := (f12.mono (P' := fun _ o => o = x) (fun _ _ z => z.elim) (by decide) (by decide)).w u14 (Or.inr (fun _ _ => rfl))
  have nm14 : NM τ14 (nx τ10) := nm.fr (u14.fr (P := fun _ o => o = x) (fun _ _ => rfl)) (fun _ z => q12x z)
  have B14 : Bo [60100, 101, 102, 103, 104, 105, 106, 107, 110] x σ τ14 := (B10.mono (by decide)).trans ((b12.n.trans (u14.bo.mono (by decide))))
  have c14 : oC τ14 x = 0 + 1 := B14.1.trans c0
  have F14 := F10.trans f14
  obtain ⟨x14, y14⟩ := F14.2.2.1
  have K' : ∀ {τa τb : wS} {g : Nat} {G : List Nat}, Bo G x τa τb → g ∉ G → Sam τa τb g x ∧ aN τb g x = aN τa g x := fun h hg => h.2 _ hg
  -- steps that are kept to the end of the fields
  have B3to4 : Bo [102] x τ2 τ4 := b3.n.trans w4.bo
  have B4to6 : Bo [103] x τ4 τ6 := b5.n.trans w6.bo
  have B6to8 : Bo [104] x τ6 τ8 := b7.n.trans w8.bo
  have B8to10 : Bo [105, 106] x τ8 τ10 := (b9.mono (by decide)).up b10 (by decide)
  have B10to14 : Bo [107, 110] x τ10 τ14 := b12.n.trans u14.bo
  have B4to14 : Bo [103, 104, 105, 106, 107, 110] x τ4 τ14 := (((B4to6.mono (by decide)).trans (B6to8.mono (by decide))).trans (B8to10.mono (by decide))).trans (B10to14.mono (by decide))
  have B6to14 : Bo [104, 105, 106, 107, 110] x τ6 τ14 := ((B6to8.mono (by decide)).trans (B8to10.mono (by decide))).trans (B10to14.mono (by decide))
  have B8to14 : Bo [105, 106, 107, 110] x τ8 τ14 := (B8to10.mono (by decide)).trans (B10to14.mono (by decide))
  have B2to14 : Bo [102, 103, 104, 105, 106, 107, 110] x τ2 τ14 := (B3to4.mono (by decide)).trans (B4to14.mono (by decide))
  have n60 : aN τ14 60100 x = some 8 := by rw [(B2to14.2 _ (by decide)).2, (b2.2 _ (by decide)).2]; exact n1
  have n101 : aN τ14 101 x = some 8 := by rw [(B2to14.2 _ (by decide)).2]; exact n2
  have n105 : aN τ14 105 x = some 64 := by rw [(B10to14.2 _ (by decide)).2, (b10.2 _ (by decide)).2]; exact n9
  have n106 : aN τ14 106 x = some 64 := by rw [(B10to14.2 _ (by decide)).2]; exact n10
  refine c_shelves (by omega) (by omega) c14 n60 (fun τ H fs bs sh di => ?_)
  have fsx : Fr (fun _ o => o = x) 8 8 τ14 τ := fs.mono (fun _ _ z => z.1) (Nat.le_refl _) (Nat.le_refl _)
  have F := F14.trans fsx
  have n60' : aN τ 60100 x = some 8 := (fs.1.2 60100 x 8 (by omega) (by decide) n60).1
  have ok : ok0 τ x := ⟨bs.1.trans c14, n60', by rw [(bs.2 _ (by decide)).2]; exact n101, by rw [(bs.2 _ (by decide)).2]; exact n105, by rw [(bs.2 _ (by decide)).2]; exact n106⟩
  have E8 := f10.trans (f14.trans fsx)
  have E6 := f8.trans E8
  have E4 := f6.trans E6
  have o1 : ok1 τ (nx τ2) := ok1.ext o4 E4.1
  have t1 : TrC τ (nx τ2) (0, fun _ => 0) := ⟨by rw [E4.I o4.1 q3x]; exact t4.1, by rw [E4.A o4.1 q3x]; exact t4.2⟩
  have fi := fi6.fr E6 (fun g _ z => q5x z)
  have wx : w ≠ x := fun z => by
    have := si8.2.2.1.1
    rw [z, c8] at this
    cases this
  have si : SI τ (nx τ6) w tt W := ⟨ok11.ext si8.1 E8.1, by rw [E8.R si8.1.1 q7x]; exact si8.2.1, si8.2.2.fr E8 (fun g _ z => wx z)⟩
  have nm' : NM τ (nx τ10) := nm14.fr fsx (fun _ z => q12x z)
  have xR : ∀ g, g ≠ 60100 → oR τ g x = oR τ14 g x := fun g hg => (bs.2 g (fun z => hg (List.mem_singleton.mp z))).1.1.2.2.1
  have xI : ∀ g, g ≠ 60100 → oI τ g x = oI τ14 g x := fun g hg => (bs.2 g (fun z => hg (List.mem_singleton.mp z))).1.1.1
  have ttr : tt ≠ nx τ2 := fun z => by
    have h6 : oC τ6 (nx τ2) = 2 := f6.C (c := 1) o4.1
    rw [← z, ht7] at h6
    cases h6
  obtain ⟨n22, ⟨m1, m2, m3, m4⟩, ⟨m5, m6, m7⟩, m8, m9, m10⟩ := nm'
  obtain ⟨K, hK⟩ : ∃ K : Nat → Nat, K = fun j => if j = 0 then nx τ10 else if j = 1 then nx τ2 else if j = 2 then nx τ4 else if j = 3 then nx τ6 else if j = 4 then d1 else if j = 5 then d2 else if j = 6 then w else if j = 7 then tt else if j < 18 then H (j - 10) else if j < 27 then R (j - 20) else W (j - 30) := ⟨_, rfl⟩
  have K0 : K 0 = nx τ10 := by rw [hK]; rfl
  have K1 : K 1 = nx τ2 := by rw [hK]; rfl
  have K2 : K 2 = nx τ4 := by rw [hK]; rfl
  have K3 : K 3 = nx τ6 := by rw [hK]; rfl
  have K4 : K 4 = d1 := by rw [hK]; rfl
  have K5 : K 5 = d2 := by rw [hK]; rfl
  have K6 : K 6 = w := by rw [hK]; rfl
  have K7 : K 7 = tt := by rw [hK]; rfl
  have KH : ∀ i, i < 8 → K (10 + i) = H i := fun i hi => by
    rw [hK]
    dsimp only
    rw [if_neg (by omega), if_neg (by omega), if_neg (by omega), if_neg (by omega), if_neg (by omega), if_neg (by omega), if_neg (by omega), if_neg (by omega), if_pos (by omega), show 10 + i - 10 = i by omega]
  have KR : ∀ i, i < 7 → K (20 + i) = R i := fun i hi => by
    rw [hK]
    dsimp only
    rw [if_neg (by omega), if_neg (by omega), if_neg (by omega), if_neg (by omega), if_neg (by omega), if_neg (by omega), if_neg (by omega), if_neg (by omega), if_neg (by omega), if_pos (by omega), show 20 + i - 20 = i by omega]
  have KW : ∀ i, i < 12 → K (30 + i) = W i := fun i hi => by
    rw [hK]
    dsimp only
    rw [if_neg (by omega), if_neg (by omega), if_neg (by omega), if_neg (by omega), if_neg (by omega), if_neg (by omega), if_neg (by omega), if_neg (by omega), if_neg (by omega), if_neg (by omega), show 30 + i - 30 = i by omega]
  clear hK
  have xA : ∀ i, aI τ 101 x i = 0 := fun i => by rw [(bs.2 101 (by decide)).1.1.2.2.2, (B2to14.2 101 (by decide)).1.1.2.2.2]; exact (z2 i).1
  have sk : Sk τ x K := by
    unfold Sk
    rw [K0, K1, K2, K3, K4, K5, K6, K7]
    refine ⟨⟨ok, ?_, ?_, ?_, ?_⟩, ⟨o1, fi.1, si.1, fi.2.1.1, fi.2.1.2.1, si.2.2.1, si.2.2.2.1⟩, ⟨fi.2.1.2.2, ttr⟩, ⟨fi.2.2.1.1, fi.2.2.1.2, si.2.1, si.2.2.2.2.1⟩, fun r hr => ?_, fun k hk => ?_, fun i hi => ?_, fun i j hi hj hij => ?_⟩
    · rw [xR 107 (by decide), ((w14.sam (by decide)) x).1.2.2.1]; exact v13
    · rw [xR 102 (by decide), (B4to14.2 102 (by decide)).1.1.2.2.1]; exact v4
    · rw [xR 103 (by decide), (B6to14.2 103 (by decide)).1.1.2.2.1]; exact v6
    · rw [xR 104 (by decide), (B8to14.2 104 (by decide)).1.1.2.2.1]; exact v8
    · rw [KR r hr]; exact fi.2.2.2 r hr
    · rw [KW k hk]; exact si.2.2.2.2.2 k hk
    · rw [KH i hi]; exact ⟨(sh i hi).1, (sh i hi).2.1⟩
    · rw [KH i hi, KH j hj]; exact di i j hi hj hij
  have ck : CK τ x K S00 := by
    refine ⟨⟨sk, ⟨?_, ?_, ?_⟩, fun i _ => xA i⟩, ⟨⟨fun i hi => ⟨fun _ => by rw [KH i hi]; exact (sh i hi).2.2, fun z => absurd (show (0 : Nat) = 1 from z) (by decide), fun z => absurd (show (0 : Nat) = 2 from z) (by decide)⟩, fun i j _ _ _ z => absurd (show (0 : Nat) = 1 from z) (by decide)⟩, by rw [K1]; exact t1, ?_⟩, ⟨fun _ => ?_, fun z => absurd (show (0 : Nat) = 1 from z) (by decide)⟩, ⟨fun _ => ?_, fun z => absurd (show (0 : Nat) = 0 from rfl) z⟩⟩
    · rw [K0]
      exact ⟨⟨n22, m1, m2, m3⟩, fun e he => absurd he (Nat.not_lt_zero e), fun g hg => absurd hg (Nat.not_lt_zero g), fun i hi => absurd hi (Nat.not_lt_zero i), fun i hi => m8 i hi⟩
    · rw [K0]
      exact ⟨fun e he => absurd he (Nat.not_lt_zero e), fun i _ => m9 i, m4, m5, m6⟩
    · rw [K0]
      exact Or.inl m7
    · rw [xI 110 (by decide)]; exact v14
    · rw [xR 108 (by decide), (B14.2 108 (by decide)).1.1.2.2.1]; exact (hz _).2.2.1
    · rw [xR 109 (by decide), (B14.2 109 (by decide)).1.1.2.2.1]; exact (hz _).2.2.1
  refine hQ τ ?_ ⟨K, ck⟩
  have H0 : Fr (fun g o => P g o ∨ o = x) (a + 100) (b + 130000) σ0 τ := (h0'.trans (F.mono (fun _ _ z => Or.inr z) (Nat.le_refl _) (Nat.le_refl _))).mono (fun _ _ z => z) (by omega) (by omega)
  refine H0.new (fun g o z => ?_)
  rcases z with z | z
  · exact Or.inl z
  · exact Or.inr (by rw [z]; exact hq0)
end PC
