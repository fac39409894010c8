set_option linter.unusedVariables false
set_option maxRecDepth 10000
/-! ===== component: a new memo, a memo that is taken ===== -/
section PC
variable {σ τ υ σ0 : wS} {x m F : Nat} {s : mS} {S : gS} {K K' : Nat → Nat} {P P' : Nat → Nat → Prop} {a b c d : Nat}
/-- what a step of a constructor leaves of its object -/
def Bo (G : List Nat) (q : Nat) (σ τ : wS) : Prop := oC τ q = oC σ q ∧ ∀ g, g ∉ G → Sam σ τ g q ∧ aN τ g q = aN σ g q
theorem Bo.trans {G : List Nat} {q : Nat} (h : Bo G q σ τ) (k : Bo G q τ υ) : Bo G q σ υ := ⟨k.1.trans h.1, fun g hg => ⟨(h.2 g hg).1.trans (k.2 g hg).1, (k.2 g hg).2.trans (h.2 g hg).2⟩⟩
theorem Bo.mono {G G' : List Nat} {q : Nat} (h : Bo G q σ τ) (k : ∀ g ∈ G, g ∈ G') : Bo G' q σ τ := ⟨h.1, fun g hg => h.2 g (fun z => hg (k g z))⟩
theorem Bo.up {G : List Nat} {g q : Nat} (k : Bo G q σ τ) (h : Bo [g] q τ υ) (hg : g ∈ G) : Bo G q σ υ := k.trans (h.mono (fun x hx => by rw [List.mem_singleton.mp hx]; exact hg))
theorem Wq.bo {G : List Nat} {q : Nat} (w : Wq G q σ τ) : Bo G q σ τ := ⟨by rw [w.1.1], fun g hg => ⟨w.2 g q (fun _ => hg), by rw [w.1.2.1]⟩⟩
theorem c_mkv {g f n q c : Nat} {k : wS → Prop} (hf : f % 10000 = 0) (hgf : g ≠ f) (h0 : Fr P a b σ0 σ) (hq0 : oC σ0 q = 0) (hc : oC σ q = c + 1) (hN : aN σ g q = none) (hr : 1 ≤ rC σ ∧ n ≤ rS σ) (hk : ∀ τ, Fr P (a + 1) (b + n) σ0 τ → Bo [g] q σ τ → rC τ = rC σ - 1 ∧ rS τ = rS σ - n → aN τ g q = some n → (∀ j, aI τ g q j = 0 ∧ aJ τ g q j = 0 ∧ aR τ g q j = none) → k τ) : nwo σ n (bnd (mkA σ f n) fun σ8 => aN σ8 g q = none ∧ bnd (mvA σ8 g q f (nx σ)) k) := by
  refine ⟨hr, fun hc0 _ σ8 e8 => ?_⟩
  subst e8
  have hN8 : aN (mkA σ f n) g q = none := (u2_g hgf).trans hN
  refine ⟨hN8, fun τ e => ?_⟩
  subst e
  have hqn : q ≠ nx σ := fun z => by rw [z, hc0] at hc; cases hc
  obtain ⟨f1, f2, ⟨f3, f4⟩, f5⟩ := h0
  have hoo : ∀ o, oC σ0 o ≠ 0 → o ≠ nx σ ∧ o ≠ q := fun o ho => ⟨fun z => ho (by have := f1.1 o ho; rw [z, hc0] at this; rw [z]; exact this.symm), fun z => ho (by rw [z]; exact hq0)⟩
  refine hk _ ⟨(f1.trans (Ext.mkA hf)).trans (Ext.mvA hf hN8), fun g' o ho hp => ?_, ⟨?_, ?_⟩, ?_⟩ ⟨rfl, fun g' hg' => ?_⟩ ⟨rfl, rfl⟩ ?_ (fun j => ⟨?_, ?_, ?_⟩)
  · obtain ⟨⟨⟨x1, x2, x3, x4⟩, x5, x6⟩, x7, x8⟩ := f2 g' o ho hp
    obtain ⟨n1, n2⟩ := hoo o ho
    refine ⟨⟨⟨x1, x2, x3, ?_⟩, ?_, ?_⟩, ?_, ?_⟩
    · exact ((u2_a n2).trans (u2_a n1)).trans x4
    · exact ((u2_a n2).trans (u2_a n1)).trans x5
    · exact ((u2_a n2).trans (u2_a n1)).trans x6
    · exact (((u2_a n2).trans (u2_a n1)).trans (u2_a n1)).trans x7
    · exact ((u2_a n2).trans (u2_a n1)).trans x8
  · show rC σ0 ≤ rC σ - 1 + (a + 1); omega
  · show rS σ0 ≤ rS σ - n + (b + n); omega
  · show nx σ0 ≤ nx σ + 1; omega
  · have ng : g' ≠ g := fun z => hg' (by rw [z]; exact List.mem_singleton.mpr rfl)
    refine ⟨⟨⟨rfl, rfl, rfl, ?_⟩, ?_, ?_⟩, ?_⟩
    · exact (u2_g ng).trans (u2_a hqn)
    · exact (u2_g ng).trans (u2_a hqn)
    · exact (u2_g ng).trans (u2_a hqn)
    · exact ((u2_g ng).trans (u2_a hqn)).trans (u2_a hqn)
  · exact u2_s.trans u2_s
  · exact congrFun (u2_s.trans u2_s) j
  · exact congrFun (u2_s.trans u2_s) j
  · exact congrFun (u2_s.trans u2_s) j
abbrev GNm : List Nat := [2304, 2305, 92306, 2307, 102308, 2309, 2310, 22311, 2312, 12313, 2314, 2315, 2316, 2317]
/-- a memo that is new -/
def NM (τ : wS) (q : Nat) : Prop := ok22 τ q ∧ (oI τ 2300 q = 0 ∧ oI τ 2301 q = 0 ∧ oI τ 2302 q = 0 ∧ oI τ 2303 q = 0) ∧ (oI τ 2304 q = 3958 ∧ oI τ 2305 q = 1 ∧ oI τ 2318 q = 0) ∧ (∀ j, j < 4 → aI τ 2307 q j = 100) ∧ (∀ j, aI τ 2314 q j = 0) ∧ ∀ j, aJ τ 12313 q j = 0
theorem c_nmemo {kk : wS → Prop} {q : Nat} (h0 : Fr P a b σ0 σ) (hq0 : oC σ0 q = 0) (hc : oC σ q = 23) (hz : ∀ g, oI σ g q = 0 ∧ oJ σ g q = 0 ∧ oR σ g q = none ∧ aN σ g q = none) (hr : 12 ≤ rC σ ∧ 979 ≤ rS σ) (hk : ∀ τ, Fr P (a + 12) (b + 979) σ0 τ → NM τ q → kk τ) : w_X22_init σ q kk := by
  unfold w_X22_init
  have hfw : ∀ {σ1 σ2 : wS} {g : Nat} {a b : Nat}, Fr P a b σ0 σ1 → Wq [g] q σ1 σ2 → Fr P a b σ0 σ2 := fun f w => f.w w (Or.inl hq0)
  refine ⟨hc, bnd_I fun τ1 w1 v1 => bnd_I fun τ2 w2 v2 => ?_⟩
  have W2 := (w1.bo.mono (G' := GNm) (by decide)).up w2.bo (by decide)
  have rr2 : rC τ2 = rC σ ∧ rS τ2 = rS σ := ⟨w2.1.2.2.2.2.1.trans w1.1.2.2.2.2.1, w2.1.2.2.2.2.2.trans w1.1.2.2.2.2.2⟩
  have z2 : ∀ g, aN τ2 g q = none := fun g => by rw [w2.1.2.1, w1.1.2.1]; exact (hz g).2.2.2
  have c2 : oC τ2 q = 22 + 1 := W2.1.trans hc
  refine c_mkv (g := 92306) (by decide) (by decide) (hfw (hfw h0 w1) w2) hq0 c2 (z2 _) (by omega) (fun τ3 f3 b3 q3 n3 z3 => ?_)
  refine c_mkv (g := 2307) (by decide) (by decide) f3 hq0 (b3.1.trans c2) (by rw [(b3.2 _ (by decide)).2]; exact z2 _) (by omega) (fun τ4 f4 b4 q4 n4 z4 => ?_)
  refine c_mkv (g := 102308) (by decide) (by decide) f4 hq0 (b4.1.trans (b3.1.trans c2)) (by rw [(b4.2 _ (by decide)).2, (b3.2 _ (by decide)).2]; exact z2 _) (by omega) (fun τ5 f5 b5 q5 n5 z5 => ?_)
  have B5 : Bo [92306, 2307, 102308] q τ2 τ5 := ((b3.mono (by decide)).up b4 (by decide)).up b5 (by decide)
  refine c_mkv (g := 2309) (by decide) (by decide) f5 hq0 (B5.1.trans c2) (by rw [(B5.2 _ (by decide)).2]; exact z2 _) (by omega) (fun τ6 f6 b6 q6 n6 z6 => ?_)
  have B6 : Bo [92306, 2307, 102308, 2309] q τ2 τ6 := (B5.mono (by decide)).up b6 (by decide)
  refine c_mkv (g := 2310) (by decide) (by decide) f6 hq0 (B6.1.trans c2) (by rw [(B6.2 _ (by decide)).2]; exact z2 _) (by omega) (fun τ7 f7 b7 q7 n7 z7 => ?_)
  have B7 : Bo [92306, 2307, 102308, 2309, 2310] q τ2 τ7 := (B6.mono (by decide)).up b7 (by decide)
  refine c_mkv (g := 22311) (by decide) (by decide) f7 hq0 (B7.1.trans c2) (by rw [(B7.2 _ (by decide)).2]; exact z2 _) (by omega) (fun τ8 f8 b8 q8 n8 z8 => ?_)
  have B8 : Bo [92306, 2307, 102308, 2309, 2310, 22311] q τ2 τ8 := (B7.mono (by decide)).up b8 (by decide)
  refine c_mkv (g := 2312) (by decide) (by decide) f8 hq0 (B8.1.trans c2) (by rw [(B8.2 _ (by decide)).2]; exact z2 _) (by omega) (fun τ9 f9 b9 q9 n9 z9 => ?_)
  have B9 : Bo [92306, 2307, 102308, 2309, 2310, 22311, 2312] q τ2 τ9 := (B8.mono (by decide)).up b9 (by decide)
  refine c_mkv (g := 12313) (by decide) (by decide) f9 hq0 (B9.1.trans c2) (by rw [(B9.2 _ (by decide)).2]; exact z2 _) (by omega) (fun τ10 f10 b10 q10 n10 z10 => ?_)
  have B10 : Bo [92306, 2307, 102308, 2309, 2310, 22311, 2312, 12313] q τ2 τ10 := (B9.mono (by decide)).up b10 (by decide)
  refine c_mkv (g := 2314) (by decide) (by decide) f10 hq0 (B10.1.trans c2) (by rw [(B10.2 _ (by decide)).2]; exact z2 _) (by omega) (fun τ11 f11 b11 q11 n11 z11 => ?_)
  have B11 : Bo [92306, 2307, 102308, 2309, 2310, 22311, 2312, 12313, 2314] q τ2 τ11 := (B10.mono (by decide)).up b11 (by decide)
  refine c_mkv (g := 2315) (by decide) (by decide) f11 hq0 (B11.1.trans c2) (by rw [(B11.2 _ (by decide)).2]; exact z2 _) (by omega) (fun τ12 f12 b12 q12 n12 z12 => ?_)
  have B12 : Bo [92306, 2307, 102308, 2309, 2310, 22311, 2312, 12313, 2314, 2315] q τ2 τ12 := (B11.mono (by decide)).up b12 (by decide)
  refine c_mkv (g := 2316) (by decide) (by decide) f12 hq0 (B12.1.trans c2) (by rw [(B12.2 _ (by decide)).2]; exact z2 _) (by omega) (fun τ13 f13 b13 q13 n13 z13 => ?_)
  have B13 : Bo [92306, 2307, 102308, 2309, 2310, 22311, 2312, 12313, 2314, 2315, 2316] q τ2 τ13 := (B12.mono (by decide)).up b13 (by decide)
  refine c_mkv (g := 2317) (by decide) (by decide) f13 hq0 (B13.1.trans c2) (by rw [(B13.2 _ (by decide)).2]; exact z2 _) (by omega) (fun τ14 f14 b14 q14 n14 z14 => ?_)
  have B14 : Bo [92306, 2307, 102308, 2309, 2310, 22311, 2312, 12313, 2314, 2315, 2316, 2317] q τ2 τ14 := (B13.mono (by decide)).up b14 (by decide)
  refine bnd_A fun τ15 w15 v15 => ?_
  have B15 : Bo GNm q σ τ15 := W2.trans ((B14.mono (by decide)).up w15.bo (by decide))
  have k : ∀ {τa τb : wS} {g : Nat} {n : Option Nat}, aN τa g q = n → ∀ g', Bo [g'] q τa τb → g ≠ g' → aN τb g q = n := fun {τa τb g n} h g' bb hg => by
    rw [(bb.2 g (fun z => hg (List.mem_singleton.mp z))).2]; exact h
  have keep : ∀ {τa τb : wS} {g : Nat}, ∀ g', Bo [g'] q τa τb → g ≠ g' → aI τb g q = aI τa g q ∧ aJ τb g q = aJ τa g q ∧ oI τb g q = oI τa g q := fun {τa τb g} g' bb hg => by
    have := (bb.2 g (fun z => hg (List.mem_singleton.mp z))).1
    exact ⟨this.1.2.2.2, this.2.1, this.1.1⟩
  refine hk τ15 ((hfw f14 w15).mono (fun _ _ z => z) (by omega) (by omega)) ⟨⟨B15.1.trans hc, ?_, ?_, ?_, ?_, ?_, ?_, ?_, ?_, ?_, ?_, ?_, ?_⟩, ⟨?_, ?_, ?_, ?_⟩, ⟨?_, ?_, ?_⟩, fun j hj => ?_, fun j => ?_, fun j => ?_⟩
  · exact k (k (k (k (k (k (k (k (k (k (k (k n3 _ b4 (by decide)) _ b5 (by decide)) _ b6 (by decide)) _ b7 (by decide)) _ b8 (by decide)) _ b9 (by decide)) _ b10 (by decide)) _ b11 (by decide)) _ b12 (by decide)) _ b13 (by decide)) _ b14 (by decide)) _ w15.bo (by decide)
  · rw [w15.1.2.1]; exact k (k (k (k (k (k (k (k (k (k n4 _ b5 (by decide)) _ b6 (by decide)) _ b7 (by decide)) _ b8 (by decide)) _ b9 (by decide)) _ b10 (by decide)) _ b11 (by decide)) _ b12 (by decide)) _ b13 (by decide)) _ b14 (by decide)
  · exact k (k (k (k (k (k (k (k (k (k n5 _ b6 (by decide)) _ b7 (by decide)) _ b8 (by decide)) _ b9 (by decide)) _ b10 (by decide)) _ b11 (by decide)) _ b12 (by decide)) _ b13 (by decide)) _ b14 (by decide)) _ w15.bo (by decide)
  · exact k (k (k (k (k (k (k (k (k n6 _ b7 (by decide)) _ b8 (by decide)) _ b9 (by decide)) _ b10 (by decide)) _ b11 (by decide)) _ b12 (by decide)) _ b13 (by decide)) _ b14 (by decide)) _ w15.bo (by decide)
  · exact k (k (k (k (k (k (k (k n7 _ b8 (by decide)) _ b9 (by decide)) _ b10 (by decide)) _ b11 (by decide)) _ b12 (by decide)) _ b13 (by decide)) _ b14 (by decide)) _ w15.bo (by decide)
  · exact k (k (k (k (k (k (k n8 _ b9 (by decide)) _ b10 (by decide)) _ b11 (by decide)) _ b12 (by decide)) _ b13 (by decide)) _ b14 (by decide)) _ w15.bo (by decide)
  · exact k (k (k (k (k (k n9 _ b10 (by decide)) _ b11 (by decide)) _ b12 (by decide)) _ b13 (by decide)) _ b14 (by decide)) _ w15.bo (by decide)
  · exact k (k (k (k (k n10 _ b11 (by decide)) _ b12 (by decide)) _ b13 (by decide)) _ b14 (by decide)) _ w15.bo (by decide)
  · exact k (k (k (k n11 _ b12 (by decide)) _ b13 (by decide)) _ b14 (by decide)) _ w15.bo (by decide)
  · exact k (k (k n12 _ b13 (by decide)) _ b14 (by decide)) _ w15.bo (by decide)
  · exact k (k n13 _ b14 (by decide)) _ w15.bo (by decide)
  · exact k n14 _ w15.bo (by decide)
  · rw [(B15.2 _ (by decide)).1.1.1]; exact (hz _).1
  · rw [(B15.2 _ (by decide)).1.1.1]; exact (hz _).1
  · rw [(B15.2 _ (by decide)).1.1.1]; exact (hz _).1
  · rw [(B15.2 _ (by decide)).1.1.1]; exact (hz _).1
  · rw [((w15.bo.2 _ (by decide)).1).1.1, (B14.2 _ (by decide)).1.1.1, ((w2.sam (by decide)) _).1.1]; exact v1
  · rw [((w15.bo.2 _ (by decide)).1).1.1, (B14.2 _ (by decide)).1.1.1]; exact v2
  · rw [(B15.2 _ (by decide)).1.1.1]; exact (hz _).1
  · rw [v15]
    show fil 0 4 (100 : Int32) _ j = 100
    unfold fil
    rw [if_pos ⟨Nat.zero_le _, hj⟩]
  · rw [(keep _ w15.bo (by decide)).1, (keep _ b14 (by decide)).1, (keep _ b13 (by decide)).1, (keep _ b12 (by decide)).1]; exact (z11 j).1
  · rw [(keep _ w15.bo (by decide)).2.1, (keep _ b14 (by decide)).2.1, (keep _ b13 (by decide)).2.1, (keep _ b12 (by decide)).2.1, (keep _ b11 (by decide)).2.1]; exact (z10 j).2.1
theorem cpn {n N : Nat} (h : n ≤ N) (hN : N < 1000) : (¬ (0 : Int32) < 0 ∧ ¬ (0 : Int32) < 0 ∧ ¬ nI n < 0 ∧ (0 : Int32).toNatClampNeg + (nI n).toNatClampNeg ≤ N ∧ (0 : Int32).toNatClampNeg + (nI n).toNatClampNeg ≤ N) := by
  rw [nI_clamp (by omega)]
  exact ⟨by decide, by decide, nI_pos (by omega), by show 0 + n ≤ N; omega, by show 0 + n ≤ N; omega⟩
theorem cpy_in {α : Type} {f g : Nat → α} {n j : Nat} (hn : n < 1000) (h : j < n) : va_cpy f g (0 : Int32).toNatClampNeg (0 : Int32).toNatClampNeg (nI n).toNatClampNeg j = f j := by
  unfold va_cpy
  rw [nI_clamp (by omega), if_pos (show (0 : Int32).toNatClampNeg ≤ j ∧ j < (0 : Int32).toNatClampNeg + n from ⟨Nat.zero_le _, by show j < 0 + n; omega⟩)]
  show f (0 + (j - 0)) = f j
  rw [Nat.zero_add, Nat.sub_zero]
abbrev GTk : List Nat := [2300, 2301, 2302, 2303, 2304, 2305, 92306, 2307, 102308, 2309, 2310, 22311, 2315, 2312, 2316, 12313, 2314, 2318]
theorem c_take {Q : Option Nat → wS → Prop} {q : Nat} (hC : CM σ m s) (hf : CFd σ m s) (hs : Sh s) (hN : mN s ≤ 64) (hT : s 10 0 ≤ 8) (ok : ok22 σ q) (hne : m ≠ q) (hQ : ∀ τ, Wq GTk q σ τ → CM τ q s → CFd τ q s → oI τ 2318 q = 0 → Q (some q) τ) : w_X22_take σ q (some m) Q := by
  obtain ⟨⟨h1, h2, h3, h4⟩, hE, hG, hTb, hD⟩ := hC
  obtain ⟨g1, g2, g3, g4, g5⟩ := hf
  have b2 := hs.2.1
  unfold w_X22_take
  refine ⟨m, rfl, h1, ok, ?_⟩
  have O : ∀ {τa τb : wS} {G : List Nat}, Wq G q τa τb → ∀ g, Sam τa τb g m := fun w g => w.2 g m (fun e => absurd e hne)
  refine bnd_I fun τ1 w1 v1 => bnd_I fun τ2 w2 v2 => bnd_I fun τ3 w3 v3 => bnd_I fun τ4 w4 v4 => bnd_I fun τ5 w5 v5 => bnd_I fun τ6 w6 v6 => ?_
  rw [h2] at v1
  rw [(O w1 2301).1.1, h3] at v2
  have V2 := (w1.mono (G' := GTk) (by decide)).up w2 (by decide)
  rw [(O V2 2302).1.1, h4] at v3
  have V3 := V2.up w3 (by decide)
  rw [(O V3 2303).1.1, g3] at v4
  have V4 := V3.up w4 (by decide)
  rw [(O V4 2304).1.1, g4] at v5
  have V5 := V4.up w5 (by decide)
  rw [(O V5 2305).1.1, g5] at v6
  have V6 := V5.up w6 (by decide)
  have K : ∀ {τa τb : wS} {g' : Nat}, Wq [g'] q τa τb → ∀ g, g ≠ g' → Sam τa τb g q := fun w g hg => w.2 g q (fun _ z => hg (List.mem_singleton.mp z))
  have i0 : oI τ6 2300 q = nI (s 10 0) := by rw [(K w6 2300 (by decide)).1.1, (K w5 2300 (by decide)).1.1, (K w4 2300 (by decide)).1.1, (K w3 2300 (by decide)).1.1, (K w2 2300 (by decide)).1.1]; exact v1
  have i1 : oI τ6 2301 q = nI (mN s) := by rw [(K w6 2301 (by decide)).1.1, (K w5 2301 (by decide)).1.1, (K w4 2301 (by decide)).1.1, (K w3 2301 (by decide)).1.1]; exact v2
  have i2 : oI τ6 2302 q = nI (mG s) := by rw [(K w6 2302 (by decide)).1.1, (K w5 2302 (by decide)).1.1, (K w4 2302 (by decide)).1.1]; exact v3
  have i3 : oI τ6 2303 q = nI (s 18 0) := by rw [(K w6 2303 (by decide)).1.1, (K w5 2303 (by decide)).1.1]; exact v4
  have i4 : oI τ6 2304 q = nI (s 19 0 &&& 3958) := by rw [(K w6 2304 (by decide)).1.1]; exact v5
  rw [i0]
  refine ⟨cpn hT (by decide), fun i hi y e => ?_, bnd_AR fun τ7 w7 v7 => ?_⟩
  · rw [nI_clamp (by omega)] at hi
    rw [(O V6 92306).2.2, show (0 : Int32).toNatClampNeg + i = i from Nat.zero_add i] at e
    obtain ⟨o, o1, o2⟩ := hTb i hi
    rw [o1] at e
    cases e
    rw [V6.1.1]; exact o2.1
  have V7 := V6.up w7 (by decide)
  refine ⟨cpn (n := 4) (by decide) (by decide), bnd_A fun τ8 w8 v8 => ?_⟩
  have V8 := V7.up w8 (by decide)
  rw [(K w8 2301 (by decide)).1.1, (K w7 2301 (by decide)).1.1, i1]
  refine ⟨cpn hN (by decide), fun i hi y e => ?_, bnd_AR fun τ9 w9 v9 => ?_⟩
  · rw [nI_clamp (by omega)] at hi
    rw [(O V8 102308).2.2, show (0 : Int32).toNatClampNeg + i = i from Nat.zero_add i] at e
    obtain ⟨⟨o, o1, o2⟩, -⟩ := hE i hi
    rw [o1] at e
    cases e
    unfold oS32
    rw [V8.1.1]
    exact o2.oS (sx_2 hs hi)
  have V9 := V8.up w9 (by decide)
  rw [(K w9 2301 (by decide)).1.1, (K w8 2301 (by decide)).1.1, (K w7 2301 (by decide)).1.1, i1]
  refine ⟨cpn hN (by decide), bnd_A fun τ10 w10 v10 => ?_⟩
  have V10 := V9.up w10 (by decide)
  rw [(K w10 2301 (by decide)).1.1, (K w9 2301 (by decide)).1.1, (K w8 2301 (by decide)).1.1, (K w7 2301 (by decide)).1.1, i1]
  refine ⟨cpn hN (by decide), bnd_A fun τ11 w11 v11 => ?_⟩
  have V11 := V10.up w11 (by decide)
  rw [(K w11 2301 (by decide)).1.1, (K w10 2301 (by decide)).1.1, (K w9 2301 (by decide)).1.1, (K w8 2301 (by decide)).1.1, (K w7 2301 (by decide)).1.1, i1]
  refine ⟨cpn hN (by decide), fun i hi => ?_, bnd_A fun τ12 w12 v12 => ?_⟩
  · rw [nI_clamp (by omega)] at hi
    rw [(O V11 22311).1.2.2.2, show (0 : Int32).toNatClampNeg + i = i from Nat.zero_add i, (hE i hi).2.2.2.1]
    have := (sh_bnd hs hi).2.2.2
    have : s 8 i = 0 ∨ s 8 i = 1 := by omega
    rcases this with y | y
    · rw [y]; exact Or.inl rfl
    · rw [y]; exact Or.inr rfl
  have V12 := V11.up w12 (by decide)
  have j12 : oI τ12 2301 q = nI (mN s) := by rw [(K w12 2301 (by decide)).1.1, (K w11 2301 (by decide)).1.1, (K w10 2301 (by decide)).1.1, (K w9 2301 (by decide)).1.1, (K w8 2301 (by decide)).1.1, (K w7 2301 (by decide)).1.1, i1]
  rw [j12]
  refine ⟨cpn hN (by decide), bnd_A fun τ13 w13 v13 => ?_⟩
  have V13 := V12.up w13 (by decide)
  have k13 : oI τ13 2302 q = nI (mG s) := by rw [(K w13 2302 (by decide)).1.1, (K w12 2302 (by decide)).1.1, (K w11 2302 (by decide)).1.1, (K w10 2302 (by decide)).1.1, (K w9 2302 (by decide)).1.1, (K w8 2302 (by decide)).1.1, (K w7 2302 (by decide)).1.1, i2]
  rw [k13]
  refine ⟨cpn (show mG s ≤ 64 by omega) (by decide), bnd_A fun τ14 w14 v14 => ?_⟩
  have V14 := V13.up w14 (by decide)
  rw [(K w14 2302 (by decide)).1.1, k13]
  refine ⟨cpn (show mG s ≤ 64 by omega) (by decide), bnd_A fun τ15 w15 v15 => ?_⟩
  have V15 := V14.up w15 (by decide)
  rw [(K w15 2301 (by decide)).1.1, (K w14 2301 (by decide)).1.1, (K w13 2301 (by decide)).1.1, j12, nIl_7, nI_mul]
  refine ⟨cpn (show mN s * 7 ≤ 448 by omega) (by decide), bnd_AJ fun τ16 w16 v16 => ?_⟩
  have V16 := V15.up w16 (by decide)
  refine ⟨cpn (n := 7) (by decide) (by decide), bnd_A fun τ17 w17 v17 => bnd_I fun τ18 w18 v18 => ?_⟩
  have V17 := V16.up w17 (by decide)
  have V18 := V17.up w18 (by decide)
  have X : ∀ o e k p, XO σ o e k p → XO τ18 o e k p := fun o e k p h => V18.xo h (by decide)
  have sI : ∀ g, g = 2300 ∨ g = 2301 ∨ g = 2302 ∨ g = 2303 ∨ g = 2304 ∨ g = 2305 → oI τ18 g q = oI τ6 g q := fun g hg => by
    rw [(K w18 g (by omega)).1.1, (K w17 g (by omega)).1.1, (K w16 g (by omega)).1.1, (K w15 g (by omega)).1.1, (K w14 g (by omega)).1.1, (K w13 g (by omega)).1.1, (K w12 g (by omega)).1.1, (K w11 g (by omega)).1.1, (K w10 g (by omega)).1.1, (K w9 g (by omega)).1.1, (K w8 g (by omega)).1.1, (K w7 g (by omega)).1.1]
  have sA8 : aI τ18 2307 q = aI τ8 2307 q := by rw [(K w18 2307 (by decide)).1.2.2.2, (K w17 2307 (by decide)).1.2.2.2, (K w16 2307 (by decide)).1.2.2.2, (K w15 2307 (by decide)).1.2.2.2, (K w14 2307 (by decide)).1.2.2.2, (K w13 2307 (by decide)).1.2.2.2, (K w12 2307 (by decide)).1.2.2.2, (K w11 2307 (by decide)).1.2.2.2, (K w10 2307 (by decide)).1.2.2.2, (K w9 2307 (by decide)).1.2.2.2]
  have sR7 : aR τ18 92306 q = aR τ7 92306 q := by rw [(K w18 92306 (by decide)).2.2, (K w17 92306 (by decide)).2.2, (K w16 92306 (by decide)).2.2, (K w15 92306 (by decide)).2.2, (K w14 92306 (by decide)).2.2, (K w13 92306 (by decide)).2.2, (K w12 92306 (by decide)).2.2, (K w11 92306 (by decide)).2.2, (K w10 92306 (by decide)).2.2, (K w9 92306 (by decide)).2.2, (K w8 92306 (by decide)).2.2]
  have sR9 : aR τ18 102308 q = aR τ9 102308 q := by rw [(K w18 102308 (by decide)).2.2, (K w17 102308 (by decide)).2.2, (K w16 102308 (by decide)).2.2, (K w15 102308 (by decide)).2.2, (K w14 102308 (by decide)).2.2, (K w13 102308 (by decide)).2.2, (K w12 102308 (by decide)).2.2, (K w11 102308 (by decide)).2.2, (K w10 102308 (by decide)).2.2]
  have sA10 : aI τ18 2309 q = aI τ10 2309 q := by rw [(K w18 2309 (by decide)).1.2.2.2, (K w17 2309 (by decide)).1.2.2.2, (K w16 2309 (by decide)).1.2.2.2, (K w15 2309 (by decide)).1.2.2.2, (K w14 2309 (by decide)).1.2.2.2, (K w13 2309 (by decide)).1.2.2.2, (K w12 2309 (by decide)).1.2.2.2, (K w11 2309 (by decide)).1.2.2.2]
  have sA11 : aI τ18 2310 q = aI τ11 2310 q := by rw [(K w18 2310 (by decide)).1.2.2.2, (K w17 2310 (by decide)).1.2.2.2, (K w16 2310 (by decide)).1.2.2.2, (K w15 2310 (by decide)).1.2.2.2, (K w14 2310 (by decide)).1.2.2.2, (K w13 2310 (by decide)).1.2.2.2, (K w12 2310 (by decide)).1.2.2.2]
  have sA12 : aI τ18 22311 q = aI τ12 22311 q := by rw [(K w18 22311 (by decide)).1.2.2.2, (K w17 22311 (by decide)).1.2.2.2, (K w16 22311 (by decide)).1.2.2.2, (K w15 22311 (by decide)).1.2.2.2, (K w14 22311 (by decide)).1.2.2.2, (K w13 22311 (by decide)).1.2.2.2]
  have sA13 : aI τ18 2315 q = aI τ13 2315 q := by rw [(K w18 2315 (by decide)).1.2.2.2, (K w17 2315 (by decide)).1.2.2.2, (K w16 2315 (by decide)).1.2.2.2, (K w15 2315 (by decide)).1.2.2.2, (K w14 2315 (by decide)).1.2.2.2]
  have sA14 : aI τ18 2312 q = aI τ14 2312 q := by rw [(K w18 2312 (by decide)).1.2.2.2, (K w17 2312 (by decide)).1.2.2.2, (K w16 2312 (by decide)).1.2.2.2, (K w15 2312 (by decide)).1.2.2.2]
  have sA15 : aI τ18 2316 q = aI τ15 2316 q := by rw [(K w18 2316 (by decide)).1.2.2.2, (K w17 2316 (by decide)).1.2.2.2, (K w16 2316 (by decide)).1.2.2.2]
  have sJ16 : aJ τ18 12313 q = aJ τ16 12313 q := by rw [(K w18 12313 (by decide)).2.1, (K w17 12313 (by decide)).2.1]
  have sA17 : aI τ18 2314 q = aI τ17 2314 q := by rw [(K w18 2314 (by decide)).1.2.2.2]
  refine hQ τ18 V18 ⟨⟨ok22.ext ok V18.ext, ?_, ?_, ?_⟩, fun e he => ⟨?_, fun z => ?_, fun z => ?_, ?_, ?_⟩, fun g hg => ⟨?_, ?_⟩, fun i hi => ?_, fun i hi => ?_⟩ ⟨fun e he r hr => ?_, fun i hi => ?_, ?_, ?_, ?_⟩ v18
  · rw [sI _ (by decide)]; exact i0
  · rw [sI _ (by decide)]; exact i1
  · rw [sI _ (by decide)]; exact i2
  · obtain ⟨o, o1, o2⟩ := (hE e he).1
    exact ⟨o, by rw [sR9, v9, cpy_in (by omega) he, (O V8 102308).2.2]; exact o1, X _ _ _ _ o2⟩
  · rw [sA10, v10, cpy_in (by omega) he, (O V9 2309).1.2.2.2]; exact (hE e he).2.1 z
  · rw [sA11, v11, cpy_in (by omega) he, (O V10 2310).1.2.2.2]; exact (hE e he).2.2.1 z
  · rw [sA12, v12, cpy_in (by omega) he, (O V11 22311).1.2.2.2]; exact (hE e he).2.2.2.1
  · rw [sA13, v13, cpy_in (by omega) he, (O V12 2315).1.2.2.2]; exact (hE e he).2.2.2.2
  · rw [sA15, v15, cpy_in (by omega) hg, (O V14 2316).1.2.2.2]; exact (hG g hg).1
  · rw [sA14, v14, cpy_in (by omega) hg, (O V13 2312).1.2.2.2]; exact (hG g hg).2
  · obtain ⟨o, o1, o2, o3, o4, o5, o6⟩ := hTb i hi
    refine ⟨o, by rw [sR7, v7, cpy_in (by omega) hi, (O V6 92306).2.2]; exact o1, by rw [V18.1.1]; exact o2, ?_, ?_, ?_, ?_⟩
    · rw [((V18.sam (by decide)) o).1.1]; exact o3
    · rw [((V18.sam (by decide)) o).1.1]; exact o4
    · rw [((V18.sam (by decide)) o).1.1]; exact o5
    · rw [((V18.sam (by decide)) o).1.1]; exact o6
  · rw [sA8, v8, show (4 : Int32) = nI 4 from rfl, cpy_in (by omega) hi, (O V7 2307).1.2.2.2]; exact hD i hi
  · rw [sJ16, v16, cpy_in (by omega) (show e * 7 + r < mN s * 7 by omega), (O V15 12313).2.1]; exact g1 e he r hr
  · rw [sA17, v17, cpy_in (by omega) hi, (O V16 2314).1.2.2.2]; exact g2 i hi
  · rw [sI _ (by decide)]; exact i3
  · rw [sI _ (by decide)]; exact i4
  · rw [sI _ (by decide)]; exact v6
end PC
