set_option linter.unusedVariables false
section PB
variable {σ τ υ : wS} {t : Nat}
theorem nIl_0 : (0 : Int32) = nI 0 := rfl
theorem nIl_1 : (1 : Int32) = nI 1 := rfl
theorem nIl_2 : (2 : Int32) = nI 2 := rfl
theorem nIl_3 : (3 : Int32) = nI 3 := rfl
theorem nIl_4 : (4 : Int32) = nI 4 := rfl
theorem nIl_5 : (5 : Int32) = nI 5 := rfl
theorem nIl_6 : (6 : Int32) = nI 6 := rfl
theorem nIl_7 : (7 : Int32) = nI 7 := rfl
theorem nIl_8 : (8 : Int32) = nI 8 := rfl
theorem nIl_9 : (9 : Int32) = nI 9 := rfl
theorem nIl_10 : (10 : Int32) = nI 10 := rfl
theorem nIl_11 : (11 : Int32) = nI 11 := rfl
theorem nIl_12 : (12 : Int32) = nI 12 := rfl
theorem nIl_13 : (13 : Int32) = nI 13 := rfl
theorem nIl_14 : (14 : Int32) = nI 14 := rfl
theorem nIl_15 : (15 : Int32) = nI 15 := rfl
theorem nIl_16 : (16 : Int32) = nI 16 := rfl
theorem nIl_17 : (17 : Int32) = nI 17 := rfl
theorem nIl_18 : (18 : Int32) = nI 18 := rfl
theorem nIl_19 : (19 : Int32) = nI 19 := rfl
theorem nIl_20 : (20 : Int32) = nI 20 := rfl
theorem nIl_22 : (22 : Int32) = nI 22 := rfl
theorem nIl_30 : (30 : Int32) = nI 30 := rfl
theorem nIl_31 : (31 : Int32) = nI 31 := rfl
theorem nIl_32 : (32 : Int32) = nI 32 := rfl
theorem nIl_40 : (40 : Int32) = nI 40 := rfl
theorem nIl_48 : (48 : Int32) = nI 48 := rfl
theorem nIl_44 : (44 : Int32) = nI 44 := rfl
theorem nIl_50 : (50 : Int32) = nI 50 := rfl
theorem nIl_56 : (56 : Int32) = nI 56 := rfl
theorem nIl_60 : (60 : Int32) = nI 60 := rfl
theorem nIl_64 : (64 : Int32) = nI 64 := rfl
theorem nIl_65 : (65 : Int32) = nI 65 := rfl
theorem nIl_70 : (70 : Int32) = nI 70 := rfl
theorem nIl_80 : (80 : Int32) = nI 80 := rfl
theorem nIl_99 : (99 : Int32) = nI 99 := rfl
theorem nIl_100 : (100 : Int32) = nI 100 := rfl
theorem nIl_101 : (101 : Int32) = nI 101 := rfl
theorem nIl_104 : (104 : Int32) = nI 104 := rfl
theorem nIl_106 : (106 : Int32) = nI 106 := rfl
theorem nIl_107 : (107 : Int32) = nI 107 := rfl
theorem nIl_110 : (110 : Int32) = nI 110 := rfl
theorem nIl_115 : (115 : Int32) = nI 115 := rfl
theorem nIl_116 : (116 : Int32) = nI 116 := rfl
theorem nIl_120 : (120 : Int32) = nI 120 := rfl
theorem nIl_144 : (144 : Int32) = nI 144 := rfl
theorem nIl_160 : (160 : Int32) = nI 160 := rfl
theorem nIl_200 : (200 : Int32) = nI 200 := rfl
theorem nIl_400 : (400 : Int32) = nI 400 := rfl
theorem nIl_455 : (455 : Int32) = nI 455 := rfl
theorem nIl_1000000 : (1000000 : Int32) = nI 1000000 := rfl
theorem oC_sI {g o : Nat} {v : Int32} : oC (sI σ g o v) = oC σ := rfl
theorem oJ_sI {g o : Nat} {v : Int32} : oJ (sI σ g o v) = oJ σ := rfl
theorem oR_sI {g o : Nat} {v : Int32} : oR (sI σ g o v) = oR σ := rfl
theorem aI_sI {g o : Nat} {v : Int32} : aI (sI σ g o v) = aI σ := rfl
theorem aJ_sI {g o : Nat} {v : Int32} : aJ (sI σ g o v) = aJ σ := rfl
theorem aR_sI {g o : Nat} {v : Int32} : aR (sI σ g o v) = aR σ := rfl
theorem aN_sI {g o : Nat} {v : Int32} : aN (sI σ g o v) = aN σ := rfl
theorem aD_sI {g o : Nat} {v : Int32} : aD (sI σ g o v) = aD σ := rfl
theorem nx_sI {g o : Nat} {v : Int32} : nx (sI σ g o v) = nx σ := rfl
theorem rC_sI {g o : Nat} {v : Int32} : rC (sI σ g o v) = rC σ := rfl
theorem rS_sI {g o : Nat} {v : Int32} : rS (sI σ g o v) = rS σ := rfl
theorem oI_sI_s {g o : Nat} {v : Int32} : oI (sI σ g o v) g o = v := u2_s
theorem oI_sI_g {g g1 o o1 : Nat} {v : Int32} (h : g1 ≠ g) : oI (sI σ g o v) g1 o1 = oI σ g1 o1 := u2_g h
theorem oI_sI_a {g g1 o o1 : Nat} {v : Int32} (h : o1 ≠ o) : oI (sI σ g o v) g1 o1 = oI σ g1 o1 := u2_a h
theorem oC_sJ {g o : Nat} {v : Int64} : oC (sJ σ g o v) = oC σ := rfl
theorem oI_sJ {g o : Nat} {v : Int64} : oI (sJ σ g o v) = oI σ := rfl
theorem oR_sJ {g o : Nat} {v : Int64} : oR (sJ σ g o v) = oR σ := rfl
theorem aI_sJ {g o : Nat} {v : Int64} : aI (sJ σ g o v) = aI σ := rfl
theorem aJ_sJ {g o : Nat} {v : Int64} : aJ (sJ σ g o v) = aJ σ := rfl
theorem aR_sJ {g o : Nat} {v : Int64} : aR (sJ σ g o v) = aR σ := rfl
theorem aN_sJ {g o : Nat} {v : Int64} : aN (sJ σ g o v) = aN σ := rfl
theorem aD_sJ {g o : Nat} {v : Int64} : aD (sJ σ g o v) = aD σ := rfl
theorem nx_sJ {g o : Nat} {v : Int64} : nx (sJ σ g o v) = nx σ := rfl
theorem rC_sJ {g o : Nat} {v : Int64} : rC (sJ σ g o v) = rC σ := rfl
theorem rS_sJ {g o : Nat} {v : Int64} : rS (sJ σ g o v) = rS σ := rfl
theorem oJ_sJ_s {g o : Nat} {v : Int64} : oJ (sJ σ g o v) g o = v := u2_s
theorem oJ_sJ_g {g g1 o o1 : Nat} {v : Int64} (h : g1 ≠ g) : oJ (sJ σ g o v) g1 o1 = oJ σ g1 o1 := u2_g h
theorem oJ_sJ_a {g g1 o o1 : Nat} {v : Int64} (h : o1 ≠ o) : oJ (sJ σ g o v) g1 o1 = oJ σ g1 o1 := u2_a h
theorem oC_sR {g o : Nat} {v : Option Nat} : oC (sR σ g o v) = oC σ := rfl
theorem oI_sR {g o : Nat} {v : Option Nat} : oI (sR σ g o v) = oI σ := rfl
theorem oJ_sR {g o : Nat} {v : Option Nat} : oJ (sR σ g o v) = oJ σ := rfl
theorem aI_sR {g o : Nat} {v : Option Nat} : aI (sR σ g o v) = aI σ := rfl
theorem aJ_sR {g o : Nat} {v : Option Nat} : aJ (sR σ g o v) = aJ σ := rfl
theorem aR_sR {g o : Nat} {v : Option Nat} : aR (sR σ g o v) = aR σ := rfl
theorem aN_sR {g o : Nat} {v : Option Nat} : aN (sR σ g o v) = aN σ := rfl
theorem aD_sR {g o : Nat} {v : Option Nat} : aD (sR σ g o v) = aD σ := rfl
theorem nx_sR {g o : Nat} {v : Option Nat} : nx (sR σ g o v) = nx σ := rfl
theorem rC_sR {g o : Nat} {v : Option Nat} : rC (sR σ g o v) = rC σ := rfl
theorem rS_sR {g o : Nat} {v : Option Nat} : rS (sR σ g o v) = rS σ := rfl
theorem oR_sR_s {g o : Nat} {v : Option Nat} : oR (sR σ g o v) g o = v := u2_s
theorem oR_sR_g {g g1 o o1 : Nat} {v : Option Nat} (h : g1 ≠ g) : oR (sR σ g o v) g1 o1 = oR σ g1 o1 := u2_g h
theorem oR_sR_a {g g1 o o1 : Nat} {v : Option Nat} (h : o1 ≠ o) : oR (sR σ g o v) g1 o1 = oR σ g1 o1 := u2_a h
theorem oC_sA {g o : Nat} {v : Nat → Int32} : oC (sA σ g o v) = oC σ := rfl
theorem oI_sA {g o : Nat} {v : Nat → Int32} : oI (sA σ g o v) = oI σ := rfl
theorem oJ_sA {g o : Nat} {v : Nat → Int32} : oJ (sA σ g o v) = oJ σ := rfl
theorem oR_sA {g o : Nat} {v : Nat → Int32} : oR (sA σ g o v) = oR σ := rfl
theorem aJ_sA {g o : Nat} {v : Nat → Int32} : aJ (sA σ g o v) = aJ σ := rfl
theorem aR_sA {g o : Nat} {v : Nat → Int32} : aR (sA σ g o v) = aR σ := rfl
theorem aN_sA {g o : Nat} {v : Nat → Int32} : aN (sA σ g o v) = aN σ := rfl
theorem aD_sA {g o : Nat} {v : Nat → Int32} : aD (sA σ g o v) = aD σ := rfl
theorem nx_sA {g o : Nat} {v : Nat → Int32} : nx (sA σ g o v) = nx σ := rfl
theorem rC_sA {g o : Nat} {v : Nat → Int32} : rC (sA σ g o v) = rC σ := rfl
theorem rS_sA {g o : Nat} {v : Nat → Int32} : rS (sA σ g o v) = rS σ := rfl
theorem aI_sA_s {g o : Nat} {v : Nat → Int32} : aI (sA σ g o v) g o = v := u2_s
theorem aI_sA_g {g g1 o o1 : Nat} {v : Nat → Int32} (h : g1 ≠ g) : aI (sA σ g o v) g1 o1 = aI σ g1 o1 := u2_g h
theorem aI_sA_a {g g1 o o1 : Nat} {v : Nat → Int32} (h : o1 ≠ o) : aI (sA σ g o v) g1 o1 = aI σ g1 o1 := u2_a h
theorem oC_sAJ {g o : Nat} {v : Nat → Int64} : oC (sAJ σ g o v) = oC σ := rfl
theorem oI_sAJ {g o : Nat} {v : Nat → Int64} : oI (sAJ σ g o v) = oI σ := rfl
theorem oJ_sAJ {g o : Nat} {v : Nat → Int64} : oJ (sAJ σ g o v) = oJ σ := rfl
theorem oR_sAJ {g o : Nat} {v : Nat → Int64} : oR (sAJ σ g o v) = oR σ := rfl
theorem aI_sAJ {g o : Nat} {v : Nat → Int64} : aI (sAJ σ g o v) = aI σ := rfl
theorem aR_sAJ {g o : Nat} {v : Nat → Int64} : aR (sAJ σ g o v) = aR σ := rfl
theorem aN_sAJ {g o : Nat} {v : Nat → Int64} : aN (sAJ σ g o v) = aN σ := rfl
theorem aD_sAJ {g o : Nat} {v : Nat → Int64} : aD (sAJ σ g o v) = aD σ := rfl
theorem nx_sAJ {g o : Nat} {v : Nat → Int64} : nx (sAJ σ g o v) = nx σ := rfl
theorem rC_sAJ {g o : Nat} {v : Nat → Int64} : rC (sAJ σ g o v) = rC σ := rfl
theorem rS_sAJ {g o : Nat} {v : Nat → Int64} : rS (sAJ σ g o v) = rS σ := rfl
theorem aJ_sAJ_s {g o : Nat} {v : Nat → Int64} : aJ (sAJ σ g o v) g o = v := u2_s
theorem aJ_sAJ_g {g g1 o o1 : Nat} {v : Nat → Int64} (h : g1 ≠ g) : aJ (sAJ σ g o v) g1 o1 = aJ σ g1 o1 := u2_g h
theorem aJ_sAJ_a {g g1 o o1 : Nat} {v : Nat → Int64} (h : o1 ≠ o) : aJ (sAJ σ g o v) g1 o1 = aJ σ g1 o1 := u2_a h
theorem oC_sAR {g o : Nat} {v : Nat → Option Nat} : oC (sAR σ g o v) = oC σ := rfl
theorem oI_sAR {g o : Nat} {v : Nat → Option Nat} : oI (sAR σ g o v) = oI σ := rfl
theorem oJ_sAR {g o : Nat} {v : Nat → Option Nat} : oJ (sAR σ g o v) = oJ σ := rfl
theorem oR_sAR {g o : Nat} {v : Nat → Option Nat} : oR (sAR σ g o v) = oR σ := rfl
theorem aI_sAR {g o : Nat} {v : Nat → Option Nat} : aI (sAR σ g o v) = aI σ := rfl
theorem aJ_sAR {g o : Nat} {v : Nat → Option Nat} : aJ (sAR σ g o v) = aJ σ := rfl
theorem aN_sAR {g o : Nat} {v : Nat → Option Nat} : aN (sAR σ g o v) = aN σ := rfl
theorem aD_sAR {g o : Nat} {v : Nat → Option Nat} : aD (sAR σ g o v) = aD σ := rfl
theorem nx_sAR {g o : Nat} {v : Nat → Option Nat} : nx (sAR σ g o v) = nx σ := rfl
theorem rC_sAR {g o : Nat} {v : Nat → Option Nat} : rC (sAR σ g o v) = rC σ := rfl
theorem rS_sAR {g o : Nat} {v : Nat → Option Nat} : rS (sAR σ g o v) = rS σ := rfl
theorem aR_sAR_s {g o : Nat} {v : Nat → Option Nat} : aR (sAR σ g o v) g o = v := u2_s
theorem aR_sAR_g {g g1 o o1 : Nat} {v : Nat → Option Nat} (h : g1 ≠ g) : aR (sAR σ g o v) g1 o1 = aR σ g1 o1 := u2_g h
theorem aR_sAR_a {g g1 o o1 : Nat} {v : Nat → Option Nat} (h : o1 ≠ o) : aR (sAR σ g o v) g1 o1 = aR σ g1 o1 := u2_a h
theorem nI_n0 {n : Nat} (h : n < 2 ^ 31) : nI n = 0 ↔ n = 0 := by rw [nIl_0, nI_eq h (by decide)]
theorem nI_nm {n k : Nat} (h : n < 2 ^ 31) (hk : 0 < k) (hk2 : k < 2 ^ 31) : ¬ nI n = -nI k := by
  intro e
  have h1 : (nI n).toInt = (n : Int) := nI_toInt h
  have h2 := sb_negT (w := k) hk2
  rw [e, h2] at h1
  omega
theorem nI_m1 {n : Nat} (h : n < 2 ^ 31) : ¬ nI n = (-1 : Int32) := nI_nm (k := 1) h (by decide) (by decide)
theorem vp_inN {n N : Nat} (h : n < N) (hN : N < 2 ^ 31) : vp_in (nI n) N := vp_in_nI h hN
def oN : Option Nat → Int32
  | none => -1
  | some e => nI e
theorem oN_m1 {r : Option Nat} (h : ∀ e, r = some e → e < 2 ^ 31) : oN r = -1 ↔ r = none := by
  cases r with
  | none => exact ⟨fun _ => rfl, fun _ => rfl⟩
  | some e => exact ⟨fun q => absurd q (nI_m1 (h e rfl)), fun q => nomatch q⟩
theorem upd_s {f : Nat → Int32} {i : Nat} {v : Int32} : upd f i v i = v := by simp [upd]
theorem upd_n {f : Nat → Int32} {i j : Nat} {v : Int32} (h : j ≠ i) : upd f i v j = f j := by simp [upd, h]
theorem updL_s {f : Nat → Int64} {i : Nat} {v : Int64} : vp_updL f i v i = v := by simp [vp_updL]
theorem updL_n {f : Nat → Int64} {i j : Nat} {v : Int64} (h : j ≠ i) : vp_updL f i v j = f j := by simp [vp_updL, h]
theorem nar_b0 : vp_nar .boolean 0 = 0 := rfl
theorem nar_b1 : vp_nar .boolean 1 = 1 := rfl
/-- all but these fields of the twin stays -/
def Tw (G : List Nat) (t : Nat) (σ τ : wS) : Prop := (oC τ = oC σ ∧ oR τ = oR σ ∧ aR τ = aR σ ∧ aN τ = aN σ ∧ aD τ = aD σ ∧ nx τ = nx σ ∧ rC τ = rC σ ∧ rS τ = rS σ) ∧
  ∀ g o, (o = t → g ∉ G) → oI τ g o = oI σ g o ∧ oJ τ g o = oJ σ g o ∧ aI τ g o = aI σ g o ∧ aJ τ g o = aJ σ g o
theorem Tw.refl {G : List Nat} : Tw G t σ σ := ⟨⟨rfl, rfl, rfl, rfl, rfl, rfl, rfl, rfl⟩, fun _ _ _ => ⟨rfl, rfl, rfl, rfl⟩⟩
theorem Tw.trans {G : List Nat} (h : Tw G t σ τ) (k : Tw G t τ υ) : Tw G t σ υ := by
  obtain ⟨⟨a1, a2, a3, a4, a5, a6, a7, a8⟩, a⟩ := h
  obtain ⟨⟨b1, b2, b3, b4, b5, b6, b7, b8⟩, b⟩ := k
  refine ⟨⟨b1.trans a1, b2.trans a2, b3.trans a3, b4.trans a4, b5.trans a5, b6.trans a6, b7.trans a7, b8.trans a8⟩, fun g o q => ?_⟩
  obtain ⟨c1, c2, c3, c4⟩ := a g o q
  obtain ⟨d1, d2, d3, d4⟩ := b g o q
  exact ⟨d1.trans c1, d2.trans c2, d3.trans c3, d4.trans c4⟩
theorem Tw.mono {G G' : List Nat} (h : Tw G t σ τ) (k : ∀ g ∈ G, g ∈ G') : Tw G' t σ τ := ⟨h.1, fun g o q => h.2 g o (fun e z => q e (k g z))⟩
theorem Tw.I {G : List Nat} (h : Tw G t σ τ) {g : Nat} (hg : g ∉ G) : oI τ g t = oI σ g t := (h.2 g t (fun _ => hg)).1
theorem Tw.J {G : List Nat} (h : Tw G t σ τ) {g : Nat} (hg : g ∉ G) : oJ τ g t = oJ σ g t := (h.2 g t (fun _ => hg)).2.1
theorem Tw.A {G : List Nat} (h : Tw G t σ τ) {g : Nat} (hg : g ∉ G) : aI τ g t = aI σ g t := (h.2 g t (fun _ => hg)).2.2.1
theorem Tw.AJ {G : List Nat} (h : Tw G t σ τ) {g : Nat} (hg : g ∉ G) : aJ τ g t = aJ σ g t := (h.2 g t (fun _ => hg)).2.2.2
theorem Tw.ext {G : List Nat} (h : Tw G t σ τ) : Ext σ τ := ⟨fun x _ => by rw [h.1.1], fun g x n _ _ hn => ⟨by rw [h.1.2.2.2.1]; exact hn, by rw [h.1.2.2.2.2.1]⟩⟩
theorem Tw.ok {G : List Nat} (h : Tw G t σ τ) (k : ok24 σ t) : ok24 τ t := ok24.ext k h.ext
theorem tw_sI {G : List Nat} {g : Nat} {v : Int32} (h : g ∈ G) : Tw G t σ (sI σ g t v) :=
  ⟨⟨rfl, rfl, rfl, rfl, rfl, rfl, rfl, rfl⟩, fun g' o q => ⟨by
    by_cases e : g' = g
    · exact u2_a (fun z => q z (by rw [e]; exact h))
    · exact u2_g e, rfl, rfl, rfl⟩⟩
theorem tw_sA {G : List Nat} {g : Nat} {v : Nat → Int32} (h : g ∈ G) : Tw G t σ (sA σ g t v) :=
  ⟨⟨rfl, rfl, rfl, rfl, rfl, rfl, rfl, rfl⟩, fun g' o q => ⟨rfl, rfl, by
    by_cases e : g' = g
    · exact u2_a (fun z => q z (by rw [e]; exact h))
    · exact u2_g e, rfl⟩⟩
theorem tw_sAJ {G : List Nat} {g : Nat} {v : Nat → Int64} (h : g ∈ G) : Tw G t σ (sAJ σ g t v) :=
  ⟨⟨rfl, rfl, rfl, rfl, rfl, rfl, rfl, rfl⟩, fun g' o q => ⟨rfl, rfl, rfl, by
    by_cases e : g' = g
    · exact u2_a (fun z => q z (by rw [e]; exact h))
    · exact u2_g e⟩⟩
theorem tw_sI' {G : List Nat} {g : Nat} {v : Int32} (h : g ∈ G) (k : Tw G t σ τ) : Tw G t σ (sI τ g t v) := k.trans (tw_sI h)
theorem tw_sA' {G : List Nat} {g : Nat} {v : Nat → Int32} (h : g ∈ G) (k : Tw G t σ τ) : Tw G t σ (sA τ g t v) := k.trans (tw_sA h)
theorem tw_sAJ' {G : List Nat} {g : Nat} {v : Nat → Int64} (h : g ∈ G) (k : Tw G t σ τ) : Tw G t σ (sAJ τ g t v) := k.trans (tw_sAJ h)
theorem bnd_sA {g : Nat} {f : Nat → Int32} {k : wS → Prop} (h : ∀ τ, Tw [g] t σ τ → aI τ g t = f → oI τ = oI σ → aJ τ = aJ σ → k τ) : bnd (sA σ g t f) k := by
  intro τ e
  exact h τ (by rw [e]; exact tw_sA (by simp)) (by rw [e]; exact aI_sA_s) (by rw [e]; rfl) (by rw [e]; rfl)
theorem bnd_sI {g : Nat} {v : Int32} {k : wS → Prop} (h : ∀ τ, Tw [g] t σ τ → oI τ g t = v → aI τ = aI σ → aJ τ = aJ σ → k τ) : bnd (sI σ g t v) k := by
  intro τ e
  exact h τ (by rw [e]; exact tw_sI (by simp)) (by rw [e]; exact oI_sI_s) (by rw [e]; rfl) (by rw [e]; rfl)
theorem bnd_sAJ {g : Nat} {f : Nat → Int64} {k : wS → Prop} (h : ∀ τ, Tw [g] t σ τ → aJ τ g t = f → oI τ = oI σ → aI τ = aI σ → k τ) : bnd (sAJ σ g t f) k := by
  intro τ e
  exact h τ (by rw [e]; exact tw_sAJ (by simp)) (by rw [e]; exact aJ_sAJ_s) (by rw [e]; rfl) (by rw [e]; rfl)
theorem Tw.up {G : List Nat} {g : Nat} (k : Tw G t σ τ) (h : Tw [g] t τ υ) (hg : g ∈ G) : Tw G t σ υ := k.trans (h.mono (fun x hx => by rw [List.mem_singleton.mp hx]; exact hg))

end PB
