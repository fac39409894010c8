set_option linter.unusedVariables false
set_option maxRecDepth 10000
section PT
variable {σ τ υ : wS} {t F : Nat} {s : mS}
def s0f (s : mS) (e r f : Nat) : mS := st (st (st s 16 (up (s 16) (wi e r f) 1)) 17 (up (s 17) r (s 17 r + 1))) 18 (up (s 18) 0 (s 18 0 + 1))
def fin2 (y : mS × Nat) (e r f : Nat) : mS := match lk4 y.1 (cms y.1 e r f y.2) with
  | none => nwa y.1 (cms y.1 e r f y.2).1 (cms y.1 e r f y.2).2.1 (cms y.1 e r f y.2).2.2.1 (cms y.1 e r f y.2).2.2.2 (R y.1 (y.1 6 e))
  | some j => mrg y.1 (y.1 6 j) (y.1 6 e)
/-- the memo behind a firing -/
def fir (s : mS) (e r f : Nat) : mS := if r = 4 then mrg (s0f s e r f) (s 6 e) (s 6 f) else fin2 (if r = 0 then (s0f s e r f, 0) else tel (s0f s e r f) (brk (s0f s e r f) e r f)) e r f
theorem s0_sh {e r f : Nat} (h : Sh s) : Sh (s0f s e r f) := h
theorem s0_lo {e r f : Nat} (h : Lo s) : Lo (s0f s e r f) := h
theorem s0_no {e r f : Nat} (h : No s) : No (s0f s e r f) := h
theorem s0_nk {e r f : Nat} (h : NK s e r f) : NK (s0f s e r f) e r f := h
theorem s0_tm {e r f : Nat} (h : TM σ t s) : TM σ t (s0f s e r f) := h
/-- what is told at last -/
theorem fin2_ok {y : mS × Nat} {e r f : Nat} (hs : Sh s) (l : Lo s) (hk : NK s e r f) (h4 : r ≠ 4) (ho : Old s y.1) (hs1 : Sh y.1) (l1 : Lo y.1) (n1 : No y.1) (hN : mN y.1 < 144)
    (hg : 1 ≤ r → y.2 < mG y.1 ∧ R y.1 y.2 = y.2 ∧ y.1 9 y.2 = col4 s (brk s e r f)) :
    Sh (fin2 y e r f) ∧ Lo (fin2 y e r f) ∧ No (fin2 y e r f) ∧ (∀ k, 10 ≤ k → fin2 y e r f k = y.1 k) ∧ mN (fin2 y e r f) = mN y.1 + (if lk4 y.1 (cms y.1 e r f y.2) = none then 1 else 0) := by
  have he := hk.1
  have h8 := hk.2.1
  have hcm : cms y.1 e r f y.2 = cms s e r f y.2 := by
    obtain ⟨a2, a3, a4, a5, a6, a8⟩ := ho.2.1 e he
    unfold cms
    by_cases r0 : r = 0
    · rw [if_pos r0, if_pos r0, a3, a4, a5]
    · obtain ⟨b2, b3, b4, b5, b6, b8⟩ := ho.2.1 f (hk.2.2.2.2 (by omega)).1
      rw [if_neg r0, if_neg r0, b2, b3, b4, b5]
  obtain ⟨c1, c2⟩ := cms_col hs l hk h4 ho hs1 hg
  have e6 : y.1 6 e = s 6 e := (ho.2.1 e he).2.2.2.2.1
  have B6 := sx_6 hs he
  have g6 : s 6 e < mG y.1 := by have := ho.1.2; omega
  have cE : y.1 9 (R y.1 (s 6 e)) = col4 y.1 (cms s e r f y.2) := by
    rw [c1, (ho.2.2.1 _ B6).1, (ho.2.2.1 _ B6).2]
  unfold fin2
  rw [hcm, e6]
  cases q : lk4 y.1 (cms s e r f y.2) with
  | none =>
    obtain ⟨k1, k2, k3⟩ := nwa_ok (g := R y.1 (s 6 e)) hs1 l1 n1 hN c2 q (sh_lt hs1 g6) (by rw [sh_RR hs1 g6]; exact cE)
    refine ⟨k1, k2, k3, fun k hk' => ?_, ?_⟩
    · show nwa y.1 _ _ _ _ _ k = y.1 k
      unfold nwa adx
      rw [st_n (by omega), st_n (by omega), st_n (by omega), st_n (by omega), st_n (by omega), st_n (by omega), st_n (by omega)]
    · rw [if_pos rfl]
      show up (y.1 0) 0 (mN y.1 + 1) 0 = mN y.1 + 1
      exact up_s
  | some j =>
    have hj := lik_lt q
    have cJ := lik_col q l1
    obtain ⟨k1, k2, k3, k4⟩ := mrg_ok hs1 l1 (sx_6 hs1 hj) g6 (cJ.trans cE.symm)
    refine ⟨k1, k2, k3, fun k hk' => k4 k (by omega) (by omega), ?_⟩
    rw [if_neg (fun z => (nomatch z))]
    show mrg y.1 (y.1 6 j) (s 6 e) 0 0 = mN y.1 + 0
    rw [k4 0 (by decide) (by decide)]
    rfl
theorem once_col {e f : Nat} (l : Lo s) (hk : NK s e 4 f) : s 9 (R s (s 6 e)) = s 9 (R s (s 6 f)) := by
  obtain ⟨he, h8, hr, k0, hk2⟩ := hk
  obtain ⟨hf, f8, hR, hk1, hfit⟩ := hk2 (by decide)
  have q := (fit_k (by decide) hr hfit).2.2.2.1 rfl
  have p : s 3 e = s 3 f := by
    unfold fit at hfit
    simp at hfit
    exact hfit.2.2
  rw [(l.2.2.1 e he h8).1]
  have cf := (l.2.2.1 f hf f8).1
  unfold xc at cf ⊢
  rw [if_neg hk1]
  rcases q.2 with k | k
  · rw [if_neg (show ¬ s 2 e = 4 by omega), if_neg (show ¬ s 2 e = 5 by omega), hR]
  · rw [if_pos k]
    rw [if_neg (show ¬ s 2 f = 1 by omega), if_pos (show s 2 f = 4 by omega)] at cf
    rw [cf, p]
theorem fir_ok {e r f : Nat} (hs : Sh s) (l : Lo s) (n : No s) (hN : mN s ≤ 64) (hk : NK s e r f) :
    Sh (fir s e r f) ∧ Lo (fir s e r f) ∧ No (fir s e r f) ∧ (∀ k, 10 ≤ k → fir s e r f k = s0f s e r f k) ∧ mN (fir s e r f) ≤ mN s + 2 := by
  unfold fir
  by_cases r4 : r = 4
  · subst r4
    rw [if_pos rfl]
    have hf := (hk.2.2.2.2 (by decide)).1
    obtain ⟨k1, k2, k3, k4⟩ := mrg_ok (s := s0f s e 4 f) hs l (sx_6 hs hk.1) (sx_6 hs hf) (once_col l hk)
    refine ⟨k1, k2, k3, fun k h => k4 k (by omega) (by omega), ?_⟩
    show mrg (s0f s e 4 f) (s 6 e) (s 6 f) 0 0 ≤ _
    rw [k4 0 (by decide) (by decide)]
    show s 0 0 ≤ s 0 0 + 2
    omega
  · rw [if_neg r4]
    by_cases r0 : r = 0
    · rw [if_pos r0]
      obtain ⟨k1, k2, k3, k4, k5⟩ := fin2_ok (s := s0f s e r f) (y := (s0f s e r f, 0)) (s0_sh hs) (s0_lo l) (s0_nk hk) r4 Old.refl (s0_sh hs) (s0_lo l) (s0_no n) (show mN s < 144 by omega) (fun z => by omega)
      refine ⟨k1, k2, k3, k4, ?_⟩
      rw [k5]
      show mN s + _ ≤ mN s + 2
      split <;> omega
    · rw [if_neg r0]
      obtain ⟨t1, t2, t3, t4, t5, t6, t7, t8⟩ := tel_ok (s := s0f s e r f) (x := brk (s0f s e r f) e r f) (s0_sh hs) (s0_lo l) (s0_no n) (show mN s < 144 by omega) (brk_okx (s0_sh hs) (s0_lo l) (s0_nk hk) (by omega) r4)
      have hm : mN (tel (s0f s e r f) (brk (s0f s e r f) e r f)).1 ≤ mN s + 1 := by
        rw [t8]
        show mN s + _ ≤ mN s + 1
        split <;> omega
      obtain ⟨k1, k2, k3, k4, k5⟩ := fin2_ok (s := s0f s e r f) (s0_sh hs) (s0_lo l) (s0_nk hk) r4 t7 t1 t2 t3 (by omega) (fun _ => ⟨t4, t5, t6⟩)
      refine ⟨k1, k2, k3, fun k h => (k4 k h).trans (t7.2.2.2 k h), ?_⟩
      rw [k5]
      split <;> omega
abbrev GG : List Nat := [2500, 2501, 2502, 2510, 2511, 2512, 2515, 2516, 2517, 2518, 2519, 2520, 22521, 22522, 2523, 2503, 2575]
theorem nk_old {s1 : mS} {e r f : Nat} (hs : Sh s) (hk : NK s e r f) (ho : Old s s1) : NK s1 e r f := by
  obtain ⟨he, h8, hr, k0, hk2⟩ := hk
  obtain ⟨⟨n1, n2⟩, o2, o3, o4⟩ := ho
  obtain ⟨a2, a3, a4, a5, a6, a8⟩ := o2 e he
  refine ⟨by omega, by rw [a8]; exact h8, hr, fun z => by rw [a2]; exact k0 z, fun z => ?_⟩
  obtain ⟨hf, f8, hR, hk1, hfit⟩ := hk2 z
  obtain ⟨b2, b3, b4, b5, b6, b8⟩ := o2 f hf
  refine ⟨by omega, by rw [b8]; exact f8, ?_, by rw [a2]; exact hk1, ?_⟩
  · rw [b6, a4, (o3 _ (sx_6 hs hf)).1, (o3 _ (sx_4 hs he hk1)).1]; exact hR
  · have hkk := fit_k z hr hfit
    rw [← hfit]
    have O : ∀ y, y < mG s → s1 9 (R s1 y) = s 9 (R s y) := fun y hy => by rw [(o3 y hy).1]; exact (o3 y hy).2
    unfold fit
    rw [a2, a3, b2, b3, b4, b5]
    have hr' : r = 1 ∨ r = 2 ∨ r = 3 ∨ r = 4 ∨ r = 5 ∨ r = 6 := by omega
    rcases hr' with rfl | rfl | rfl | rfl | rfl | rfl
    · rw [if_pos rfl, if_pos rfl, O _ (sx_5 hs hf (by have := hkk.1 rfl; omega))]
    · show (decide (s 2 e = 3) && (decide (5 ≤ s 2 f) && (s1 9 (R s1 (s 4 f))).testBit (s 3 e / 2))) = (decide (s 2 e = 3) && (decide (5 ≤ s 2 f) && (s 9 (R s (s 4 f))).testBit (s 3 e / 2)))
      rw [O _ (sx_4 hs hf (by have := hkk.2.1 rfl; omega))]
    · rfl
    · rfl
    · rfl
    · rfl
theorem t_134 {Q : wS → Prop} {y : mS × Nat} {e r f : Nat} (hT : TM σ t y.1) (hs : Sh s) (l : Lo s) (hk : NK s e r f) (h4 : r ≠ 4) (ho : Old s y.1) (hs1 : Sh y.1) (l1 : Lo y.1) (n1 : No y.1) (hN : mN y.1 < 144)
    (hg : 1 ≤ r → y.2 < mG y.1 ∧ R y.1 y.2 = y.2 ∧ y.1 9 y.2 = col4 s (brk s e r f)) (hn : NX σ t e r f) (hF : 200 ≤ F)
    (hQ : ∀ τ, Tw GG t σ τ → TM τ t (fin2 y e r f) → aI τ 22522 t = aI σ 22522 t → aI τ 2523 t = aI σ 2523 t → oI τ 2503 t = oI σ 2503 t → Q τ) : b_X24_fires_134 F t Q σ (nI e) (nI y.2) := by
  have hk1 : NK y.1 e r f := nk_old hs hk ho
  have he1 := hk1.1
  have hx : k4ok y.1 (cms y.1 e r f y.2) := cms_ok hs1 hk1 h4 (fun z => (hg z).1)
  have ve : vp_in (nI e) 144 := vp_in_nI (by omega) (by decide)
  have ce : (nI e).toNatClampNeg = e := nI_clamp (lt31 (by omega))
  have B6 := sx_6 hs1 he1
  have e6 : y.1 6 e = s 6 e := (ho.2.1 e hk.1).2.2.2.2.1
  refine ⟨hT.1.1, t_comes hT hs1 hn hk1 h4 (fun τ w W => ⟨v4_0, v4_1, v4_2, v4_3, ?_⟩)⟩
  have T1 : TM τ t y.1 := hT.tw w (by decide)
  refine t_alike4 T1 hs1 W hx hF ?_
  have keep : ∀ υ (G : List Nat), Tw G t τ υ → (∀ g ∈ G, g ∈ GM ∨ g ∈ GU) → Tw GG t σ υ ∧ aI υ 22522 t = aI σ 22522 t ∧ aI υ 2523 t = aI σ 2523 t ∧ oI υ 2503 t = oI σ 2503 t := by
    intro υ G w2 hG
    have n1' : ∀ g, (g = 22522 ∨ g = 2523 ∨ g = 2503) → g ∉ G := by
      intro g hg hm
      rcases hG g hm with q | q
      · rcases hg with rfl | rfl | rfl <;> exact absurd q (by decide)
      · rcases hg with rfl | rfl | rfl <;> exact absurd q (by decide)
    refine ⟨(w.mono (by decide)).trans (w2.mono (fun g hm => ?_)), ?_, ?_, ?_⟩
    · rcases hG g hm with q | q
      · exact (by decide : ∀ g ∈ GM, g ∈ GG) g q
      · exact (by decide : ∀ g ∈ GU, g ∈ GG) g q
    · rw [w2.A (n1' _ (by omega)), w.A (by decide)]
    · rw [w2.A (n1' _ (by omega)), w.A (by decide)]
    · rw [w2.I (n1' _ (by omega)), w.I (by decide)]
  have hf2 : fin2 y e r f = (match lk4 y.1 (cms y.1 e r f y.2) with
    | none => nwa y.1 (cms y.1 e r f y.2).1 (cms y.1 e r f y.2).2.1 (cms y.1 e r f y.2).2.2.1 (cms y.1 e r f y.2).2.2.2 (R y.1 (y.1 6 e))
    | some j => mrg y.1 (y.1 6 j) (y.1 6 e)) := rfl
  cases q : lk4 y.1 (cms y.1 e r f y.2) with
  | none =>
    rw [q] at hf2
    rw [if_pos (show oN none = (-1 : Int32) from rfl)]
    refine ⟨ve, ?_⟩
    rw [ce, (T1.2.1 e he1).2.2.2.2.1]
    refine t_root T1 hs1 B6 (by omega) ?_
    obtain ⟨w1, w2, w3, w4⟩ := W
    rw [show (0 : Int32).toNatClampNeg = 0 by decide, show (1 : Int32).toNatClampNeg = 1 by decide, show (2 : Int32).toNatClampNeg = 2 by decide, show (3 : Int32).toNatClampNeg = 3 by decide, w1, w2]
    refine t_adds T1 hs1 hN hx.1.2 (by have := hx.2.1; omega) (fun _ => ⟨hx.2.2.1, w3⟩) (fun z => ⟨hx.2.2.2 z, w4⟩) hF (Or.inr ⟨rfl, sh_lt hs1 B6, fun υ w5 T5 => ?_⟩)
    obtain ⟨k1, k2, k3, k4⟩ := keep υ GM w5 (fun g h => Or.inl h)
    refine hQ υ k1 ?_ k2 k3 k4
    rw [hf2]
    exact T5
  | some j =>
    rw [q] at hf2
    have hj := lk4_lt q
    have hb := hs1.1
    rw [show oN (some j) = nI j from rfl, if_neg (nI_m1 (lt31 (by omega)))]
    refine ⟨vp_in_nI (by omega) (by decide), ve, ?_⟩
    rw [ce, nI_clamp (n := j) (lt31 (by omega)), (T1.2.1 e he1).2.2.2.2.1, (T1.2.1 j hj).2.2.2.2.1]
    have cc : y.1 9 (R y.1 (y.1 6 j)) = y.1 9 (R y.1 (y.1 6 e)) := by
      have c1 := lik_col q l1
      have hcm : cms y.1 e r f y.2 = cms s e r f y.2 := by
        obtain ⟨a2, a3, a4, a5, a6, a8⟩ := ho.2.1 e hk.1
        unfold cms
        by_cases r0 : r = 0
        · rw [if_pos r0, if_pos r0, a3, a4, a5]
        · obtain ⟨b2, b3, b4, b5, b6, b8⟩ := ho.2.1 f (hk.2.2.2.2 (by omega)).1
          rw [if_neg r0, if_neg r0, b2, b3, b4, b5]
      have c2 := (cms_col hs l hk h4 ho hs1 hg).1
      rw [hcm] at c1
      rw [c1, e6, (ho.2.2.1 _ (sx_6 hs hk.1)).1, (ho.2.2.1 _ (sx_6 hs hk.1)).2]
      exact c2
    refine t_merges T1 hs1 l1 (sx_6 hs1 hj) B6 cc hF (fun υ w5 T5 => ?_)
    obtain ⟨k1, k2, k3, k4⟩ := keep υ GU w5 (fun g h => Or.inr h)
    refine hQ υ k1 ?_ k2 k3 k4
    rw [hf2]
    exact T5
theorem t_fires {Q : wS → Prop} {e r f : Nat} (hT : TM σ t s) (hf : TF σ t s) (hs : Sh s) (l : Lo s) (n : No s) (hN : mN s ≤ 64) (hn : NX σ t e r f) (hk : NK s e r f) (hF : 200 ≤ F) (hQ : ∀ τ, Tw GG t σ τ → TM τ t (fir s e r f) → TF τ t (fir s e r f) → Q τ) : w_X24_fires F σ t Q := by
  have he := hk.1
  have hr := hk.2.2.1
  have b1 := hs.1
  obtain ⟨n1, n2, n3⟩ := hn
  have hf64 : f ≤ 64 := by
    by_cases r0 : r = 0
    · have := (hk.2.2.2.1 r0).2; omega
    · have := (hk.2.2.2.2 (by omega)).1; omega
  have hwi : wi e r f < 29120 := by unfold wi; omega
  have ex : ((((nI e) * (7 : Int32)) + (nI r)) * (65 : Int32)) + (if oI σ 2567 t = (-1 : Int32) then (64 : Int32) else oI σ 2567 t) = nI (wi e r f) := by
    have : (if oI σ 2567 t = (-1 : Int32) then (64 : Int32) else oI σ 2567 t) = nI f := by
      rw [n3]
      by_cases r0 : r = 0
      · rw [if_pos r0, if_pos rfl, (hk.2.2.2.1 r0).2]; rfl
      · rw [if_neg r0, if_neg (nI_m1 (lt31 (by omega)))]
    rw [this, show (7 : Int32) = nI 7 from rfl, show (65 : Int32) = nI 65 from rfl, pk_mul, nI_add, pk_mul, nI_add]; rfl
  unfold w_X24_fires
  rw [n1, n2, ex, nI_clamp (n := wi e r f) (lt31 (by omega)), nar_b1]
  refine ⟨hT.1.1, vp_in_nI hwi (by decide), bnd_sA fun σ1 w1 v1 o1 _ => ?_⟩
  rw [show oI σ1 2566 t = nI r by rw [o1, n2], nI_clamp (n := r) (lt31 (by omega))]
  refine ⟨vp_in_nI (by omega) (by decide), bnd_sA fun σ2 w2 v2 o2 _ => bnd_sI fun σ3 w3 v3 a3 _ => ?_⟩
  have W3 : Tw GG t σ σ3 := ((Tw.refl.up w1 (by decide)).up w2 (by decide)).up w3 (by decide)
  have T3 : TM σ3 t s := ((hT.tw w1 (by decide)).tw w2 (by decide)).tw w3 (by decide)
  have N3 : NX σ3 t e r f := (((show NX σ t e r f from ⟨n1, n2, n3⟩).tw w1 (by decide)).tw w2 (by decide)).tw w3 (by decide)
  have F3 : TF σ3 t (s0f s e r f) := by
    refine ⟨fun i hi => ?_, fun i hi => ?_, ?_⟩
    · show aI σ3 22522 t i = nI (up (s 16) (wi e r f) 1 i)
      rw [a3, w2.A (by decide), v1]
      by_cases q : i = wi e r f
      · rw [q, upd_s, up_s]; rfl
      · rw [upd_n q, up_n q]; exact hf.1 i hi
    · show aI σ3 2523 t i = nI (up (s 17) r (s 17 r + 1) i)
      rw [a3, v2, w1.A (by decide)]
      by_cases q : i = r
      · rw [q, upd_s, up_s, hf.2.1 r hr, ← nI_succ]
      · rw [upd_n q, up_n q]; exact hf.2.1 i hi
    · show oI σ3 2503 t = nI (up (s 18) 0 (s 18 0 + 1) 0)
      rw [v3, up_s, o2, o1, hf.2.2, ← nI_succ]
  have done : ∀ τ s', Tw GG t σ3 τ → TM τ t s' → aI τ 22522 t = aI σ3 22522 t → aI τ 2523 t = aI σ3 2523 t → oI τ 2503 t = oI σ3 2503 t → s' = fir s e r f → Q τ := by
    intro τ s' w m h1 h2 h3 h4
    subst h4
    refine hQ τ (W3.trans w) m ?_
    obtain ⟨-, -, -, kk, -⟩ := fir_ok hs l n hN hk
    refine ⟨fun i hi => ?_, fun i hi => ?_, ?_⟩
    · rw [h1, kk 16 (by decide)]; exact F3.1 i hi
    · rw [h2, kk 17 (by decide)]; exact F3.2.1 i hi
    · rw [h3, kk 18 (by decide)]; exact F3.2.2
  rw [N3.2.1]
  unfold fir at done
  by_cases r4 : r = 4
  · subst r4
    rw [if_pos (show nI 4 = (4 : Int32) from rfl)]
    rw [if_pos rfl] at done
    have hfl := (hk.2.2.2.2 (by decide)).1
    rw [N3.2.2, if_neg (by decide)]
    refine ⟨vp_in_nI (by omega) (by decide), vp_in_nI (by omega) (by decide), ?_⟩
    rw [nI_clamp (n := e) (lt31 (by omega)), nI_clamp (n := f) (lt31 (by omega)), (T3.2.1 e he).2.2.2.2.1, (T3.2.1 f hfl).2.2.2.2.1]
    exact t_merges (s := s0f s e 4 f) T3 hs l (sx_6 hs he) (sx_6 hs hfl) (once_col l hk) hF (fun τ w m => done τ _ (w.mono (by decide)) m (w.A (by decide)) (w.A (by decide)) (w.I (by decide)) rfl)
  · rw [if_neg (show ¬ nI r = (4 : Int32) from nI_eqf (by omega) (by decide) r4)]
    rw [if_neg r4] at done
    by_cases r0 : r = 0
    · rw [if_pos (by rw [r0]; decide)]
      rw [if_pos r0] at done
      exact t_134 (y := (s0f s e r f, 0)) (s := s0f s e r f) T3 hs l hk r4 Old.refl hs l n (show mN s < 144 by omega) (fun z => by omega) N3 hF (fun τ w m h1 h2 h3 => done τ _ w m h1 h2 h3 rfl)
    · rw [if_neg (nI_nle (by omega) (lt31 (by omega)))]
      rw [if_neg r0] at done
      refine t_bracket (s := s0f s e r f) T3 hs N3 hk (by omega) r4 (fun τ w W => ⟨v4_0, v4_1, v4_2, v4_3, ?_⟩)
      have hx : k4ok (s0f s e r f) (brk (s0f s e r f) e r f) := brk_ok (s := s0f s e r f) hs hk (by omega) r4
      have T4 : TM τ t (s0f s e r f) := TM.tw (s := s0f s e r f) T3 w (by decide)
      obtain ⟨w1', w2', w3', w4'⟩ := W
      rw [show (0 : Int32).toNatClampNeg = 0 by decide, show (1 : Int32).toNatClampNeg = 1 by decide, show (2 : Int32).toNatClampNeg = 2 by decide, show (3 : Int32).toNatClampNeg = 3 by decide, w1', w2']
      obtain ⟨t1, t2, t3, t4, t5, t6, t7, t8⟩ := tel_ok (s := s0f s e r f) (x := brk (s0f s e r f) e r f) hs l n (show mN s < 144 by omega) (brk_okx (s := s0f s e r f) hs l hk (by omega) r4)
      have hm : mN (tel (s0f s e r f) (brk (s0f s e r f) e r f)).1 ≤ mN s + 1 := by
        rw [t8]
        show mN s + _ ≤ mN s + 1
        split <;> omega
      have go : ∀ υ, Tw GM t τ υ → TM υ t (tel (s0f s e r f) (brk (s0f s e r f) e r f)).1 → b_X24_fires_134 F t Q υ (nI e) (nI (tel (s0f s e r f) (brk (s0f s e r f) e r f)).2) := by
        intro υ w5 T5
        have W5 : Tw GG t σ3 υ := (w.mono (by decide)).trans (w5.mono (by decide))
        refine t_134 (s := s0f s e r f) T5 hs l hk r4 t7 t1 t2 t3 (by omega) (fun _ => ⟨t4, t5, t6⟩) ((N3.tw w (by decide)).tw w5 (by decide)) hF (fun τ' w' m h1 h2 h3 => done τ' _ (W5.trans w') m ?_ ?_ ?_ rfl)
        · rw [h1, w5.A (by decide), w.A (by decide)]
        · rw [h2, w5.A (by decide), w.A (by decide)]
        · rw [h3, w5.I (by decide), w.I (by decide)]
      have e1 : tel (s0f s e r f) (brk (s0f s e r f) e r f) = (match lk4 (s0f s e r f) (brk (s0f s e r f) e r f) with
        | some i => (s0f s e r f, R (s0f s e r f) (s0f s e r f 6 i))
        | none => (nwx (s0f s e r f) (brk (s0f s e r f) e r f).1 (brk (s0f s e r f) e r f).2.1 (brk (s0f s e r f) e r f).2.2.1 (brk (s0f s e r f) e r f).2.2.2, mG (s0f s e r f))) := rfl
      refine t_told (s := s0f s e r f) T4 hs (show mN s < 144 by omega) hx.1.2 (by have := hx.2.1; omega) (fun _ => ⟨hx.2.2.1, w3'⟩) (fun z => ⟨hx.2.2.2 z, w4'⟩) hF (fun i hi => ?_) (fun hi υ w5 T5 => ?_)
      · have hi' : lk4 (s0f s e r f) (brk (s0f s e r f) e r f) = some i := hi
        rw [hi'] at e1
        rw [e1] at go
        exact go τ Tw.refl T4
      · have hi' : lk4 (s0f s e r f) (brk (s0f s e r f) e r f) = none := hi
        rw [hi'] at e1
        rw [e1] at go
        exact go υ w5 T5
end PT
