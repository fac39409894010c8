set_option linter.unusedVariables false
set_option maxRecDepth 10000
/-! ===== component: reading, the inner ones ===== -/
section PC
variable {σ τ υ σ0 : wS} {x m F t ro k n i : Nat} {s : mS} {S : gS} {K K' : Nat → Nat} {P P' : Nat → Nat → Prop} {a b c d : Nat} {f : Nat → Int64}
theorem SD.str {D : Nat → Prop} {s0 : mS} {L : Nat → Int32} : ∀ R i o, SD D σ s0 L n R i o → SD (fun o => D o ∧ oC σ o ≠ 0) σ s0 L n R i o := by
  intro R
  induction R with
  | zero => intro i o h; exact h
  | succ R ih =>
    intro i o h
    have h43 := h.oS
    obtain ⟨h0, h⟩ := h
    refine ⟨⟨h0, by unfold oS41 at h43; omega⟩, ?_⟩
    by_cases k1 : kdl (ltr L n i) = 1
    · rw [if_pos k1] at h ⊢
      exact h
    · rw [if_neg k1] at h ⊢
      by_cases k5 : kdl (ltr L n i) < 5
      · rw [if_pos k5] at h ⊢
        obtain ⟨h1, h2, h3, o1, h4, h5⟩ := h
        exact ⟨h1, h2, h3, o1, h4, ih _ _ h5⟩
      · rw [if_neg k5] at h ⊢
        obtain ⟨h1, h2, h3, o1, o2, h4, h5, h6, h7⟩ := h
        exact ⟨h1, h2, h3, o1, o2, h4, h5, ih _ _ h6, ih _ _ h7⟩
theorem Rd.wq {G : List Nat} {q : Nat} (h : Rd σ t ro m k n f s i) (w : Wq G q σ τ) (hq : q ≠ t) (d : ∀ g ∈ G, g ∈ GSd) : Rd τ t ro m k n f s i := by
  obtain ⟨⟨h1, h2, h3, h4⟩, ⟨h5, h6, h7⟩, h8⟩ := h
  have fr : Fr (fun g o => o = q ∧ g ∈ GSd) 0 0 σ τ := w.fr (fun g hg => ⟨rfl, d g hg⟩)
  have no : ∀ g, g ∉ GSd → ∀ o, ¬ (o = q ∧ g ∈ GSd) := fun g hg o z => hg z.2
  have T := fun g => w.2 g t (fun e => absurd e.symm hq)
  refine ⟨⟨by show oC τ t = 40; rw [w.1.1]; exact h1, by rw [(T _).1.2.2.1]; exact h2, by rw [(T _).1.2.2.1]; exact h3, by rw [(T _).1.1]; exact h4⟩, ⟨h5.fr h6 fr (fun g hg => no g (by revert g; decide) _), h6, h7⟩, h8.fr fr (fun g hg => no g (by revert g; decide) _) (fun g hg => no g (by revert g; decide))⟩
theorem oC0 {q : Nat} (e : Ext σ τ) (h : oC τ q = 0) : oC σ q = 0 := by
  rcases Nat.eq_zero_or_pos (oC σ q) with z | z
  · exact z
  · have := e.1 q (Nat.pos_iff_ne_zero.mp z)
    omega
theorem c_sd41 {Q : wS → Prop} {q : Nat} {v w : Int32} (h : oS41 σ q) (hQ : ∀ τ, Wq [4200, 4201] q σ τ → oI τ 4200 q = v → oI τ 4201 q = w → Q τ) : w_X41_init σ q v w Q := by
  refine ⟨h, bnd_I fun τ1 w1 v1 => bnd_I fun τ2 w2 v2 => hQ τ2 ((w1.mono (by decide)).up w2 (by decide)) ?_ v2⟩
  rw [((w2.sam (by decide)) q).1.1]; exact v1
theorem c_single {R kd p i0 : Nat} {Q : Option Nat → wS → Prop} {Xh : Nat → Nat → wS → Prop} {res : Nat ⊕ (Nat × Nat)} (rc : RdX F t ro m k n f s R) (hb : ∀ p, p < s 10 0 → s 12 p < 16) (h8 : s 10 0 ≤ 8) (hk : kd = 3 ∨ kd = 4) (hp : p < 8) (h : Rd σ t ro m k n f s i) (hi : i ≤ n) (hR : 210 ≤ i + 1 + 7 * R) (hr : n - i + 3 ≤ rC σ ∧ 5 * (n - i) + 20 ≤ rS σ)
    (hres : (match mst (Lf f) n [40] i with
      | Sum.inl z => Sum.inl z
      | Sum.inr j1 => match psr s (Lf f) n R j1 with
        | Sum.inl z => Sum.inl z
        | Sum.inr y => match mst (Lf f) n [41] y.1 with
          | Sum.inl z => Sum.inl z
          | Sum.inr j3 => if y.2.testBit (kcl kd p) = true then Sum.inr (j3, if kd = 4 then 2 ^ p else y.2) else Sum.inl i0) = res)
    (ok : ∀ j c, res = Sum.inr (j, c) → ∀ τ o, Fr (P4 t) (j - i) (5 * (j - i)) σ τ → Rd τ t ro m k n f s j → oC σ o = 0 → (oC τ o = 44 ∧ oI τ 4402 o = nI kd ∧ oI τ 4200 o = nI p ∧ ∃ o1, oR τ 4403 o = some o1 ∧ SD (fun o => oC σ o = 0) τ s (Lf f) n R (i + 1) o1) → oI τ 4201 o = nI c → Q (some o) τ)
    (hX : ∀ z, res = Sum.inl z → XF Xh t (n - i + 3) (5 * (n - i) + 20) σ z) : w_X39_single F (w_X39_expression F R) σ t (nI kd) (nI p) (nI i0) Q Xh := by
  have n160 := h.2.1.2.2
  unfold w_X39_single
  refine ⟨h.1.1, c_must h hi (by omega) (fun hin h40 τ1 f1 hd1 => ?_) (fun z q τ f' => ?_)⟩
  rotate_left
  · rw [mst1, if_neg z] at hres
    exact hX i hres.symm q τ (f'.mono (fun _ _ z => z) (by omega) (by omega))
  rw [mst1, if_pos ⟨hin, h40⟩] at hres
  dsimp only at hres
  obtain ⟨x1, y1⟩ := f1.2.2.1
  refine c_nwo (by omega) (fun τ2 f2 no _ => ?_)
  have f2' : Fr (P4 t) 1 4 τ1 τ2 := f2.mono (fun _ _ z => z.elim) (Nat.le_refl _) (Nat.le_refl _)
  have hd2 := hd1.mv f2' (by rw [f2.I (c := 39) hd1.1.1 (fun z => z)]; exact hd1.1.2.2.2)
  have F2 := f1.trans f2'
  obtain ⟨x2, y2⟩ := F2.2.2.1
  have hq0 : oC σ (nx τ1) = 0 := oC0 f1.1 no.2.1
  have qt : nx τ1 ≠ t := fun z => by have := no.2.1; rw [z, show oC τ1 t = 40 from hd1.1.1] at this; cases this
  refine rc (i + 1) τ2 _ _ hd2 (by omega) (by omega) (by omega) (fun j c he τ3 o1 f3 hd3 sd3 c3 => ?_) (fun z he q τ f' => ?_)
  rotate_left
  · rw [he] at hres
    exact hX z hres.symm q τ ((F2.trans f').mono (fun _ _ z => z) (by omega) (by omega))
  rw [he] at hres
  dsimp only at hres
  obtain ⟨c16, j6, jn⟩ := psr_b hb h8 n160 R (i + 1) j c (by omega) he
  have F3 := F2.trans f3
  obtain ⟨x3, y3⟩ := F3.2.2.1
  have q44 : oC τ3 (nx τ1) = 44 := f3.C (c := 43) no.1
  have o1q : o1 ≠ nx τ1 := fun z => by have := sd3.D; rw [z, no.1] at this; cases this
  have s41 : oS41 τ3 (nx τ1) := Or.inr (Or.inl q44)
  have b17 : ∀ v, v = nI (if kd = 4 then 2 ^ p else c) → b_X43_init_17 (nx τ1) (nI kd) (some o1) (fun σ16 => w_X39_must σ16 t (41 : Int32) (fun σ19 => w_X43_mayBe σ19 (nx τ1) (fun r21 σ22 => w_X39_holds σ22 t r21 (nI i0) (fun σ25 => Q (some (nx τ1)) σ25) Xh)) Xh) τ3 (some (nx τ1)) (nI p) v := fun v hv => by
    refine ⟨nx τ1, rfl, c_sd41 s41 (fun τ4 w4 v4 u4 => ⟨by rw [w4.1.1]; exact q44, bnd_I fun τ5 w5 v5 => bnd_R fun τ6 w6 v6 => ?_⟩)⟩
    have W6 : Wq [4200, 4201, 4402, 4403] (nx τ1) τ3 τ6 := ((w4.mono (by decide)).up w5 (by decide)).up w6 (by decide)
    have hd6 := hd3.wq W6 qt (by decide)
    have e42 : oI τ6 4200 (nx τ1) = nI p := by rw [((w6.sam (by decide)) _).1.1, ((w5.sam (by decide)) _).1.1]; exact v4
    have e41 : oI τ6 4201 (nx τ1) = v := by rw [((w6.sam (by decide)) _).1.1, ((w5.sam (by decide)) _).1.1]; exact u4
    have e44 : oI τ6 4402 (nx τ1) = nI kd := by rw [((w6.sam (by decide)) _).1.1]; exact v5
    have Wf : Fr (fun _ o => o = nx τ1) 0 0 τ3 τ6 := W6.fr (fun _ _ => rfl)
    have sd6 := sd3.fr (fun o h => h) Wf (fun g hg o ho z => by rw [z, no.1] at ho; cases ho) _ _ _
    have c6 : oI τ6 4201 o1 = nI c := by rw [(W6.2 _ _ (fun e => absurd e o1q)).1.1]; exact c3
    have F6 : Fr (P4 t) (0 + 1 + (j - (i + 1))) (0 + 4 + 5 * (j - (i + 1))) σ τ6 := F3.w W6 (Or.inl hq0)
    obtain ⟨x6, y6⟩ := F6.2.2.1
    refine c_must hd6 jn (by omega) (fun hjn h41 τ7 f7 hd7 => ?_) (fun z q τ f' => ?_)
    rotate_left
    · rw [mst1, if_neg z] at hres
      exact hX j hres.symm q τ ((F6.trans f').mono (fun _ _ z => z) (by omega) (by omega))
    rw [mst1, if_pos ⟨hjn, h41⟩] at hres
    dsimp only at hres
    have nq : ∀ g, ¬ P4 t g (nx τ1) := fun g z => qt z.1
    have q7 : oC τ7 (nx τ1) = 43 + 1 := by rw [f7.1.1 _ (by rw [W6.1.1, q44]; decide), W6.1.1]; exact q44
    have q6 : oC τ6 (nx τ1) = 43 + 1 := by rw [W6.1.1]; exact q44
    have sd7 := sd6.fr (fun o h => h) f7 (fun g hg o ho z => absurd z.2 ((by decide : ∀ g ∈ GSd, g ≠ 4002) g hg)) _ _ _
    have o1c : ∃ c', oC τ6 o1 = c' + 1 := by
      have := sd6.oS
      unfold oS41 at this
      exact ⟨oC τ6 o1 - 1, by omega⟩
    obtain ⟨c', hc'⟩ := o1c
    have c7 : oI τ7 4201 o1 = nI c := by rw [f7.I hc' (fun z => absurd z.2 (by decide))]; exact c6
    have r7 : oR τ7 4403 (nx τ1) = some o1 := by rw [f7.R q6 (nq _)]; exact v6
    have k7 : oI τ7 4402 (nx τ1) = nI kd := by rw [f7.I q6 (nq _)]; exact e44
    have p7 : oI τ7 4200 (nx τ1) = nI p := by rw [f7.I q6 (nq _)]; exact e42
    have u7 : oI τ7 4201 (nx τ1) = v := by rw [f7.I q6 (nq _)]; exact e41
    refine ⟨q7, o1, r7, sd7.oS, ?_⟩
    rw [c7, k7, p7]
    have ek : (if nI kd = (4 : Int32) then nI p else nI p / (2 : Int32)) = nI (kcl kd p) := by
      unfold kcl
      rcases hk with rfl | rfl
      · rw [if_neg (by decide), if_pos rfl, div2_d p hp]
      · rw [if_pos (show nI 4 = (4 : Int32) from rfl), if_neg (by decide)]
    rw [ek]
    have hkc : kcl kd p < 32 := by unfold kcl; split <;> omega
    refine c_has (by omega) hkc ⟨?_, ?_⟩
    · by_cases z : c.testBit (kcl kd p) = true
      · rw [if_pos z]; exact Or.inr rfl
      · rw [if_neg z]; exact Or.inl rfl
    have F7 := F6.trans f7
    obtain ⟨x7, y7⟩ := F7.2.2.1
    refine c_hlds hd7 (by omega) (fun y => ?_) (fun y q τ f' => ?_)
    · have z : c.testBit (kcl kd p) = true := by
        by_cases z : c.testBit (kcl kd p) = true
        · exact z
        · rw [if_neg z] at y; exact absurd rfl y
      rw [if_pos z] at hres
      refine ok (j + 1) _ hres.symm τ7 (nx τ1) (F7.mono (fun _ _ z => z) (by omega) (by omega)) hd7 hq0 ⟨q7, k7, p7, o1, r7, ?_⟩ (by rw [u7]; exact hv)
      exact sd7.fr (fun o h => oC0 F2.1 h) (Fr.refl (P := fun _ _ => False)) (fun _ _ _ _ z => z) _ _ _
    · have z : ¬ c.testBit (kcl kd p) = true := fun z => by rw [if_pos z] at y; exact absurd y (by decide)
      rw [if_neg z] at hres
      exact hX i0 hres.symm q τ ((F7.trans f').mono (fun _ _ z => z) (by omega) (by omega))
  unfold w_X43_init
  rcases hk with rfl | rfl
  · rw [if_neg (show ¬ nI 3 = (4 : Int32) by decide)]
    refine ⟨o1, rfl, sd3.oS, ?_⟩
    rw [c3]
    exact b17 _ (by rw [if_neg (by decide)])
  · rw [if_pos (show nI 4 = (4 : Int32) from rfl), shl1 p hp]
    exact b17 _ (by rw [if_pos rfl])
end PC
