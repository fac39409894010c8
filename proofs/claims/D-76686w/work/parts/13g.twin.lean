set_option linter.unusedVariables false
set_option maxRecDepth 10000
section PT
variable {σ τ υ : wS} {t F : Nat} {s : mS}
theorem eI_0 : eI 0 = -1 := rfl
theorem eI_n {o : Nat} (ho : o < 1000) (h : o ≠ 0) : ¬ eI o = (-1 : Int32) := fun z => h ((eI_inj (b := 0) ho (by decide)).mp z)
/-- what stands for the ways of an expression e -/
def Wx (σ : wS) (t : Nat) (s : mS) : Prop := TM σ t s ∧ TL σ t s ∧ TXo σ t s
theorem Wx.tv (h : Wx σ t s) (k : Tv GW t σ τ) : Wx τ t s := ⟨h.1.tw k.1 (by decide), h.2.1.tw k.1 (by decide), h.2.2.tw k.1 (by decide)⟩
theorem Wx.row (h : Wx σ t s) (hs : Sh s) {g : Nat} (hg : g < mG s) : aI σ 2530 t (R s g) = nI (rw' s (R s g)) := (h.2.1 _ (sh_lt hs hg) (sh_RR hs hg)).1
theorem Wx.cl (h : Wx σ t s) (hs : Sh s) {g : Nat} (hg : g < mG s) : aI σ 2531 t (R s g) = nI (s 9 (R s g)) := (h.2.1 _ (sh_lt hs hg) (sh_RR hs hg)).2.1
theorem rw_le (hs : Sh s) (l : Lo s) (hb : Tb s) {g : Nat} (hg : g < mG s) : 1 ≤ rw' s (R s g) ∧ rw' s (R s g) ≤ 1000000 := by
  obtain ⟨e, h1, h2, h3⟩ := l.2.1 g hg
  obtain ⟨f, hf, -⟩ := lsu_of h1 h2 h3
  exact rwu_le hs l hb (mN s) (Nat.le_refl _) _ (by rw [hf]; exact fun z => (nomatch z))
abbrev kW : Type := wS → Int32 → Int32 → Int32 → Int32 → Int32 → Int32 → Int32 → Prop
abbrev kW6 : Type := wS → Int32 → Int32 → Int32 → Int32 → Int32 → Int32 → Prop
def rgt (s : mS) (e : Nat) : Int32 := if 5 ≤ s 2 e then nI (R s (s 5 e)) else -1
/-- a pair of a kind and a place that is offered -/
theorem t_269 {Q : wS → Prop} {K : kW} {K6 : kW6} {L : List Wy} {e o k place i : Nat} {x8 a3 : Int32} (hw : Wx σ t s) (hs : Sh s) (l : Lo s) (hb : Tb s) (hX : Xo s) (hL : WL σ t L) (hn : L.length < 400) (he : e < mN s) (h4 : 4 ≤ s 2 e) (ho : o < 5) (hp : place < 5) (hk : k < 12) (hF : 200 ≤ F)
    (hK : ∀ τ, Tv GW t σ τ → WL τ t (L ++ wyk (s 19 0) k (k, some e, some (dm (R s (s 4 e)) (orO k o (s 3 e)) (place + 1)), (if 5 ≤ s 2 e then some (dm (R s (s 5 e)) (if k = 5 then s 3 e + 1 else 0) (place + 1)) else none), some place, prc k (rw' s (R s (s 4 e))) (if 5 ≤ s 2 e then rw' s (R s (s 5 e)) else 0) (rw' s (R s (s 6 e))))) → K τ (nI (rw' s (R s (s 6 e)))) (nI (s 3 e)) (nI (R s (s 4 e))) (rgt s e) x8 (nI k) (nI i + 1)) :
    b_X24_waysBy_269 F t (nI e) (eI o) a3 Q K K6 σ (nI (rw' s (R s (s 6 e)))) (nI (s 3 e)) (nI (R s (s 4 e))) (rgt s e) x8 (nI k) (nI i) (nI place) := by
  have b1 := hs.1
  have b2 := hs.2.1
  have B6 := sx_6 hs he
  have B4 := sx_4 hs he (by omega)
  have gx := sh_lt hs B4
  have r6 := rw_le hs l hb B6
  have r4 := rw_le hs l hb B4
  have b3 := (sh_bnd hs he).2.1
  unfold b_X24_waysBy_269
  have e57 : (if nI k = (5 : Int32) then nI (s 3 e) else if nI k = (9 : Int32) then nI (s 3 e) else if nI k = (6 : Int32) then eI o else (-1 : Int32)) = eI (orO k o (s 3 e)) := by
    unfold orO
    by_cases q5 : k = 5
    · rw [if_pos (by rw [q5]; rfl), if_pos (Or.inl q5)]; rfl
    · rw [if_neg (show ¬ nI k = (5 : Int32) from nI_eqf (by omega) (by decide) q5)]
      by_cases q9 : k = 9
      · rw [if_pos (by rw [q9]; rfl), if_pos (Or.inr q9)]; rfl
      · rw [if_neg (show ¬ nI k = (9 : Int32) from nI_eqf (by omega) (by decide) q9), if_neg (show ¬ (k = 5 ∨ k = 9) by omega)]
        by_cases q6 : k = 6
        · rw [if_pos (by rw [q6]; rfl), if_pos q6]
        · rw [if_neg (show ¬ nI k = (6 : Int32) from nI_eqf (by omega) (by decide) q6), if_neg q6]; rfl
  rw [e57, bnd_eq]
  have vx : vp_in (nI (R s (s 4 e))) 144 := vp_in_nI (by omega) (by decide)
  have cx : (nI (R s (s 4 e))).toNatClampNeg = R s (s 4 e) := nI_clamp (lt31 (by omega))
  unfold rgt at hK ⊢
  by_cases c : 5 ≤ s 2 e
  · rw [if_pos c] at hK ⊢
    simp only [if_pos c] at hK
    have B5 := sx_5 hs he c
    have gy := sh_lt hs B5
    have r5 := rw_le hs l hb B5
    rw [if_neg (nI_m1 (lt31 (by omega)))]
    have e2 : (if nI k = (5 : Int32) then nI (s 3 e) else (-1 : Int32)) = eI (if k = 5 then s 3 e + 1 else 0) := by
      by_cases q5 : k = 5
      · rw [if_pos (by rw [q5]; rfl), if_pos q5]; rfl
      · rw [if_neg (show ¬ nI k = (5 : Int32) from nI_eqf (by omega) (by decide) q5), if_neg q5]; rfl
    rw [e2]
    refine t_demand (p := place + 1) (t_demand (p := place + 1) ⟨hw.1.1.1, vx, vp_in_nI (by omega) (by decide), ?_⟩)
    rw [cx, nI_clamp (n := R s (s 5 e)) (lt31 (by omega)), hw.row hs B4, hw.row hs B5]
    exact t_way (e := some e) (one := some _) (two := some _) (pl := some place) hw.1.1.1 hw.2.2.1 hX.1 hL hn hk (by omega) (by omega) (nI_l (lt31 (by omega))) (nI_l (lt31 (by omega))) (nI_l (lt31 (by omega))) rfl rfl rfl rfl hK
  · rw [if_neg c] at hK ⊢
    simp only [if_neg c] at hK
    rw [if_pos rfl]
    refine t_demand (p := place + 1) ⟨hw.1.1.1, vx, ?_⟩
    rw [cx, hw.row hs B4]
    exact t_way (e := some e) (one := some _) (two := none) (pl := some place) hw.1.1.1 hw.2.2.1 hX.1 hL hn hk (by omega) (by omega) (nI_l (lt31 (by omega))) rfl (nI_l (lt31 (by omega))) rfl rfl rfl rfl hK
/-- one kind and one place -/
theorem t_195 {Q : wS → Prop} {K6 : kW6} {L : List Wy} {e o p k i n : Nat} {x8 : Int32} (hw : Wx σ t s) (hs : Sh s) (l : Lo s) (hb : Tb s) (hX : Xo s) (hL : WL σ t L) (hn : L.length < 400) (he : e < mN s) (h4 : 4 ≤ s 2 e) (ho : o < 5) (hp : p < 6) (hk : k = 4 ∨ k = 5 ∨ k = 6 ∨ k = 8 ∨ k = 9) (hi : i < 2) (hF : 200 ≤ F)
    (hK : ∀ τ, Tv GW t σ τ → WL τ t (L ++ wyX s e o p k (if i = 0 then s 3 e else 4)) → l_X24_waysBy_195 F t (nI e) (eI o) (eI p) Q K6 n τ (nI (rw' s (R s (s 6 e)))) (nI (s 3 e)) (nI (R s (s 4 e))) (rgt s e) x8 (nI k) (nI i + 1)) :
    l_X24_waysBy_195 F t (nI e) (eI o) (eI p) Q K6 (n + 1) σ (nI (rw' s (R s (s 6 e)))) (nI (s 3 e)) (nI (R s (s 4 e))) (rgt s e) x8 (nI k) (nI i) := by
  have b3 := sx_p4 hs he h4
  unfold l_X24_waysBy_195
  rw [if_neg (show ¬ (2 : Int32) ≤ nI i from nI_ge (b := 2) hi (by decide))]
  have ep : (if nI i = 0 then nI (s 3 e) else (4 : Int32)) = nI (if i = 0 then s 3 e else 4) := by
    by_cases q : i = 0
    · rw [if_pos (by rw [q]; rfl), if_pos q]
    · rw [if_neg (fun z => q ((nI_n0 (lt31 (by omega))).mp z)), if_neg q]; rfl
  rw [ep, bnd_eq]
  have hpl : (if i = 0 then s 3 e else 4) < 5 := by split <;> omega
  generalize (if i = 0 then s 3 e else 4) = place at *
  have skip : (mts p (place + 1) && okO k o (s 3 e)) = false → l_X24_waysBy_195 F t (nI e) (eI o) (eI p) Q K6 n σ (nI (rw' s (R s (s 6 e)))) (nI (s 3 e)) (nI (R s (s 4 e))) (rgt s e) x8 (nI k) (nI i + 1) := by
    intro h
    unfold wyX at hK
    rw [h, if_neg (by decide), List.append_nil] at hK
    exact hK σ Tv.refl hL
  refine t_meets (by omega) (by omega) (show nI place = eI (place + 1) from rfl) ?_
  by_cases cm : mts p (place + 1) = true
  · rw [if_pos cm, if_neg (by decide)]
    have go : okO k o (s 3 e) = true → b_X24_waysBy_269 F t (nI e) (eI o) (eI p) Q (l_X24_waysBy_195 F t (nI e) (eI o) (eI p) Q K6 n) K6 σ (nI (rw' s (R s (s 6 e)))) (nI (s 3 e)) (nI (R s (s 4 e))) (rgt s e) x8 (nI k) (nI i) (nI place) := by
      intro h
      unfold wyX at hK
      rw [cm, h, if_pos (by decide)] at hK
      exact t_269 hw hs l hb hX hL hn he h4 ho hpl (by omega) hF hK
    have no : okO k o (s 3 e) = false → l_X24_waysBy_195 F t (nI e) (eI o) (eI p) Q K6 n σ (nI (rw' s (R s (s 6 e)))) (nI (s 3 e)) (nI (R s (s 4 e))) (rgt s e) x8 (nI k) (nI i + 1) := by
      intro h
      exact skip (by rw [h, Bool.and_false])
    -- by kinds
    have k48 : (k = 4 ∨ k = 8) → b_X24_waysBy_239 F t (nI e) (eI o) (eI p) Q (l_X24_waysBy_195 F t (nI e) (eI o) (eI p) Q K6 n) K6 σ (nI (rw' s (R s (s 6 e)))) (nI (s 3 e)) (nI (R s (s 4 e))) (rgt s e) x8 (nI k) (nI i) (nI place) := by
      intro q
      unfold b_X24_waysBy_239 b_X24_waysBy_244
      unfold okO at go no
      rw [if_pos q] at go no
      by_cases c0 : o = 0
      · rw [if_pos (by rw [c0]; rfl)]
        rw [if_neg (show ¬ nI k = (5 : Int32) from nI_eqf (by omega) (by decide) (show k ≠ 5 by omega)), if_neg (show ¬ nI k = (9 : Int32) from nI_eqf (by omega) (by decide) (show k ≠ 9 by omega))]
        exact go (by simp [c0])
      · rw [if_neg (eI_n (by omega) c0)]
        exact no (by simp [c0])
    have k59 : (k = 5 ∨ k = 9) → b_X24_waysBy_257 F t (nI e) (eI o) (eI p) Q (l_X24_waysBy_195 F t (nI e) (eI o) (eI p) Q K6 n) K6 σ (nI (rw' s (R s (s 6 e)))) (nI (s 3 e)) (nI (R s (s 4 e))) (rgt s e) x8 (nI k) (nI i) (nI place) := by
      intro q
      unfold b_X24_waysBy_257
      unfold okO at go no
      rw [if_neg (show ¬ (k = 4 ∨ k = 8) by omega), if_pos q] at go no
      refine t_meets (by omega) (by omega) (show nI (s 3 e) = eI (s 3 e + 1) from rfl) ?_
      by_cases c1 : mts o (s 3 e + 1) = true
      · rw [if_pos c1, if_neg (by decide)]
        exact go c1
      · rw [if_neg c1, if_pos rfl]
        exact no (Bool.eq_false_iff.mpr c1)
    rcases hk with rfl | rfl | rfl | rfl | rfl
    · rw [if_pos (show nI 4 = (4 : Int32) from rfl)]; exact k48 (Or.inl rfl)
    · rw [if_neg (by decide), if_neg (by decide)]
      unfold b_X24_waysBy_244
      rw [if_pos (show nI 5 = (5 : Int32) from rfl)]; exact k59 (Or.inl rfl)
    · rw [if_neg (by decide), if_neg (by decide)]
      unfold b_X24_waysBy_244
      rw [if_neg (by decide), if_neg (by decide)]
      exact go rfl
    · rw [if_neg (by decide), if_pos (show nI 8 = (8 : Int32) from rfl)]; exact k48 (Or.inr rfl)
    · rw [if_neg (by decide), if_neg (by decide)]
      unfold b_X24_waysBy_244
      rw [if_neg (by decide), if_pos (show nI 9 = (9 : Int32) from rfl)]; exact k59 (Or.inr rfl)
  · rw [if_neg cm, if_pos rfl]
    exact skip (by rw [Bool.eq_false_iff.mpr cm, Bool.false_and])
/-- one kind -/
theorem t_185 {Q : wS → Prop} {L : List Wy} {e o p k n x8 : Nat} (hw : Wx σ t s) (hs : Sh s) (l : Lo s) (hb : Tb s) (hX : Xo s) (hL : WL σ t L) (hn : L.length < 399) (he : e < mN s) (h4 : 4 ≤ s 2 e) (ho : o < 5) (hp : p < 6) (hk : k = 4 ∨ k = 5 ∨ k = 6 ∨ k = 8 ∨ k = 9) (hF : 200 ≤ F) (h8 : k ≤ x8) (h8' : x8 < 10)
    (hK : ∀ τ, Tv GW t σ τ → WL τ t (L ++ wyY s e o p k) → l_X24_waysBy_185 F t (nI e) (eI o) (eI p) Q n τ (nI (rw' s (R s (s 6 e)))) (nI (s 3 e)) (nI (R s (s 4 e))) (rgt s e) (nI x8) (nI k + 1)) :
    l_X24_waysBy_185 F t (nI e) (eI o) (eI p) Q (n + 1) σ (nI (rw' s (R s (s 6 e)))) (nI (s 3 e)) (nI (R s (s 4 e))) (rgt s e) (nI x8) (nI k) := by
  unfold l_X24_waysBy_185
  rw [if_neg (nI_nlt h8 (lt31 (by omega)))]
  obtain ⟨f, rfl⟩ : ∃ f, F = f + 3 := ⟨F - 3, by omega⟩
  refine t_195 (i := 0) (n := f + 2) hw hs l hb hX hL (by omega) he h4 ho hp hk (by decide) hF (fun τ w W => ?_)
  have n1 := wyX_len (s := s) (e := e) (o := o) (p := p) (k := k) (place := if 0 = 0 then s 3 e else 4)
  refine t_195 (i := 1) (n := f + 1) (hw.tv w) hs l hb hX W (by rw [List.length_append]; omega) he h4 ho hp hk (by decide) hF (fun υ w2 W2 => ?_)
  unfold l_X24_waysBy_195
  rw [if_pos (show (2 : Int32) ≤ nI 1 + 1 by decide)]
  refine hK υ (w.trans w2) ?_
  unfold wyY
  rw [← List.append_assoc]
  exact W2
theorem t_185e {Q : wS → Prop} {a1 a2 a3 x4 x5 x6 x7 : Int32} {n k x8 : Nat} (h : x8 < k) (hk : k < 20) (hQ : Q σ) : l_X24_waysBy_185 F t a1 a2 a3 Q (n + 1) σ x4 x5 x6 x7 (nI x8) (nI k) := by
  unfold l_X24_waysBy_185
  rw [if_pos (nI_lt h (lt31 (by omega)))]
  exact hQ
theorem t_waysBy {Q : wS → Prop} {L : List Wy} {e o p : Nat} (hw : Wx σ t s) (hs : Sh s) (l : Lo s) (hb : Tb s) (hX : Xo s) (hL : WL σ t L) (hn : L.length ≤ 394) (he : e < mN s) (ho : o < 5) (hp : p < 6) (hF : 200 ≤ F)
    (hQ : ∀ τ, Tv GW t σ τ → WL τ t (L ++ wyE s e o p) → Q τ) : w_X24_waysBy F σ t (nI e) (eI o) (eI p) Q := by
  have b1 := hs.1
  have b2 := hs.2.1
  have B6 := sx_6 hs he
  have g6 := sh_lt hs B6
  have T := hw.1
  have b3 := (sh_bnd hs he).2.1
  have bk := (sh_bnd hs he).1
  have r6 := rw_le hs l hb B6
  have ce : (nI e).toNatClampNeg = e := nI_clamp (lt31 (by omega))
  have f2 := (T.2.1 e he).1
  have f3 := (T.2.1 e he).2.1
  have f6 := (T.2.1 e he).2.2.2.2.1
  refine ⟨T.1.1, vp_in_nI (by omega) (by decide), ?_⟩
  rw [ce, f6]
  refine t_root T hs B6 (by omega) ⟨vp_in_nI (by omega) (by decide), ?_⟩
  rw [nI_clamp (n := R s (s 6 e)) (lt31 (by omega)), hw.row hs B6, f3, f2, bnd_eq, bnd_eq]
  unfold wyE at hQ
  by_cases q1 : s 2 e = 1
  · rw [if_pos (by rw [q1]; rfl)]
    rw [if_pos q1] at hQ
    have h3 := sx_p1 hs he q1
    have hx := hX.2 _ h3
    have tx := hw.2.2.2 _ h3
    refine ⟨vp_in_nI (by omega) (by decide), ?_⟩
    rw [nI_clamp (n := s 3 e) (lt31 (by omega))]
    refine t_meets (by omega) (by omega) tx.1 ?_
    by_cases m1 : mts o (s 13 (s 3 e)) = true
    · rw [if_pos m1, if_neg (by decide)]
      refine t_meets (c := s 14 (s 3 e) + 1) (by omega) (by omega) tx.2 ?_
      by_cases m2 : mts p (s 14 (s 3 e) + 1) = true
      · rw [if_pos m2, if_neg (by decide)]
        rw [m1, m2, if_pos (by decide)] at hQ
        exact t_way (k := 1) (e := some e) (one := none) (two := none) (pl := none) T.1.1 hw.2.2.1 hX.1 hL (by omega) (by decide) (by omega) (by omega) (nI_l (lt31 (by omega))) rfl (nI_l (lt31 (by omega))) rfl rfl rfl rfl hQ
      · rw [if_neg m2, if_pos rfl]
        rw [Bool.eq_false_iff.mpr m2, Bool.and_false, if_neg (by decide), List.append_nil] at hQ
        exact hQ σ Tv.refl hL
    · rw [if_neg m1, if_pos rfl]
      rw [Bool.eq_false_iff.mpr m1, Bool.false_and, if_neg (by decide), List.append_nil] at hQ
      exact hQ σ Tv.refl hL
  · rw [if_neg (show ¬ nI (s 2 e) = (1 : Int32) from nI_eqf (by omega) (by decide) q1), (T.2.1 e he).2.2.1 q1]
    rw [if_neg q1] at hQ
    have B4 := sx_4 hs he q1
    have g4 := sh_lt hs B4
    have r4 := rw_le hs l hb B4
    refine t_root T hs B4 (by omega) ?_
    rw [f2]
    by_cases q3 : s 2 e = 3
    · rw [if_pos (by rw [q3]; rfl)]
      rw [if_pos q3] at hQ
      refine t_demand ⟨vp_in_nI (by omega) (by decide), ?_⟩
      rw [nI_clamp (n := R s (s 4 e)) (lt31 (by omega)), hw.row hs B4]
      exact t_way (k := 2) (e := some e) (one := some _) (two := none) (pl := none) T.1.1 hw.2.2.1 hX.1 hL (by omega) (by decide) (by omega) (by omega) (nI_l (lt31 (by omega))) rfl (nI_l (lt31 (by omega))) rfl rfl rfl rfl hQ
    · rw [if_neg (show ¬ nI (s 2 e) = (3 : Int32) from nI_eqf (by omega) (by decide) q3)]
      rw [if_neg q3] at hQ
      have h4 : 4 ≤ s 2 e := by have := sx_2 hs he; omega
      obtain ⟨f, rfl⟩ : ∃ f, F = f + 9 := ⟨F - 9, by omega⟩
      have y := fun k => wyY_len (s := s) (e := e) (o := o) (p := p) (k := k)
      by_cases q4 : s 2 e = 4
      · rw [if_pos (by rw [q4]; decide)]
        rw [if_pos q4] at hQ
        unfold b_X24_waysBy_154
        rw [if_pos rfl, if_pos rfl, bnd_eq, bnd_eq]
        have er : (-1 : Int32) = rgt s e := by unfold rgt; rw [if_neg (by omega)]
        rw [er]
        refine t_185 (k := 8) (x8 := 9) (n := f + 8) hw hs l hb hX hL (by omega) he h4 ho hp (by omega) hF (by decide) (by decide) (fun τ1 w1 W1 => ?_)
        have := y 8
        refine t_185 (k := 9) (x8 := 9) (n := f + 7) (hw.tv w1) hs l hb hX W1 (by rw [List.length_append]; omega) he h4 ho hp (by omega) hF (by decide) (by decide) (fun τ2 w2 W2 => ?_)
        refine t_185e (k := 10) (x8 := 9) (n := f + 6) (by decide) (by decide) (hQ τ2 (w1.trans w2) ?_)
        rw [← List.append_assoc]
        exact W2
      · have h5 : 5 ≤ s 2 e := by omega
        rw [if_neg (show ¬ nI (s 2 e) < (5 : Int32) from nI_nlt (b := 5) h5 (lt31 (by omega))), (T.2.1 e he).2.2.2.1 h5]
        rw [if_neg q4] at hQ
        have B5 := sx_5 hs he h5
        have g5 := sh_lt hs B5
        refine t_root T hs B5 (by omega) ?_
        unfold b_X24_waysBy_154
        rw [if_neg (nI_m1 (lt31 (by omega))), if_neg (nI_m1 (lt31 (by omega))), bnd_eq, bnd_eq]
        have er : nI (R s (s 5 e)) = rgt s e := by unfold rgt; rw [if_pos h5]
        rw [er]
        have y4 := y 4
        have y5 := y 5
        refine t_185 (k := 4) (x8 := 6) (n := f + 8) hw hs l hb hX hL (by omega) he h4 ho hp (by omega) hF (by decide) (by decide) (fun τ1 w1 W1 => ?_)
        refine t_185 (k := 5) (x8 := 6) (n := f + 7) (hw.tv w1) hs l hb hX W1 (by rw [List.length_append]; omega) he h4 ho hp (by omega) hF (by decide) (by decide) (fun τ2 w2 W2 => ?_)
        refine t_185 (k := 6) (x8 := 6) (n := f + 6) ((hw.tv w1).tv w2) hs l hb hX W2 (by rw [List.length_append, List.length_append]; omega) he h4 ho hp (by omega) hF (by decide) (by decide) (fun τ3 w3 W3 => ?_)
        refine t_185e (k := 7) (x8 := 6) (n := f + 5) (by decide) (by decide) (hQ τ3 ((w1.trans w2).trans w3) ?_)
        rw [← List.append_assoc, ← List.append_assoc]
        exact W3
end PT
