set_option linter.unusedVariables false
set_option maxRecDepth 10000
/-! ===== twin: reading ===== -/
section PT
variable {σ τ υ : wS} {t F : Nat} {s : mS} {S : gS} {L : Nat → Int32} {n : Nat}
def TX (σ : wS) (t : Nat) (L : Nat → Int32) (n : Nat) : Prop := (oI σ 2569 t = nI n ∧ n ≤ 160) ∧ ∀ i, i < n → aI σ 2568 t i = L i
theorem TX.tw {G : List Nat} (h : TX σ t L n) (k : Tw G t σ τ) (d : ∀ g ∈ [2569, 2568], g ∉ G) : TX τ t L n := by
  refine ⟨⟨by rw [k.I (d _ (by decide))]; exact h.1.1, h.1.2⟩, fun i hi => ?_⟩
  rw [k.A (d _ (by decide))]; exact h.2 i hi
/-- no fault, at i -/
def At (σ : wS) (t i : Nat) : Prop := oI σ 2570 t = nI i ∧ oI σ 2506 t = -1
theorem At.tw {G : List Nat} {i : Nat} (h : At σ t i) (k : Tw G t σ τ) (d : ∀ g ∈ [2570, 2506], g ∉ G) : At τ t i := ⟨by rw [k.I (d _ (by decide))]; exact h.1, by rw [k.I (d _ (by decide))]; exact h.2⟩
theorem t_go1 {Q : Int32 → wS → Prop} {c : Int32} {i : Nat} (ok : ok24 σ t) (hX : TX σ t L n) (ha : At σ t i) (hi : i ≤ n) (h1 : i < n ∧ L i = c → ∀ τ, Tw [2570] t σ τ → At τ t (i + 1) → Q 1 τ) (h0 : ¬ (i < n ∧ L i = c) → ∀ τ, Tw [2506] t σ τ → oI τ 2506 t = nI i → Q 0 τ) : w_X24_goes_2 σ t c Q := by
  have hn := hX.1.2
  unfold w_X24_goes_2
  rw [ha.2, if_pos rfl, hX.1.1, ha.1]
  refine ⟨ok, ?_⟩
  by_cases q : i < n
  · rw [if_neg (nI_ge q (by omega)), nI_clamp (by omega), hX.2 i q]
    refine ⟨vp_inN (by omega) (by decide), ?_⟩
    by_cases z : L i = c
    · rw [if_pos z]
      refine bnd_sI fun τ w v _ _ => h1 ⟨q, z⟩ τ w ⟨?_, by rw [w.I (by decide)]; exact ha.2⟩
      rw [v, nIl_1, nI_add]
    · rw [if_neg z]
      exact bnd_sI fun τ w v _ _ => h0 (fun y => z y.2) τ w v
  · rw [if_pos (nI_le (by omega) (by omega))]
    exact bnd_sI fun τ w v _ _ => h0 (fun y => q y.1) τ w v
theorem t_go1m {Q : Int32 → wS → Prop} {c : Int32} {i : Nat} (ok : ok24 σ t) (hX : TX σ t L n) (ha : At σ t i) (hi : i ≤ n) (h1 : mst L n [c] i = Sum.inr (i + 1) → i + 1 ≤ n → ∀ τ, Tw [2570] t σ τ → At τ t (i + 1) → Q 1 τ) (h0 : mst L n [c] i = Sum.inl i → ∀ τ, Tw [2506] t σ τ → oI τ 2506 t = nI i → Q 0 τ) : w_X24_goes_2 σ t c Q :=
  t_go1 ok hX ha hi (fun q => h1 (by rw [mst1, if_pos q]) q.1) (fun q => h0 (by rw [mst1, if_neg q]))
/-- a word, behind a fault -/
theorem t_gwF {Q : Int32 → wS → Prop} {kk : wS → Prop} {w z : Nat} (ok : ok24 σ t) (hw : w < 13) (hz : z ≤ 160) (e : oI σ 2506 t = nI z) (h : kk σ) : ∀ m x, x ≤ wd_len.getD w 0 → wd_len.getD w 0 - x < m → l_X24_goes_2 F t w Q kk m σ (nI x) := by
  obtain ⟨b1, b2⟩ := len_b w hw
  intro m
  induction m with
  | zero => intro x h1 h2; omega
  | succ m ih =>
    intro x h1 h2
    unfold l_X24_goes_2
    refine ⟨by omega, t_len (by omega) ?_⟩
    by_cases q : x = wd_len.getD w 0
    · rw [if_pos (nI_le (by omega) (by omega))]
      exact h
    · rw [if_neg (nI_ge (by omega) (by omega))]
      refine t_chr hw (by omega) ⟨ok, ?_⟩
      unfold w_X24_goes_2
      rw [e, if_neg (nI_m1 (by omega)), nIl_1, nI_add]
      exact ⟨ok, ih (x + 1) (by omega) (by omega)⟩
theorem t_gw {Q : Int32 → wS → Prop} {kk : wS → Prop} {w : Nat} {σ0 : wS} (ok : ok24 σ0 t) (hX : TX σ0 t L n) (hw : w < 13) (hF : 100 ≤ F) {r : Nat ⊕ Nat} (h1 : ∀ j, r = Sum.inr j → j ≤ n → ∀ τ, Tw [2570, 2506] t σ0 τ → At τ t j → kk τ) (h0 : ∀ z, r = Sum.inl z → z ≤ n → ∀ τ, Tw [2570, 2506] t σ0 τ → oI τ 2506 t = nI z → kk τ) : ∀ m x i σ, x ≤ wd_len.getD w 0 → wd_len.getD w 0 - x < m → Tw [2570, 2506] t σ0 σ → At σ t i → i ≤ n → mst L n ((WB w).drop x) i = r → l_X24_goes_2 F t w Q kk m σ (nI x) := by
  obtain ⟨b1, b2⟩ := len_b w hw
  intro m
  induction m with
  | zero => intro x i σ h1 h2; omega
  | succ m ih =>
    intro x i σ h2 h3 W ha hi hr
    have hn := hX.1.2
    unfold l_X24_goes_2
    refine ⟨by omega, t_len (by omega) ?_⟩
    by_cases q : x = wd_len.getD w 0
    · rw [if_pos (nI_le (by omega) (by omega))]
      rw [q, ← b2, List.drop_length] at hr
      exact h1 i hr.symm hi σ W ha
    · have hx : x < (WB w).length := by omega
      rw [if_neg (nI_ge (by omega) (by omega))]
      refine t_chr hw (by omega) ⟨W.ok ok, ?_⟩
      rw [List.drop_eq_getElem_cons hx] at hr
      rw [gtD hx]
      refine t_go1 (W.ok ok) (hX.tw W (by decide)) ha hi (fun y τ w1 a1 => ?_) (fun y τ w1 a1 => ?_)
      · have e : mst L n ((WB w).drop (x + 1)) (i + 1) = r := by
          unfold mst at hr
          rw [if_pos y] at hr
          exact hr
        rw [nIl_1, nI_add]
        exact ih (x + 1) (i + 1) τ (by omega) (by omega) (W.up w1 (by decide)) a1 y.1 e
      · have e : r = Sum.inl i := by
          unfold mst at hr
          rw [if_neg y] at hr
          exact hr.symm
        rw [nIl_1, nI_add]
        exact t_gwF (w1.ok (W.ok ok)) hw (by omega) a1 (h0 i e hi τ (W.up w1 (by decide)) a1) m (x + 1) (by omega) (by omega)
theorem t_goes {Q : Int32 → wS → Prop} {w i : Nat} (ok : ok24 σ t) (hX : TX σ t L n) (ha : At σ t i) (hi : i ≤ n) (hw : w < 13) (hF : 100 ≤ F) (h1 : ∀ j, mst L n (WB w) i = Sum.inr j → j ≤ n → ∀ τ, Tw [2570, 2506] t σ τ → At τ t j → Q 1 τ) (h0 : ∀ z, mst L n (WB w) i = Sum.inl z → z ≤ n → ∀ τ, Tw [2570, 2506] t σ τ → oI τ 2506 t = nI z → Q 0 τ) : w_X24_goes F σ t w Q := by
  unfold w_X24_goes
  have hl := (len_b w hw).1
  have hn := hX.1.2
  refine t_gw (r := mst L n (WB w) i) ok hX hw hF (fun j e hj τ W a => ⟨W.ok ok, ?_⟩) (fun z e hz τ W a => ⟨W.ok ok, ?_⟩) F 0 i σ (by omega) (by omega) Tw.refl ha hi (by rw [List.drop_zero])
  · rw [a.2, if_pos rfl]
    exact h1 j e hj τ W a
  · rw [a, if_neg (nI_m1 (by omega))]
    exact h0 z e hz τ W a
theorem t_digit {Q : Int32 → wS → Prop} {u i : Nat} (ok : ok24 σ t) (hX : TX σ t L n) (ha : At σ t i) (hi : i ≤ n) (hu : u < 1000) (h1 : ∀ p, dgt L n u i = some p → ∀ τ, Tw [2570] t σ τ → At τ t (i + 1) → Q (nI p) τ) (h0 : dgt L n u i = none → ∀ τ, Tw [2506] t σ τ → oI τ 2506 t = nI i → Q 0 τ) : w_X24_digit σ t (nI u) Q := by
  have hn := hX.1.2
  unfold w_X24_digit
  rw [ha.2, if_pos rfl, hX.1.1, ha.1]
  refine ⟨ok, ?_⟩
  have bad : ¬ (i < n ∧ ¬ L i < 48 ∧ L i < 48 + nI u) → dgt L n u i = none := fun z => by unfold dgt; exact if_neg z
  by_cases q : i < n
  · rw [if_neg (nI_ge q (by omega)), nI_clamp (by omega), hX.2 i q]
    refine ⟨vp_inN (by omega) (by decide), ?_⟩
    by_cases z : L i < 48
    · rw [if_pos z]
      exact bnd_sI fun τ w v _ _ => h0 (bad (fun y => y.2.1 z)) τ w v
    rw [if_neg z]
    by_cases z2 : L i < 48 + nI u
    · rw [if_pos z2]
      have e : dgt L n u i = some (L i - 48).toNatClampNeg := by unfold dgt; exact if_pos ⟨q, z, z2⟩
      obtain ⟨d1, d2, d3, d4, -⟩ := dgt_some hu e
      refine bnd_sI fun τ w v _ _ => ?_
      have ev : oI τ 2570 t = nI (i + 1) := by rw [v, nIl_1, nI_add]
      rw [ev, show nI (i + 1) - (1 : Int32) = nI i from nI_pred i, nI_clamp (by omega), w.A (by decide), hX.2 i q, d4]
      exact ⟨vp_inN (by omega) (by decide), h1 _ e τ w ⟨ev, by rw [w.I (by decide)]; exact ha.2⟩⟩
    · rw [if_neg z2]
      exact bnd_sI fun τ w v _ _ => h0 (bad (fun y => z2 y.2.2)) τ w v
  · rw [if_pos (nI_le (by omega) (by omega))]
    exact bnd_sI fun τ w v _ _ => h0 (bad (fun y => q y.1)) τ w v
abbrev GRd : List Nat := [2500, 2501, 2502, 2510, 2511, 2512, 2515, 2516, 2517, 2518, 2519, 2520, 22521, 2530, 2531, 2532, 2506, 2570]
/-- told: what tel says -/
theorem t_tel {Q : Int32 → wS → Prop} {x : X4} {X Y : Int32} (hT : TM σ t s) (hs : Sh s) (hN : mN s < 144) (hk : x.1 < 7) (hp : x.2.1 < 100) (hx : Im (x.1 ≠ 1) (x.2.2.1 < mG s ∧ X = nI x.2.2.1)) (hy : Im (5 ≤ x.1) (x.2.2.2 < mG s ∧ Y = nI x.2.2.2)) (hF : 200 ≤ F) (hQ : ∀ τ, Tw GM t σ τ → TM τ t (tel s x).1 → Q (nI (tel s x).2) τ) : w_X24_told F σ t (nI x.1) (nI x.2.1) X Y Q := by
  refine t_told hT hs hN hk hp hx hy hF (fun e he => ?_) (fun he τ w h => ?_)
  · have e1 : tel s x = (s, R s (s 6 e)) := by
      unfold tel
      rw [show lk4 s x = some e from he]
    rw [e1] at hQ
    exact hQ σ Tw.refl hT
  · have e1 : tel s x = (nwx s x.1 x.2.1 x.2.2.1 x.2.2.2, mG s) := by
      unfold tel
      rw [show lk4 s x = none from he]
    rw [e1] at hQ
    exact hQ τ w h
theorem t_b266 {Q : Int32 → wS → Prop} {rc : wS → Nat → (Int32 → wS → Prop) → Prop} {k p g h i j : Nat} (hT : TM σ t s) (hs : Sh s) (l : Lo s) (hb : Tb s) (hN : mN s < 144) (hX : TX σ t L n) (ha : At σ t j) (hj : j ≤ n) (hk : k = 3 ∨ k = 4 ∨ k = 5 ∨ k = 6) (hp : p < (if k = 3 then 8 else 4)) (hg : g < mG s) (hh : h < mG s) (hF : 200 ≤ F)
    (h0 : mst L n [41] j = Sum.inl j → ∀ τ, Tw GRd t σ τ → TM τ t s → oI τ 2506 t = nI j → Q (-1) τ)
    (h1 : mst L n [41] j = Sum.inr (j + 1) → mayK s k p g h = false → ∀ τ, Tw GRd t σ τ → TM τ t s → oI τ 2506 t = nI i → Q (-1) τ)
    (h2 : mst L n [41] j = Sum.inr (j + 1) → mayK s k p g h = true → j + 1 ≤ n → ∀ τ, Tw GRd t σ τ → TM τ t (tel s (k, p, g, h)).1 → At τ t (j + 1) → Q (nI (tel s (k, p, g, h)).2) τ) : b_X24_reads_266 F rc t Q σ (nI i) (nI k) (nI p) (nI g) (nI h) := by
  unfold b_X24_reads_266
  refine ⟨hT.1.1, t_go1m hT.1.1 hX ha hj (fun e hj1 τ w a => ?_) (fun e τ w a => ?_)⟩
  · rw [if_neg (by decide)]
    have hT1 := hT.tw w (by decide)
    refine t_may hT1 hs l hb hk hp hg hh hF (fun τ2 w2 hL => ?_)
    have hT2 := hT1.tw w2 (by decide)
    have W2 : Tw GRd t σ τ2 := (w.mono (by decide)).trans (w2.mono (by decide))
    have a2 := a.tw w2 (by decide)
    cases hm : mayK s k p g h with
    | false =>
      rw [if_neg (show ¬ false = true by decide), if_pos rfl]
      exact bnd_sI fun τ3 w3 v3 _ _ => h1 e hm τ3 (W2.up w3 (by decide)) (hT2.tw w3 (by decide)) v3
    | true =>
      rw [if_pos rfl, if_neg (by decide)]
      refine t_tel (x := (k, p, g, h)) hT2 hs hN (show k < 7 by omega) (show p < 100 by revert hp; split <;> omega) (fun _ => ⟨hg, rfl⟩) (fun _ => ⟨hh, rfl⟩) hF (fun τ3 w3 h3 => ?_)
      exact h2 e hm hj1 τ3 (W2.trans (w3.mono (by decide))) h3 (a2.tw w3 (by decide))
  · rw [if_pos rfl]
    exact h0 e τ (w.mono (by decide)) (hT.tw w (by decide)) a
theorem kd_I (c : Int32) : (if c = (115 : Int32) then (1 : Int32) else if c = (107 : Int32) then (3 : Int32) else if c = (116 : Int32) then (4 : Int32) else if c = (106 : Int32) then (5 : Int32) else if c = (104 : Int32) then (6 : Int32) else (0 : Int32)) = nI (kdl c) := by
  unfold kdl
  by_cases h1 : c = 115
  · rw [if_pos h1, if_pos h1]; rfl
  rw [if_neg h1, if_neg h1]
  by_cases h2 : c = 107
  · rw [if_pos h2, if_pos h2]; rfl
  rw [if_neg h2, if_neg h2]
  by_cases h3 : c = 116
  · rw [if_pos h3, if_pos h3]; rfl
  rw [if_neg h3, if_neg h3]
  by_cases h4 : c = 106
  · rw [if_pos h4, if_pos h4]; rfl
  rw [if_neg h4, if_neg h4]
  by_cases h5 : c = 104
  · rw [if_pos h5, if_pos h5]; rfl
  rw [if_neg h5, if_neg h5]; rfl
/-- contract of a reading call -/
def RdC2 (rc : wS → Nat → (Int32 → wS → Prop) → Prop) (t : Nat) (s0 : mS) (L : Nat → Int32) (n D : Nat) : Prop := ∀ (σ : wS) (s : mS) (i : Nat) (Q : Int32 → wS → Prop), TM σ t s → Sh s → Lo s → No s → (∀ k, 10 ≤ k → s k = s0 k) → 6 * mN s ≤ 384 + i → TX σ t L n → At σ t i → i ≤ n → 168 ≤ 7 * D + i →
  (∀ z, psr s0 L n D i = Sum.inl z → z ≤ n → ∀ τ s', Tw GRd t σ τ → TM τ t s' → OldR s s' → oI τ 2506 t = nI z → ∀ r, Q r τ) →
  (∀ x, psr s0 L n D i = Sum.inr x → ∀ τ, Tw GRd t σ τ → TM τ t (tlr s0 L n D i s).1 → At τ t x.1 → Q (nI (tlr s0 L n D i s).2) τ) → rc σ t Q
theorem t_readsA {s0 : mS} (hb0 : Tb s0) (h8 : s0 10 0 ≤ 8) (hF : 300 ≤ F) (hn : n ≤ 160) : ∀ D, RdC2 (w_X24_reads F D) t s0 L n D := by
  have hb12 : ∀ p, p < s0 10 0 → s0 12 p < 16 := fun p hp => (hb0.1 p hp).2.2
  intro D
  induction D with
  | zero => intro σ s i Q hT hs l no hk hN hX ha hi hD; omega
  | succ D ih =>
    intro σ s i Q hT hs l no hk hN hX ha hi hD h0 h1
    have hb : Tb s := by
      unfold Tb
      rw [hk 10 (by decide), hk 11 (by decide), hk 12 (by decide), hk 15 (by decide)]
      exact hb0
    have e10 : s 10 = s0 10 := hk 10 (by decide)
    have ok := hT.1.1
    show wm_X24_reads F (w_X24_reads F D) σ t Q
    unfold wm_X24_reads
    rw [hX.1.1, ha.1]
    refine ⟨ok, ?_⟩
    have hkd := kdl_c (ltr L n i)
    have epk := psr_k (s := s0) (L := L) (n := n) (D := D) (i := i) rfl
    have etl := tlr_k (s := s0) (D := D) (m := s) (L := L) (n := n) (i := i) rfl
    have b29 : b_X24_reads_29 F (w_X24_reads F D) t Q σ (nI i) (ltr L n i) := by
      unfold b_X24_reads_29
      rw [kd_I]
      generalize kdl (ltr L n i) = k at hkd epk etl ⊢
      intro v hv
      subst hv
      by_cases k0 : k = 0
      · rw [if_pos (by rw [k0]; rfl)]
        refine ⟨ok, bnd_sI fun τ w v _ _ => ?_⟩
        rw [if_pos k0] at epk
        exact h0 i epk hi τ s (w.mono (by decide)) (hT.tw w (by decide)) OldR.refl (by rw [v]; exact ha.1) _
      rw [if_neg (show ¬ nI k = (0 : Int32) from nI_eqf (b := 0) (by omega) (by decide) k0)]
      rw [if_neg k0] at epk
      obtain ⟨len, lxl⟩ := lix_len (k := k) (by omega)
      have b145 : ∀ x, x = lix k → b_X24_reads_145 F (w_X24_reads F D) t Q σ (nI i) (nI k) (some t) x := by
        intro x hx
        subst hx
        unfold b_X24_reads_145
        refine ⟨t, rfl, ok, ?_⟩
        have b173 : ∀ τ u, u = nI (und s0 k) → Tw [2570, 2506] t σ τ → ((∃ j, mst L n (WB (lix k)) i = Sum.inr j ∧ j ≤ n ∧ At τ t j) ∨ (∃ z, mst L n (WB (lix k)) i = Sum.inl z ∧ z ≤ n ∧ oI τ 2506 t = nI z)) → b_X24_reads_173 F (w_X24_reads F D) t Q τ (nI i) (nI k) (some t) u := by
          intro τ u hu W hcase
          subst hu
          have hT1 := hT.tw W (by decide)
          have hX1 := hX.tw W (by decide)
          have hu : und s0 k < 1000 := by unfold und; split; omega; split <;> omega
          unfold b_X24_reads_173
          refine ⟨t, rfl, hT1.1.1, ?_⟩
          rcases hcase with ⟨j, e1, hj, aj⟩ | ⟨z, e1, hz, az⟩
          · rw [e1] at epk
            dsimp only at epk
            obtain ⟨ej, -⟩ := mst_inr _ _ _ hi e1
            refine t_digit hT1.1.1 hX1 aj hj hu (fun p e2 τ2 w2 a2 => ?_) (fun e2 τ2 w2 a2 => ?_)
            · rw [e2] at epk
              dsimp only at epk
              obtain ⟨d1, d2, d3, -⟩ := dgt_some hu e2
              have hT2 := hT1.tw w2 (by decide)
              have hX2 := hX1.tw w2 (by decide)
              have W2 : Tw [2570, 2506] t σ τ2 := W.up w2 (by decide)
              rw [a2.2, if_pos rfl]
              refine ⟨hT2.1.1, ?_⟩
              by_cases k1 : k = 1
              · rw [if_pos (by rw [k1]; rfl)]
                rw [if_pos k1] at epk etl
                have l5 : (WB (lix k)).length = 5 := by rw [len, if_neg (by omega)]
                have e5 : i + 5 = j := by omega
                rw [e5, ← d3] at etl
                subst k1
                have hp8 : p < s0 10 0 := d2
                refine t_tel (x := (1, p, 0, 0)) hT2 hs (by omega) (show 1 < 7 by decide) (show p < 100 by omega) (fun z => absurd rfl z) (fun z => absurd z (show ¬ 5 ≤ 1 by decide)) (by omega) (fun τ3 w3 h3 => ?_)
                have := h1 _ epk τ3 ((W2.mono (by decide)).trans (w3.mono (by decide)))
                rw [etl] at this
                exact this h3 (a2.tw w3 (by decide))
              rw [if_neg (show ¬ nI k = (1 : Int32) from nI_eqf (b := 1) (by omega) (by decide) k1)]
              rw [if_neg k1] at epk etl
              have hpk : p < (if k = 3 then 8 else 4) := by
                have : und s0 k = if k = 3 then 8 else 4 := by unfold und; rw [if_neg k1]
                rw [← this]; exact d2
              refine t_go1m hT2.1.1 hX2 a2 (by omega) (fun e3 hj3 τ3 w3 a3 => ?_) (fun e3 τ3 w3 a3 => ?_)
              · rw [if_neg (by decide)]
                rw [e3] at epk
                dsimp only at epk
                have hT3 := hT2.tw w3 (by decide)
                have hX3 := hX2.tw w3 (by decide)
                have W3 : Tw [2570, 2506] t σ τ3 := W2.up w3 (by decide)
                have hlen : 5 ≤ (WB (lix k)).length ∧ (WB (lix k)).length ≤ 6 := by rw [len]; split <;> omega
                refine ih τ3 s (j + 1 + 1) _ hT3 hs l no hk (by omega) hX3 a3 hj3 (by omega) (fun z e4 hz τ4 s' w4 h4 o4 a4 r => ?_) (fun x e4 τ4 w4 h4 a4 => ?_)
                · rw [e4] at epk
                  dsimp only at epk
                  rw [a4, if_neg (nI_m1 (by omega))]
                  exact h0 z epk hz τ4 s' ((W3.mono (by decide)).trans w4) h4 o4 a4 _
                · obtain ⟨x1, x2⟩ := x
                  rw [e4] at epk
                  dsimp only at epk a4
                  have tk := tlr_ok hn hb12 h8 D (j + 1 + 1) s x1 x2 hs l no hk (by omega) hj3 e4
                  obtain ⟨⟨A1, A2, A3⟩, AO, A4, A5, A6, A7, A8, A9⟩ := tk
                  have W4 : Tw GRd t σ τ4 := (W3.mono (by decide)).trans w4
                  have hX4 := hX3.tw w4 (by decide)
                  have hbA : Tb (tlr s0 L n D (j + 1 + 1) s).1 := by
                    unfold Tb
                    rw [AO.1.2.2.2 10 (by decide), AO.1.2.2.2 11 (by decide), AO.1.2.2.2 12 (by decide), AO.1.2.2.2 15 (by decide)]
                    exact hb
                  rw [a4.2, if_pos rfl]
                  by_cases k5 : k < 5
                  · rw [if_pos (show nI k < (5 : Int32) from nI_lt (b := 5) k5 (by decide))]
                    rw [if_pos k5] at epk etl
                    have e7 : i + (WB (lix k)).length + 2 = j + 1 + 1 := by omega
                    have e8 : i + (WB (lix k)).length = j := by omega
                    rw [e7, e8, ← d3] at etl
                    generalize htl : tlr s0 L n D (j + 1 + 1) s = y at etl h4 A1 A2 A3 AO A4 A5 A6 A7 hbA
                    have em : mayK y.1 k p y.2 y.2 = x2.testBit (kcl k p) := by
                      unfold mayK kcl
                      rw [A5, A6, decide_eq_true k5, Bool.true_or, Bool.and_true]
                    refine t_b266 (i := i) (j := x1) h4 A1 A2 hbA (by omega) hX4 a4 A9 (by omega) hpk A4 A4 (by omega) (fun e5 τ5 w5 h5 a5 => ?_) (fun e5 hm τ5 w5 h5 a5 => ?_) (fun e5 hm hj5 τ5 w5 h5 a5 => ?_)
                    · rw [e5] at epk
                      exact h0 x1 epk A9 τ5 y.1 (W4.trans w5) h5 AO a5 _
                    · rw [e5] at epk
                      dsimp only at epk
                      rw [em] at hm
                      rw [if_neg (by rw [hm]; decide)] at epk
                      exact h0 i epk hi τ5 y.1 (W4.trans w5) h5 AO a5 _
                    · rw [e5] at epk
                      dsimp only at epk
                      rw [em] at hm
                      rw [if_pos hm] at epk
                      have := h1 _ epk τ5 (W4.trans w5)
                      rw [etl] at this
                      exact this h5 a5
                  · rw [if_neg (show ¬ nI k < (5 : Int32) from nI_nlt (b := 5) (by omega) (by omega))]
                    rw [if_neg k5] at epk etl
                    refine t_go1m h4.1.1 hX4 a4 A9 (fun e5 hj5 τ5 w5 a5 => ?_) (fun e5 τ5 w5 a5 => ?_)
                    · rw [if_neg (by decide)]
                      rw [e5] at epk
                      dsimp only at epk
                      have h5 := h4.tw w5 (by decide)
                      have hX5 := hX4.tw w5 (by decide)
                      have W5 : Tw GRd t σ τ5 := W4.up w5 (by decide)
                      refine ih τ5 (tlr s0 L n D (j + 1 + 1) s).1 (x1 + 1) _ h5 A1 A2 A3 (fun k hk' => (AO.1.2.2.2 k hk').trans (hk k hk')) (by omega) hX5 a5 hj5 (by omega) (fun z e6 hz τ6 s' w6 h6 o6 a6 r => ?_) (fun y e6 τ6 w6 h6 a6 => ?_)
                      · rw [e6] at epk
                        dsimp only at epk
                        rw [a6, if_neg (nI_m1 (by omega))]
                        exact h0 z epk hz τ6 s' (W5.trans w6) h6 (AO.trans o6 (fun g hg => sh_lt hs hg)) a6 _
                      · obtain ⟨y1, y2⟩ := y
                        rw [e6] at epk
                        dsimp only at epk a6
                        have tk2 := tlr_ok hn hb12 h8 D (x1 + 1) (tlr s0 L n D (j + 1 + 1) s).1 y1 y2 A1 A2 A3 (fun k hk' => (AO.1.2.2.2 k hk').trans (hk k hk')) (by omega) hj5 e6
                        obtain ⟨⟨B1, B2, B3⟩, BO, B4, B5, B6, B7, B8, B9⟩ := tk2
                        have W6 : Tw GRd t σ τ6 := W5.trans w6
                        have hX6 := hX5.tw w6 (by decide)
                        have hbB : Tb (tlr s0 L n D (x1 + 1) (tlr s0 L n D (j + 1 + 1) s).1).1 := by
                          unfold Tb
                          rw [BO.1.2.2.2 10 (by decide), BO.1.2.2.2 11 (by decide), BO.1.2.2.2 12 (by decide), BO.1.2.2.2 15 (by decide)]
                          exact hbA
                        have hk5 : (WB (lix k)).length = 5 := by rw [len, if_neg (by omega)]
                        have e7 : i + 7 = j + 1 + 1 := by omega
                        have e8 : i + 5 = j := by omega
                        have e9 : pse s0 L n D (i + 7) + 1 = x1 + 1 := by
                          unfold pse
                          rw [e7, e4]
                        rw [e9, e7, e8, ← d3] at etl
                        have hr1 : (tlr s0 L n D (j + 1 + 1) s).2 < mG (tlr s0 L n D (x1 + 1) (tlr s0 L n D (j + 1 + 1) s).1).1 := Nat.lt_of_lt_of_le A4 BO.1.1.2
                        obtain ⟨c1, c2⟩ := BO.1.2.2.1 _ A4
                        rw [A5] at c1 c2
                        have em : mayK (tlr s0 L n D (x1 + 1) (tlr s0 L n D (j + 1 + 1) s).1).1 k p (tlr s0 L n D (j + 1 + 1) s).2 (tlr s0 L n D (x1 + 1) (tlr s0 L n D (j + 1 + 1) s).1).2 = (x2.testBit p && y2.testBit p) := by
                          unfold mayK
                          rw [c1, c2, A6, B5, B6, if_neg (by omega), decide_eq_false k5, Bool.false_or]
                        have OO := AO.trans BO (fun g hg => sh_lt hs hg)
                        rw [a6.2, if_pos rfl]
                        refine t_b266 (i := i) (j := y1) h6 B1 B2 hbB (by omega) hX6 a6 B9 (by omega) hpk hr1 B4 (by omega) (fun e7' τ7 w7 h7 a7 => ?_) (fun e7' hm τ7 w7 h7 a7 => ?_) (fun e7' hm hj7 τ7 w7 h7 a7 => ?_)
                        · rw [e7'] at epk
                          exact h0 y1 epk B9 τ7 _ (W6.trans w7) h7 OO a7 _
                        · rw [e7'] at epk
                          dsimp only at epk
                          rw [em] at hm
                          rw [if_neg (by rw [hm]; decide)] at epk
                          exact h0 i epk hi τ7 _ (W6.trans w7) h7 OO a7 _
                        · rw [e7'] at epk
                          dsimp only at epk
                          rw [em] at hm
                          rw [if_pos hm] at epk
                          have := h1 _ epk τ7 (W6.trans w7)
                          rw [etl] at this
                          exact this h7 a7
                    · rw [if_pos rfl]
                      rw [e5] at epk
                      exact h0 x1 epk A9 τ5 _ (W4.up w5 (by decide)) (h4.tw w5 (by decide)) AO a5 _
              · rw [if_pos rfl]
                rw [e3] at epk
                exact h0 (j + 1) epk (by omega) τ3 s ((W2.up w3 (by decide)).mono (by decide)) (hT2.tw w3 (by decide)) OldR.refl a3 _
            · rw [e2] at epk
              have hT2 := hT1.tw w2 (by decide)
              rw [a2, if_neg (nI_m1 (by omega))]
              exact ⟨hT2.1.1, h0 j epk hj τ2 s ((W.up w2 (by decide)).mono (by decide)) hT2 OldR.refl a2 _⟩
          · rw [e1] at epk
            unfold w_X24_digit
            rw [az, if_neg (nI_m1 (by omega))]
            refine ⟨hT1.1.1, hT1.1.1, ?_⟩
            rw [az, if_neg (nI_m1 (by omega))]
            exact h0 z epk hz τ s (W.mono (by decide)) hT1 OldR.refl az _
        have both : ∀ τ, Tw [2570, 2506] t σ τ → ((∃ j, mst L n (WB (lix k)) i = Sum.inr j ∧ j ≤ n ∧ At τ t j) ∨ (∃ z, mst L n (WB (lix k)) i = Sum.inl z ∧ z ≤ n ∧ oI τ 2506 t = nI z)) → (if nI k = (1 : Int32) then ok24 τ t ∧ b_X24_reads_173 F (w_X24_reads F D) t Q τ (nI i) (nI k) (some t) (oI τ 2500 t) else b_X24_reads_173 F (w_X24_reads F D) t Q τ (nI i) (nI k) (some t) (if nI k = (3 : Int32) then (8 : Int32) else (4 : Int32))) := by
          intro τ W hc
          by_cases k1 : k = 1
          · rw [if_pos (by rw [k1]; rfl)]
            refine ⟨W.ok ok, b173 τ _ ?_ W hc⟩
            rw [W.I (by decide), hT.1.2.1]
            unfold und
            rw [if_pos k1, e10]
          · rw [if_neg (show ¬ nI k = (1 : Int32) from nI_eqf (b := 1) (by omega) (by decide) k1)]
            refine b173 τ _ ?_ W hc
            unfold und
            rw [if_neg k1]
            by_cases k3 : k = 3
            · rw [if_pos (by rw [k3]; rfl), if_pos k3]; rfl
            · rw [if_neg (show ¬ nI k = (3 : Int32) from nI_eqf (b := 3) (by omega) (by decide) k3), if_neg k3]; rfl
        exact t_goes ok hX ha hi lxl (by omega) (fun j e hj τ W a => both τ W (Or.inl ⟨j, e, hj, a⟩)) (fun z e hz τ W a => both τ W (Or.inr ⟨z, e, hz, a⟩))
      have hk5 : k = 1 ∨ k = 3 ∨ k = 4 ∨ k = 5 ∨ k = 6 := by omega
      rcases hk5 with rfl | rfl | rfl | rfl | rfl
      · exact b145 5 rfl
      · exact b145 6 rfl
      · exact b145 7 rfl
      · exact b145 9 rfl
      · exact b145 8 rfl
    by_cases q : i < n
    · rw [if_neg (nI_ge q (by omega)), nI_clamp (by omega), hX.2 i q]
      have : ltr L n i = L i := if_pos q
      rw [this] at b29
      exact ⟨vp_inN (by omega) (by decide), b29⟩
    · rw [if_pos (nI_le (by omega) (by omega))]
      have : ltr L n i = 0 := if_neg q
      rw [this] at b29
      exact b29
end PT
