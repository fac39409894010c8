set_option linter.unusedVariables false
set_option maxRecDepth 10000
/-! ===== twin: read ===== -/
section PT
variable {σ τ υ : wS} {t F : Nat} {s : mS} {S : gS}
theorem tm_back {s' : mS} (h : TM σ t s') (o : OldR s s') (w : Tw [2501, 2502] t σ τ) (e1 : oI τ 2501 t = nI (mN s)) (e2 : oI τ 2502 t = nI (mG s)) : TM τ t s := by
  obtain ⟨⟨a1, a2, a3, a4⟩, b, c, e, f⟩ := h
  obtain ⟨⟨⟨o1, o2⟩, o3, o4, o5⟩, o6⟩ := o
  refine ⟨⟨w.ok a1, ?_, e1, e2⟩, fun x hx => ?_, fun g hg => ?_, fun i hi => ?_, fun i hi => ?_⟩
  · rw [w.I (by decide), a2, o5 10 (by decide)]
  · obtain ⟨c1, c2, c3, c4, c5, c6⟩ := o3 x hx
    have := b x (by omega)
    rw [c1, c2, c3, c4, c5, c6] at this
    rw [w.A (by decide), w.A (by decide), w.A (by decide), w.A (by decide), w.A (by decide), w.A (by decide)]
    exact this
  · rw [w.A (by decide), c g (by omega), o6 g hg]
  · have := e i (by rw [o5 10 (by decide)]; exact hi)
    rw [o5 11 (by decide), o5 12 (by decide)] at this
    rw [w.A (by decide), w.A (by decide)]
    exact this
  · have := f i hi
    rw [o5 15 (by decide)] at this
    rw [w.A (by decide)]
    exact this
abbrev GZ2 : List Nat := [2509, 2524, 2525, 2526, 2527, 12528, 2505, 2507, 2562, 2508, 2542, 2543, 2544, 2545, 2546, 2547, 2548, 2549, 12551, 2571, 2572, 22573, 22574, 2504, 2513, 2514, 22522, 2523, 2503]
theorem tt_rd {G : List Nat} {s' : mS} {v : Nat} (h : TT σ t S) (k : Tw G t σ τ) (d : ∀ g ∈ GZ2, g ∉ G) (m : TM τ t s') (e : ∀ k, 10 ≤ k → s' k = S.1 k) (f : oI τ 2506 t = eI v) : TT τ t (sM (sF S v) s') := by
  have hz := h.2.1.2.2.2
  refine ⟨⟨m, txo_k (h.1.2.1.tw k (fun g hg => d g (by revert g; decide))) e, tf_k (h.1.2.2.tw k (fun g hg => d g (by revert g; decide))) e⟩, ⟨h.2.1.1.tw k (fun g hg => d g (by revert g; decide)), h.2.1.2.1.tw k (fun g hg => d g (by revert g; decide)), h.2.1.2.2.1.tw k (fun g hg => d g (by revert g; decide)), ?_, ?_, ?_⟩, ?_, ?_⟩
  · show _ = nI (s' 20 0)
    rw [k.I (d _ (by decide)), e 20 (by decide)]; exact hz.1
  · show _ = eI (up (S.2.1 5) 0 v 0)
    rw [up_s]; exact f
  · exact ⟨by rw [k.I (d _ (by decide))]; exact hz.2.2.1, by rw [k.A (d _ (by decide))]; exact hz.2.2.2⟩
  · have := h.2.2.1.tw k (fun g hg => d g (by revert g; decide))
    show TP τ t (st S.2.1 5 (up (S.2.1 5) 0 v))
    unfold TP at this ⊢
    rw [st_s, up_n (by decide), st_n (k := 5) (k' := 6) (by decide), st_n (k := 5) (k' := 7) (by decide), st_n (k := 5) (k' := 8) (by decide), st_n (k := 5) (k' := 9) (by decide), st_n (k := 5) (k' := 10) (by decide), st_n (k := 5) (k' := 11) (by decide), st_n (k := 5) (k' := 12) (by decide), st_n (k := 5) (k' := 13) (by decide), st_n (k := 5) (k' := 14) (by decide)]
    exact this
  · have := h.2.2.2.tw k (fun g hg => d g (by revert g; decide))
    show TI τ t (st S.2.1 5 (up (S.2.1 5) 0 v)) S.2.2.1
    unfold TI at this ⊢
    rw [st_s, up_n (by decide)]
    exact this
theorem t_rd59 {Q : Int32 → wS → Prop} {kk : wS → Prop} {k n : Nat} {σ0 : wS} (ok : ok24 σ0 t) (hk : k < 8) (hn : n ≤ 160) (e : oI σ0 2569 t = nI n) (hQ : ∀ τ, Tw [2568] t σ0 τ → (∀ j, j < n → aI τ 2568 t j = (aJ σ0 12528 t (160 * k + j)).toInt32) → kk τ) : ∀ m x σ, x ≤ n → n - x < m → Tw [2568] t σ0 σ → (∀ j, j < x → aI σ 2568 t j = (aJ σ0 12528 t (160 * k + j)).toInt32) → l_X24_read_59 F t (nI k) Q kk m σ (nI x) := by
  intro m
  induction m with
  | zero => intro x σ h1 h2; omega
  | succ m ih =>
    intro x σ h1 h2 W ha
    unfold l_X24_read_59
    rw [W.I (by decide), e]
    refine ⟨W.ok ok, ?_⟩
    by_cases q : x = n
    · rw [if_pos (nI_le (by omega) (by omega))]
      rw [q] at ha
      exact hQ σ W ha
    · rw [if_neg (nI_ge (by omega) (by omega)), nIl_160, nI_mul, nI_add, nI_clamp (n := 160 * k + x) (by omega), nI_clamp (n := x) (by omega)]
      refine ⟨vp_inN (by omega) (by decide), vp_inN (by omega) (by decide), bnd_sA fun τ w1 v1 _ _ => ?_⟩
      rw [nIl_1, nI_add]
      refine ih (x + 1) τ (by omega) (by omega) (W.trans w1) (fun j hj => ?_)
      rw [v1]
      by_cases z : j = x
      · rw [z, upd_s, W.AJ (by decide)]
      · rw [upd_n z]; exact ha j (by omega)
abbrev GV : List Nat := [2500, 2501, 2502, 2510, 2511, 2512, 2515, 2516, 2517, 2518, 2519, 2520, 22521, 2530, 2531, 2532, 2506, 2570, 2569, 2568]
theorem t_read {Q : Int32 → wS → Prop} {a : Int32} (hT : TT σ t S) (hA : AV S) (hM : MV S.1) (hF : 1000 ≤ F) (hQ : ∀ τ, Tu t σ τ → TT τ t (o_read S a).2 → Q (o_read S a).1 τ) : w_X24_read F σ t a Q := by
  obtain ⟨⟨hs, l, no⟩, ⟨hb, -⟩, hN⟩ := hM
  have hG := hs.2.1
  unfold w_X24_read
  refine ⟨hT.ok, t_isShelf (fun e => ?_) (fun k hk ha e => ?_)⟩
  · rw [if_pos rfl]
    have e2 : o_read S a = noA S 1 := by unfold o_read; rw [e]
    rw [e2] at hQ
    exact t_no 1 (by decide) rfl hT hQ
  have eo : o_read S a = if S.2.1 1 k = 2 then noA S 2 else if S.2.1 1 k = 0 then noA S 3
    else match psr S.1 (txt S k) (S.2.1 3 k) 30 0 with
      | Sum.inl z => noA (sF S (z + 1)) 6
      | Sum.inr x => if x.1 < S.2.1 3 k then noA (sF S (x.1 + 1)) 6
        else if 64 < mN (tlr S.1 (txt S k) (S.2.1 3 k) 30 0 S.1).1 then noA (sF S 0) 7
        else (nI (tlr S.1 (txt S k) (S.2.1 3 k) 30 0 S.1).2, sM (sF S 0) (tlr S.1 (txt S k) (S.2.1 3 k) 30 0 S.1).1) := by unfold o_read; rw [e]; rfl
  rw [eo] at hQ
  obtain ⟨b1, b2, b3, b4⟩ := hA k hk
  obtain ⟨g1, g2, g3, g4⟩ := hT.2.1.2.1 k hk
  rw [if_neg (by decide), ha, nI_clamp (by omega), g1, g3]
  refine ⟨vp_inN hk (by decide), ?_⟩
  by_cases q2 : S.2.1 1 k = 2
  · rw [if_pos (by rw [q2]; rfl)]
    rw [if_pos q2] at hQ
    exact t_no 2 (by decide) rfl hT hQ
  rw [if_neg (show ¬ nI (S.2.1 1 k) = (2 : Int32) from nI_eqf (b := 2) (by omega) (by decide) q2)]
  rw [if_neg q2] at hQ
  by_cases q0 : S.2.1 1 k = 0
  · rw [if_pos (by rw [q0]; rfl)]
    rw [if_pos q0] at hQ
    exact t_no 3 (by decide) rfl hT hQ
  rw [if_neg (show ¬ nI (S.2.1 1 k) = (0 : Int32) from nI_eqf (b := 0) (by omega) (by decide) q0)]
  rw [if_neg q0] at hQ
  refine bnd_sI fun σ1 w1 v1 _ _ => ?_
  refine t_rd59 (w1.ok hT.ok) hk b3 v1 (fun σ2 w2 h2 => ?_) F 0 σ1 (by omega) (by omega) Tw.refl (fun j h => absurd h (by omega))
  have W2 : Tw GV t σ σ2 := (w1.mono (by decide)).trans (w2.mono (by decide))
  refine ⟨W2.ok hT.ok, bnd_sI fun σ3 w3 v3 _ _ => bnd_sI fun σ4 w4 v4 _ _ => ?_⟩
  have W4 : Tw GV t σ σ4 := (W2.up w3 (by decide)).up w4 (by decide)
  have W24 : Tw [2569, 2568, 2570, 2506] t σ σ4 := (((w1.mono (by decide)).up w2 (by decide)).up w3 (by decide)).up w4 (by decide)
  have hT4 : TM σ4 t S.1 := hT.1.1.tw W24 (by decide)
  have hX4 : TX σ4 t (txt S k) (S.2.1 3 k) := by
    refine ⟨⟨?_, b3⟩, fun i hi => ?_⟩
    · rw [w4.I (by decide), w3.I (by decide), w2.I (by decide)]; exact v1
    · rw [w4.A (by decide), w3.A (by decide), h2 i hi, w1.AJ (by decide), hT.2.1.2.2.1 _ (by omega)]; rfl
  have ha4 : At σ4 t 0 := ⟨by rw [w4.I (by decide)]; exact v3, v4⟩
  rw [hT4.1.2.2.1, hT4.1.2.2.2]
  have hlen := mst_inl (L := txt S k) (n := S.2.1 3 k)
  generalize hL : txt S k = L at hX4 hQ
  generalize hn : S.2.1 3 k = n at hX4 hQ b3
  have b162 : ∀ τ s' v b x2 x3, Tw GV t σ τ → TM τ t s' → OldR S.1 s' → oI τ 2506 t = eI v → x2 = nI (mN S.1) → x3 = nI (mG S.1) → b < 8 → (if oI τ 2506 t = (-1 : Int32) then (-7 : Int32) else (-6 : Int32)) = -nI b → (∀ τ', Tu t σ τ' → TT τ' t (noA (sF S v) b).2 → Q (noA (sF S v) b).1 τ') → b_X24_read_162 F t Q τ x2 x3 := by
    intro τ s' v b x2 x3 W h o ef ex2 ex3 hb8 eb hq
    unfold b_X24_read_162
    refine ⟨h.1.1, bnd_sI fun τ1 u1 z1 _ _ => bnd_sI fun τ2 u2 z2 _ _ => ?_⟩
    have U : Tw [2501, 2502] t τ τ2 := (u1.mono (by decide)).up u2 (by decide)
    have hm := tm_back h o U (by rw [u2.I (by decide), z1]; exact ex2) (by rw [z2]; exact ex3)
    have W' : Tw GV t σ τ2 := W.trans (U.mono (by decide))
    have e6 : oI τ2 2506 t = oI τ 2506 t := U.I (by decide)
    have hTT : TT τ2 t (sM (sF S v) S.1) := tt_rd hT W' (by decide) hm (fun _ _ => rfl) (by rw [e6]; exact ef)
    rw [e6, eb]
    exact t_no b hb8 rfl hTT (fun τ' k h => hq τ' (W'.tuT k) h)
  have b145 : ∀ τ s' v x2 x3 r, Tw GV t σ τ → TM τ t s' → OldR S.1 s' → oI τ 2506 t = eI v → v ≠ 0 → v < 1000 → x2 = nI (mN S.1) → x3 = nI (mG S.1) → (∀ τ', Tu t σ τ' → TT τ' t (noA (sF S v) 6).2 → Q (noA (sF S v) 6).1 τ') → b_X24_read_145 F t Q τ x2 x3 r := by
    intro τ s' v x2 x3 r W h o ef hv hv2 ex2 ex3 hq
    have en : ¬ oI τ 2506 t = (-1 : Int32) := by rw [ef]; exact eI_n hv2 hv
    unfold b_X24_read_145
    rw [if_neg en]
    exact ⟨h.1.1, b162 τ s' v 6 x2 x3 W h o ef ex2 ex3 (by decide) (by rw [if_neg en]; rfl) hq⟩
  refine t_readsA hb hs.2.2.2.1 (by omega) b3 30 σ4 S.1 0 _ hT4 hs l no (fun _ _ => rfl) (by omega) hX4 ha4 (by omega) (by omega) (fun z e6 hz τ s' w h o a6 r => ?_) (fun x e6 τ w h a6 => ?_)
  · rw [e6] at hQ
    dsimp only at hQ
    have W : Tw GV t σ τ := W4.trans (w.mono (by decide))
    rw [if_neg (show ¬ oI τ 2506 t = (-1 : Int32) by rw [a6]; exact nI_m1 (by omega))]
    exact b145 τ s' (z + 1) _ _ _ W h o a6 (by omega) (by omega) rfl rfl hQ
  · obtain ⟨x1, x2⟩ := x
    rw [e6] at hQ
    dsimp only at hQ a6
    have W : Tw GV t σ τ := W4.trans (w.mono (by decide))
    obtain ⟨⟨A1, A2, A3⟩, AO, A4, A5, A6, A7, A8, A9⟩ := tlr_ok b3 (fun p hp => (hb.1 p hp).2.2) hs.2.2.2.1 30 0 S.1 x1 x2 hs l no (fun _ _ => rfl) (by omega) (by omega) e6
    generalize tlr S.1 L n 30 0 S.1 = y at hQ h A1 A2 A3 AO A4 A5 A6 A7
    have hX := hX4.tw w (by decide)
    rw [a6.2, if_pos rfl, hX.1.1, a6.1]
    by_cases z : x1 < n
    · rw [if_pos z] at hQ
      rw [if_neg (nI_ge z (by omega))]
      refine bnd_sI fun τ1 u1 z1 _ _ => ?_
      exact b145 τ1 y.1 (x1 + 1) _ _ _ (W.up u1 (by decide)) (h.tw u1 (by decide)) AO z1 (by omega) (by omega) rfl rfl hQ
    · rw [if_neg z] at hQ
      rw [if_pos (nI_le (by omega) (by omega))]
      unfold b_X24_read_145
      rw [a6.2, if_pos rfl, h.1.2.2.1]
      refine ⟨h.1.1, ?_⟩
      by_cases z2 : 64 < mN y.1
      · rw [if_pos z2] at hQ
        rw [if_neg (show ¬ nI (mN y.1) ≤ (64 : Int32) from nI_ge (a := 64) z2 (by omega))]
        exact b162 τ y.1 0 7 _ _ W h AO a6.2 rfl rfl (by decide) (by rw [a6.2, if_pos rfl]; rfl) hQ
      · rw [if_neg z2] at hQ
        rw [if_pos (show nI (mN y.1) ≤ (64 : Int32) from nI_le (b := 64) (by omega) (by decide))]
        exact hQ τ W.tu (tt_rd hT W (by decide) h AO.1.2.2.2 a6.2)
end PT
