set_option linter.unusedVariables false
set_option maxRecDepth 10000
section PT
variable {σ τ : wS} {t F : Nat} {s : mS}
theorem t_told {Q : Int32 → wS → Prop} {k p x y : Nat} {X Y : Int32} (hT : TM σ t s) (hs : Sh s) (hN : mN s < 144) (hk : k < 7) (hp : p < 100) (hx : Im (k ≠ 1) (x < mG s ∧ X = nI x)) (hy : Im (5 ≤ k) (y < mG s ∧ Y = nI y)) (hF : 200 ≤ F)
    (h1 : ∀ e, lik s k p x y = some e → Q (nI (R s (s 6 e))) σ) (h2 : lik s k p x y = none → ∀ τ, Tw GM t σ τ → TM τ t (nwx s k p x y) → Q (nI (mG s)) τ) : w_X24_told F σ t (nI k) (nI p) X Y Q := by
  have hb := hs.1
  have hb2 := hs.2.1
  refine ⟨hT.1.1, t_alike hT hs hk hp hx hy hF ?_⟩
  cases h : lik s k p x y with
  | none =>
    rw [show oN none = (-1 : Int32) from rfl, if_pos rfl]
    exact t_adds hT hs hN hk hp hx hy hF (Or.inl ⟨rfl, rfl, fun τ w m => h2 h τ w (m _)⟩)
  | some e =>
    have he := lik_lt h
    rw [show oN (some e) = nI e from rfl, if_neg (nI_m1 (n := e) (by omega))]
    refine ⟨vp_in_nI (by omega) (by decide), ?_⟩
    rw [nI_clamp (by omega), (hT.2.1 e he).2.2.2.2.1]
    exact t_root hT hs (hs.2.2.2.2 e he).1 (by omega) (h1 e h)
abbrev GL : List Nat := [2530, 2531, 2532]
def LLs (σ : wS) (t : Nat) (s : mS) (i : Nat) : Prop := ∀ g, g < mG s → (lsu s i g = none → aI σ 2532 t g = -1) ∧ (∀ f, lsu s i g = some f → aI σ 2532 t g = nI f ∧ aI σ 2530 t g = nI (rwu s i g) ∧ aI σ 2531 t g = nI (s 9 g))
theorem lls_skip {i : Nat} (h : LLs σ t s i) (q : s 8 i ≠ 0 ∨ lsu s i (R s (s 6 i)) ≠ none) : LLs σ t s (i + 1) := by
  intro g hg
  have e : lsu s (i + 1) g = lsu s i g := by
    rw [lsu_succ]
    cases hh : lsu s i g with
    | some f => rfl
    | none =>
      refine if_neg (fun z => ?_)
      rcases q with q | q
      · exact q z.1
      · rw [z.2] at q; exact q hh
  have e2 : rwu s (i + 1) g = rwu s i g := by
    show (if lsu s i g = none ∧ s 8 i = 0 ∧ R s (s 6 i) = g then _ else rwu s i g) = _
    refine if_neg (fun z => ?_)
    rcases q with q | q
    · exact q z.2.1
    · rw [z.2.2] at q; exact q z.1
  rw [e, e2]
  exact h g hg
theorem lls_put {i : Nat} (h : LLs σ t s i) (h8 : s 8 i = 0) (hn : lsu s i (R s (s 6 i)) = none) (a30 : aI τ 2530 t = upd (aI σ 2530 t) (R s (s 6 i)) (nI (xrw s (rwu s i) i))) (a31 : aI τ 2531 t = upd (aI σ 2531 t) (R s (s 6 i)) (nI (s 9 (R s (s 6 i))))) (a32 : aI τ 2532 t = upd (aI σ 2532 t) (R s (s 6 i)) (nI i)) : LLs τ t s (i + 1) := by
  intro g hg
  rw [lsu_succ]
  by_cases q : R s (s 6 i) = g
  · subst q
    rw [hn]
    refine ⟨fun z => ?_, fun f hf => ?_⟩
    · simp [h8] at z
    · simp [h8] at hf
      subst hf
      refine ⟨by rw [a32, upd_s], ?_, by rw [a31, upd_s]⟩
      rw [a30, upd_s]
      show _ = nI (if lsu s i (R s (s 6 i)) = none ∧ s 8 i = 0 ∧ R s (s 6 i) = R s (s 6 i) then _ else _)
      rw [if_pos ⟨hn, h8, rfl⟩]
  · have e2 : rwu s (i + 1) g = rwu s i g := if_neg (fun z => q z.2.2)
    rw [a30, a31, a32, upd_n (Ne.symm q), upd_n (Ne.symm q), upd_n (Ne.symm q), e2]
    obtain ⟨k1, k2⟩ := h g hg
    cases hh : lsu s i g with
    | none =>
      simp only
      rw [if_neg (fun z => q z.2)]
      exact ⟨fun _ => k1 hh, fun f hf => (nomatch hf)⟩
    | some f => exact ⟨fun z => (nomatch z), fun f' hf => by cases hf; exact k2 f hh⟩
theorem shl1 : ∀ p, p < 8 → (1 : Int32) <<< (nI p &&& 31) = nI (2 ^ p) := by decide
theorem or_nI (a b : Nat) : nI a ||| nI b = nI (a ||| b) := by
  apply Int32.toBitVec_inj.mp
  show BitVec.ofNat 32 a ||| BitVec.ofNat 32 b = BitVec.ofNat 32 (a ||| b)
  exact (BitVec.ofNat_or ..).symm
def TL (σ : wS) (t : Nat) (s : mS) : Prop := ∀ g, g < mG s → R s g = g → aI σ 2530 t g = nI (rw' s g) ∧ aI σ 2531 t g = nI (s 9 g) ∧ ∃ f, lsu s (mN s) g = some f ∧ aI σ 2532 t g = nI f
theorem t_tells {Q : wS → Prop} (hT : TM σ t s) (hs : Sh s) (l : Lo s) (hb : Tb s) (hF : 200 ≤ F) (hQ : ∀ τ, Tw GL t σ τ → TL τ t s → Q τ) : w_X24_tells F σ t Q := by
  have b1 := hs.1
  have b2 := hs.2.1
  -- the second loop
  have key2 : ∀ n i τ, i ≤ mN s → mN s - i < n → Tw GL t σ τ → LLs τ t s i → l_X24_tells_25 F t Q n τ (nI i) := by
    intro n
    induction n with
    | zero => intro i τ _ h; omega
    | succ n ih =>
      intro i τ hi hn hw hL
      have T : TM τ t s := hT.tw hw (by decide)
      refine ⟨T.1.1, ?_⟩
      rw [T.1.2.2.1]
      by_cases c : mN s ≤ i
      · rw [if_pos (nI_le c (by omega))]
        have e : i = mN s := by omega
        subst e
        refine hQ τ hw (fun g hg hr => ?_)
        obtain ⟨e, h1, h2, h3⟩ := l.2.1 g hg
        obtain ⟨f, hf, -⟩ := lsu_of h1 h2 (h3.trans hr)
        obtain ⟨k1, k2, k3⟩ := (hL g hg).2 f hf
        exact ⟨k2, k3, f, hf, k1⟩
      · rw [if_neg (nI_ge (by omega) (by omega))]
        have hi' : i < mN s := by omega
        have e6 := (T.2.1 i hi').2.2.2.2.1
        have e8 := (T.2.1 i hi').2.2.2.2.2
        obtain ⟨d2, d3, d6, d8⟩ := sh_bnd hs hi'
        have B6 := sx_6 hs hi'
        have vi : vp_in (nI i) 144 := vp_in_nI (by omega) (by decide)
        have ci : (nI i).toNatClampNeg = i := nI_clamp (by omega)
        refine ⟨vi, ?_⟩
        rw [ci, e8]
        have nxt : ∀ υ, Tw GL t σ υ → LLs υ t s (i + 1) → l_X24_tells_25 F t Q n υ (nI i + 1) := fun υ w L => by
          rw [← nI_succ]; exact ih (i + 1) υ (by omega) (by omega) w L
        by_cases c8 : s 8 i = 0
        · rw [if_pos ((nI_n0 (by omega)).mpr c8), e6]
          refine t_root T hs B6 (by omega) ?_
          have hr := sh_lt hs B6
          have vr : vp_in (nI (R s (s 6 i))) 144 := vp_in_nI (by omega) (by decide)
          have cr : (nI (R s (s 6 i))).toNatClampNeg = R s (s 6 i) := nI_clamp (by omega)
          refine ⟨vr, ?_⟩
          rw [cr]
          cases hl : lsu s i (R s (s 6 i)) with
          | some f =>
            have := ((hL _ hr).2 f hl).1
            have hf := (lsu_some hl).1
            rw [this, if_neg (nI_m1 (by omega))]
            exact nxt τ hw (lls_skip hL (Or.inr (by rw [hl]; exact fun z => nomatch z)))
          | none =>
            rw [(hL _ hr).1 hl, if_pos rfl, e6]
            refine t_root T hs B6 (by omega) ⟨vr, bnd_sA fun σ1 w1 v1 o1 _ => ?_⟩
            rw [cr] at v1
            have W1 : Tw GL t σ σ1 := hw.up w1 (by decide)
            have T1 : TM σ1 t s := hT.tw W1 (by decide)
            have f2 := (T1.2.1 i hi').1
            have f3 := (T1.2.1 i hi').2.1
            have hin : s 2 i ≠ 1 → lsu s i (R s (s 4 i)) ≠ none := fun q => by
              obtain ⟨e', g1, g2, g3⟩ := (l.1 i hi' c8).1 q
              obtain ⟨f, hf, -⟩ := lsu_of g1 g2 g3
              rw [hf]; exact fun z => nomatch z
            have hin5 : 5 ≤ s 2 i → lsu s i (R s (s 5 i)) ≠ none := fun q => by
              obtain ⟨e', g1, g2, g3⟩ := (l.1 i hi' c8).2 q
              obtain ⟨f, hf, -⟩ := lsu_of g1 g2 g3
              rw [hf]; exact fun z => nomatch z
            have rd : ∀ g, g < mG s → lsu s i g ≠ none → aI σ1 2530 t g = nI (rwu s i g) ∧ aI σ1 2531 t g = nI (s 9 g) := by
              intro g hg hh
              cases hq : lsu s i g with
              | none => exact absurd hq hh
              | some f =>
                obtain ⟨k1, k2, k3⟩ := (hL g hg).2 f hq
                rw [w1.A (by decide), w1.A (by decide)]
                exact ⟨k2, k3⟩
            have rle := fun g (hh : lsu s i g ≠ none) => rwu_le hs l hb i (by omega) g hh
            -- the columns are written
            have put : ∀ X Y, Im (s 2 i ≠ 1) (X = R s (s 4 i)) → Im (5 ≤ s 2 i) (Y = R s (s 5 i)) → X < 144 → Y < 144 → ∀ r, max 1 r = xrw s (rwu s i) i → r < 2 ^ 31 → b_X24_tells_313 F t Q (l_X24_tells_25 F t Q n) σ1 (nI i) (nI (R s (s 6 i))) (nI X) (nI Y) (nI r) := by
              intro X Y hX hY hX' hY' r hrr hr31
              refine ⟨T1.1.1, vr, bnd_sA fun σ2 w2 v2 o2 _ => ⟨vi, ?_⟩⟩
              rw [cr] at v2
              have W2 : Tw GL t σ σ2 := W1.up w2 (by decide)
              have T2 : TM σ2 t s := hT.tw W2 (by decide)
              have m2 := (T2.2.1 i hi').1
              have m3 := (T2.2.1 i hi').2.1
              rw [ci, m2, m3]
              have cp : (nI (s 3 i)).toNatClampNeg = s 3 i := nI_clamp (by omega)
              have fin : ∀ v, v = nI (xc s (s 9) i) → b_X24_tells_410 F t Q (l_X24_tells_25 F t Q n) σ2 (nI i) (nI (R s (s 6 i))) v := by
                intro v hv
                refine ⟨T2.1.1, vr, bnd_sA fun σ3 w3 v3 o3 _ => nxt σ3 (W2.up w3 (by decide)) (lls_put hL c8 hl ?_ ?_ ?_)⟩
                · rw [w3.A (by decide), v2, w1.A (by decide)]
                  congr 1
                  rw [← hrr, nIl_1]
                  by_cases q : 1 < r
                  · rw [if_pos (nI_lt q hr31), Nat.max_eq_right (by omega)]
                  · rw [if_neg (nI_nlt (by omega) (by decide)), Nat.max_eq_left (by omega)]
                · rw [v3, cr, hv, w2.A (by decide), w1.A (by decide), (l.2.2.1 i hi' c8).1]
                · rw [w3.A (by decide), w2.A (by decide), v1]
              have rd2 : ∀ g, g < mG s → lsu s i g ≠ none → aI σ2 2531 t g = nI (s 9 g) := fun g hg hh => by rw [w2.A (by decide)]; exact (rd g hg hh).2
              have cX : (nI X).toNatClampNeg = X := nI_clamp (by omega)
              have cY : (nI Y).toNatClampNeg = Y := nI_clamp (by omega)
              by_cases q1 : s 2 i = 1
              · rw [if_pos (by rw [q1]; rfl)]
                have := hs.2.2.2.1
                have h3 := sx_p1 hs hi' q1
                refine ⟨vp_in_nI (by omega) (by decide), fin _ ?_⟩
                rw [cp, (T2.2.2.2.1 _ h3).2]
                unfold xc
                rw [if_pos q1]
              · rw [if_neg (show ¬ nI (s 2 i) = (1 : Int32) from fun z => q1 ((nI_eq (b := 1) (by omega) (by decide)).mp z))]
                have gx := sh_lt hs (sx_4 hs hi' q1)
                by_cases q4 : s 2 i = 4
                · rw [if_pos (by rw [q4]; rfl)]
                  refine fin _ ?_
                  unfold xc
                  rw [if_neg q1, if_pos q4, shl1 _ d3]
                · rw [if_neg (show ¬ nI (s 2 i) = (4 : Int32) from fun z => q4 ((nI_eq (b := 4) (by omega) (by decide)).mp z))]
                  by_cases q5 : s 2 i = 5
                  · rw [if_pos (by rw [q5]; rfl)]
                    have gy := sh_lt hs (sx_5 hs hi' (by omega))
                    refine ⟨vp_in_nI hX' (by decide), vp_in_nI hY' (by decide), fin _ ?_⟩
                    rw [cX, cY, hX q1, hY (by omega), rd2 _ gx (hin q1), rd2 _ gy (hin5 (by omega)), or_nI]
                    unfold xc
                    rw [if_neg q1, if_neg q4, if_pos q5]
                  · rw [if_neg (show ¬ nI (s 2 i) = (5 : Int32) from fun z => q5 ((nI_eq (b := 5) (by omega) (by decide)).mp z))]
                    refine ⟨vp_in_nI hX' (by decide), fin _ ?_⟩
                    rw [cX, hX q1, rd2 _ gx (hin q1)]
                    unfold xc
                    rw [if_neg q1, if_neg q4, if_neg q5]
            -- the rows
            have rows : ∀ X Y, Im (s 2 i ≠ 1) (X = R s (s 4 i)) → Im (5 ≤ s 2 i) (Y = R s (s 5 i)) → X < 144 → Y < 144 → ∀ B, B < 2 ^ 62 → Im (5 ≤ s 2 i) (B = rwu s i (R s (s 4 i)) * rwu s i (R s (s 5 i)) / s 15 (s 3 i)) → b_X24_tells_176 F t Q (l_X24_tells_25 F t Q n) σ1 (nI i) (nI (R s (s 6 i))) (nI X) (nI Y) (lN B) := by
              intro X Y hX hY hX' hY' B hB hB5
              have hj : ((if (if lN B < (1000000 : Int64) then lN B else (1000000 : Int64)) < (1 : Int64) then (1 : Int64) else (if lN B < (1000000 : Int64) then lN B else (1000000 : Int64))).toInt32) = nI (max 1 (min 1000000 B)) := by
                have l1 : (1000000 : Int64) = lN 1000000 := rfl
                have l2 : (1 : Int64) = lN 1 := rfl
                rw [l1, l2]
                by_cases q : B < 1000000
                · rw [if_pos ((pk_lLT (by omega) (by decide)).mpr q)]
                  by_cases q2 : B < 1
                  · rw [if_pos ((pk_lLT (by omega) (by decide)).mpr q2), lN_i]; congr 1; omega
                  · rw [if_neg (fun z => q2 ((pk_lLT (by omega) (by decide)).mp z)), lN_i]; congr 1; omega
                · rw [if_neg (fun z => q ((pk_lLT (by omega) (by decide)).mp z)), if_neg (fun z => absurd ((pk_lLT (by decide) (by decide)).mp z) (by decide)), lN_i]; congr 1; omega
              unfold b_X24_tells_176
              rw [hj, bnd_eq]
              refine ⟨T1.1.1, vi, ?_⟩
              rw [ci, f2, f3]
              have cp : (nI (s 3 i)).toNatClampNeg = s 3 i := nI_clamp (by omega)
              have cX : (nI X).toNatClampNeg = X := nI_clamp (by omega)
              have JN : Im (5 ≤ s 2 i) (max 1 (min 1000000 B) = jn s (rwu s i) i) := fun q => by rw [hB5 q]; rfl
              by_cases q1 : s 2 i = 1
              · rw [if_pos (by rw [q1]; rfl)]
                have := hs.2.2.2.1
                have h3 := sx_p1 hs hi' q1
                refine ⟨vp_in_nI (by omega) (by decide), ?_⟩
                rw [cp, (T1.2.2.2.1 _ h3).1]
                have := (hb.1 _ h3).1
                refine put X Y hX hY hX' hY' _ ?_ (by omega)
                unfold xrw
                rw [if_pos q1]; omega
              · rw [if_neg (show ¬ nI (s 2 i) = (1 : Int32) from fun z => q1 ((nI_eq (b := 1) (by omega) (by decide)).mp z))]
                have gx := sh_lt hs (sx_4 hs hi' q1)
                have hrx := rle _ (hin q1)
                have rdx : aI σ1 2530 t X = nI (rwu s i (R s (s 4 i))) := by rw [hX q1]; exact (rd _ gx (hin q1)).1
                have vX : vp_in (nI X) 144 := vp_in_nI hX' (by decide)
                by_cases q3 : s 2 i = 3
                · rw [if_pos (by rw [q3]; rfl)]
                  have hev : (nI (s 3 i) - nI (s 3 i) / (2 : Int32) * (2 : Int32)) = nI (s 3 i % 2) := pk_rem (by omega) (by decide) (by decide)
                  rw [hev, cX, rdx]
                  by_cases qe : s 3 i % 2 = 0
                  · rw [if_pos (by rw [qe]; rfl)]
                    refine ⟨vX, by decide, ?_⟩
                    rw [show (10 : Int32) = nI 10 from rfl, pk_div (by omega) (by decide) (by decide)]
                    refine put X Y hX hY hX' hY' _ ?_ (by omega)
                    unfold xrw
                    rw [if_neg q1, if_pos q3, if_pos qe]
                  · rw [if_neg (fun z => qe ((nI_n0 (by omega)).mp z))]
                    refine ⟨vX, by decide, ?_⟩
                    rw [show (2 : Int32) = nI 2 from rfl, pk_div (by omega) (by decide) (by decide)]
                    refine put X Y hX hY hX' hY' _ ?_ (by omega)
                    unfold xrw
                    rw [if_neg q1, if_pos q3, if_neg qe]
                · rw [if_neg (show ¬ nI (s 2 i) = (3 : Int32) from fun z => q3 ((nI_eq (b := 3) (by omega) (by decide)).mp z))]
                  by_cases q4 : s 2 i = 4
                  · rw [if_pos (by rw [q4]; rfl)]
                    have h3 := sx_p4 hs hi' (by omega)
                    have hd := hb.2 _ h3
                    refine ⟨vX, vp_in_nI h3 (by decide), ?_⟩
                    rw [cp, cX, rdx, T1.2.2.2.2 _ h3]
                    have em : (if nI (s 15 (s 3 i)) < nI (rwu s i (R s (s 4 i))) then nI (s 15 (s 3 i)) else nI (rwu s i (R s (s 4 i)))) = nI (min (rwu s i (R s (s 4 i))) (s 15 (s 3 i))) := by
                      by_cases q : s 15 (s 3 i) < rwu s i (R s (s 4 i))
                      · rw [if_pos (nI_lt q (by omega))]; congr 1; omega
                      · rw [if_neg (nI_nlt (by omega) (by omega))]; congr 1; omega
                    rw [em]
                    refine put X Y hX hY hX' hY' _ ?_ (by omega)
                    unfold xrw
                    rw [if_neg q1, if_neg q3, if_pos q4]; omega
                  · rw [if_neg (show ¬ nI (s 2 i) = (4 : Int32) from fun z => q4 ((nI_eq (b := 4) (by omega) (by decide)).mp z))]
                    by_cases q5 : s 2 i = 5
                    · rw [if_pos (by rw [q5]; rfl), JN (by omega)]
                      have : 1 ≤ jn s (rwu s i) i ∧ jn s (rwu s i) i ≤ 1000000 := by unfold jn; omega
                      refine put X Y hX hY hX' hY' _ ?_ (by omega)
                      unfold xrw
                      rw [if_neg q1, if_neg q3, if_neg q4, if_pos q5]; omega
                    · rw [if_neg (show ¬ nI (s 2 i) = (5 : Int32) from fun z => q5 ((nI_eq (b := 5) (by omega) (by decide)).mp z)), JN (by have := sx_2 hs hi'; omega)]
                      have : 1 ≤ jn s (rwu s i) i ∧ jn s (rwu s i) i ≤ 1000000 := by unfold jn; omega
                      refine ⟨vX, ?_⟩
                      rw [cX, rdx]
                      have em : (if nI (jn s (rwu s i) i) < nI (rwu s i (R s (s 4 i))) then nI (jn s (rwu s i) i) else nI (rwu s i (R s (s 4 i)))) = nI (min (rwu s i (R s (s 4 i))) (jn s (rwu s i) i)) := by
                        by_cases q : jn s (rwu s i) i < rwu s i (R s (s 4 i))
                        · rw [if_pos (nI_lt q (by omega))]; congr 1; omega
                        · rw [if_neg (nI_nlt (by omega) (by omega))]; congr 1; omega
                      rw [em]
                      refine put X Y hX hY hX' hY' _ ?_ (by omega)
                      unfold xrw
                      rw [if_neg q1, if_neg q3, if_neg q4, if_neg q5]; omega
            have both : ∀ X Y, Im (s 2 i ≠ 1) (X = R s (s 4 i)) → Im (5 ≤ s 2 i) (Y = R s (s 5 i)) → X < 144 → Y < 144 → b_X24_tells_131 F t Q (l_X24_tells_25 F t Q n) σ1 (nI i) (nI (R s (s 6 i))) (nI X) (nI Y) := by
              intro X Y hX hY hX' hY'
              refine ⟨T1.1.1, vi, ?_⟩
              rw [ci, f2, f3, nIl_5]
              by_cases q : s 2 i < 5
              · rw [if_pos (nI_lt q (by decide))]
                exact rows X Y hX hY hX' hY' 0 (by decide) (fun z => by omega)
              · rw [if_neg (nI_nlt (by omega) (by omega))]
                have q1 : s 2 i ≠ 1 := by omega
                have h3 := sx_p4 hs hi' (by omega)
                have hd := hb.2 _ h3
                have gx := sh_lt hs (sx_4 hs hi' q1)
                have gy := sh_lt hs (sx_5 hs hi' (by omega))
                have hrx := rle _ (hin q1)
                have hry := rle _ (hin5 (by omega))
                refine ⟨vp_in_nI hX' (by decide), vp_in_nI hY' (by decide), vp_in_nI h3 (by decide), ?_⟩
                rw [nI_clamp (n := X) (by omega), nI_clamp (n := Y) (by omega), nI_clamp (n := s 3 i) (by omega), T1.2.2.2.2 _ h3, hX q1, hY (by omega), (rd _ gx (hin q1)).1, (rd _ gy (hin5 (by omega))).1, nI_l (by omega), nI_l (by omega), nI_l (by omega), lN_mul]
                have hm : rwu s i (R s (s 4 i)) * rwu s i (R s (s 5 i)) ≤ 1000000 * 1000000 := Nat.mul_le_mul hrx.2 hry.2
                refine ⟨fun z => ?_, ?_⟩
                · have := (pk_lEQ (b := 0) (by omega) (by decide)).mp z
                  omega
                · rw [pk_lDiv (by omega) (by omega) (by omega)]
                  have hd2 : rwu s i (R s (s 4 i)) * rwu s i (R s (s 5 i)) / s 15 (s 3 i) ≤ rwu s i (R s (s 4 i)) * rwu s i (R s (s 5 i)) := Nat.div_le_self _ _
                  refine rows _ _ (fun _ => rfl) (fun _ => rfl) (by omega) (by omega) _ (by omega) (fun _ => rfl)
            have rgt : ∀ X, Im (s 2 i ≠ 1) (X = R s (s 4 i)) → X < 144 → b_X24_tells_106 F t Q (l_X24_tells_25 F t Q n) σ1 (nI i) (nI (R s (s 6 i))) (nI X) := by
              intro X hX hX'
              refine ⟨T1.1.1, vi, ?_⟩
              rw [ci, f2, nIl_5]
              by_cases q : s 2 i < 5
              · rw [if_pos (nI_lt q (by decide))]
                exact both X 0 hX (fun z => by omega) hX' (by decide)
              · rw [if_neg (nI_nlt (by omega) (by omega)), (T1.2.1 i hi').2.2.2.1 (by omega)]
                have gy := sh_lt hs (sx_5 hs hi' (by omega))
                exact t_root T1 hs (sx_5 hs hi' (by omega)) (by omega) (both X _ hX (fun _ => rfl) hX' (by omega))
            rw [f2]
            by_cases q1 : s 2 i = 1
            · rw [if_pos (by rw [q1]; rfl)]
              exact rgt 0 (fun z => absurd q1 z) (by decide)
            · rw [if_neg (show ¬ nI (s 2 i) = (1 : Int32) from fun z => q1 ((nI_eq (b := 1) (by omega) (by decide)).mp z)), (T1.2.1 i hi').2.2.1 q1]
              have gx := sh_lt hs (sx_4 hs hi' q1)
              exact t_root T1 hs (sx_4 hs hi' q1) (by omega) (rgt _ (fun _ => rfl) (by omega))
        · rw [if_neg (fun z => c8 ((nI_n0 (by omega)).mp z))]
          exact nxt τ hw (lls_skip hL (Or.inl c8))
  -- the first loop
  have key1 : ∀ n g τ, g ≤ mG s → mG s - g < n → Tw GL t σ τ → (∀ x, x < g → aI τ 2532 t x = -1) → l_X24_tells_2 F t Q (fun σ9 => l_X24_tells_25 F t Q F σ9 (0 : Int32)) n τ (nI g) := by
    intro n
    induction n with
    | zero => intro g τ _ h; omega
    | succ n ih =>
      intro g τ hg hn hw hL
      have T : TM τ t s := hT.tw hw (by decide)
      refine ⟨T.1.1, ?_⟩
      rw [T.1.2.2.2]
      by_cases c : mG s ≤ g
      · rw [if_pos (nI_le c (by omega))]
        refine key2 F 0 τ (Nat.zero_le _) (by omega) hw (fun x hx => ⟨fun _ => hL x (by omega), fun f hf => ?_⟩)
        exact absurd (lsu_some hf).1 (by omega)
      · rw [if_neg (nI_ge (by omega) (by omega))]
        refine ⟨vp_in_nI (by omega) (by decide), bnd_sA fun σ1 w1 v1 o1 _ => ?_⟩
        rw [nI_clamp (by omega)] at v1
        rw [← nI_succ]
        refine ih (g + 1) σ1 (by omega) (by omega) (hw.up w1 (by decide)) (fun x hx => ?_)
        rw [v1]
        by_cases q : x = g
        · rw [q, upd_s]
        · rw [upd_n q]; exact hL x (by omega)
  exact key1 F 0 σ (Nat.zero_le _) (by omega) Tw.refl (fun x hx => by omega)
end PT
