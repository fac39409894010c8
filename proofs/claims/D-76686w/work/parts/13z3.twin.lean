set_option linter.unusedVariables false
set_option maxRecDepth 10000
/-! ===== twin: trees, draws, what stands ===== -/
section PT
variable {σ τ υ : wS} {t F : Nat} {s : mS} {S : gS}
theorem hgs_le {f : Nat → Nat} {g : Nat} : ∀ e, hgs s f e g ≤ TRS := by
  intro e
  induction e with
  | zero => exact Nat.zero_le _
  | succ e ih =>
    unfold hgs
    split
    · exact Nat.min_le_left _ _
    · exact ih
theorem tre_le : ∀ n g, tre s n g ≤ TRS := by
  intro n g
  cases n with
  | zero => exact Nat.zero_le _
  | succ n => exact hgs_le _
theorem xtr_le {f : Nat → Nat} {e : Nat} (h : ∀ g, f g ≤ TRS) : xtr s f e ≤ TRS := by
  unfold xtr
  split
  · decide
  · split
    · exact h _
    · exact Nat.min_le_left _ _
theorem TRe : TRS = 1000000000 := rfl
def WJ (σ : wS) (t g n : Nat) (f : Nat → Nat) : Prop := ∀ i, i < n → aJ σ g t i = lN (f i)
theorem WJ.tw {G : List Nat} {g n : Nat} {f : Nat → Nat} (h : WJ σ t g n f) (k : Tw G t σ τ) (d : g ∉ G) : WJ τ t g n f := fun i hi => by rw [k.AJ d]; exact h i hi
abbrev GY : List Nat := [12577, 12578]
theorem t_y34 {Q : Int32 → wS → Prop} {kk : wS → Prop} {a1 a2 : Int32} {σ0 : wS} (hT : TM σ0 t s) (hG : mG s ≤ 144) (hQ : ∀ τ, Tw GY t σ0 τ → WJ τ t 12577 (mG s) (fun _ => 0) → kk τ) : ∀ n x σ, x ≤ mG s → mG s - x < n → Tw GY t σ0 σ → WJ σ t 12577 x (fun _ => 0) → l_X24_trees_34 F t a1 a2 Q kk n σ (nI x) := by
  intro n
  induction n with
  | zero => intro x σ h1 h2; omega
  | succ n ih =>
    intro x σ h1 h2 w h
    unfold l_X24_trees_34
    rw [w.I (by decide), hT.1.2.2.2]
    refine ⟨w.ok hT.1.1, ?_⟩
    by_cases q : x = mG s
    · rw [if_pos (nI_le (by omega) (by omega))]
      rw [q] at h
      exact hQ σ w h
    · rw [if_neg (nI_ge (by omega) (by omega)), nI_clamp (by omega)]
      refine ⟨vp_inN (by omega) (by decide), bnd_sAJ fun τ w1 v1 _ _ => ?_⟩
      rw [nIl_1, nI_add]
      refine ih (x + 1) τ (by omega) (by omega) (w.up w1 (by decide)) (fun i hi => ?_)
      rw [v1]
      by_cases z : i = x
      · rw [z, updL_s]; rfl
      · rw [updL_n z]; exact h i (by omega)
theorem t_y65 {Q : Int32 → wS → Prop} {kk : wS → Int32 → Prop} {a1 a2 x3 : Int32} {σ0 : wS} {f : Nat → Nat} (hT : TM σ0 t s) (hf : WJ σ0 t 12577 (mG s) f) (hG : mG s ≤ 144) (hQ : ∀ τ, Tw GY t σ0 τ → WJ τ t 12577 (mG s) f → WJ τ t 12578 (mG s) (fun _ => 0) → kk τ x3) : ∀ n x σ, x ≤ mG s → mG s - x < n → Tw GY t σ0 σ → WJ σ t 12577 (mG s) f → WJ σ t 12578 x (fun _ => 0) → l_X24_trees_65 F t a1 a2 Q kk n σ x3 (nI x) := by
  intro n
  induction n with
  | zero => intro x σ h1 h2; omega
  | succ n ih =>
    intro x σ h1 h2 w h7 h
    unfold l_X24_trees_65
    rw [w.I (by decide), hT.1.2.2.2]
    refine ⟨w.ok hT.1.1, ?_⟩
    by_cases q : x = mG s
    · rw [if_pos (nI_le (by omega) (by omega))]
      rw [q] at h
      exact hQ σ w h7 h
    · rw [if_neg (nI_ge (by omega) (by omega)), nI_clamp (by omega)]
      refine ⟨vp_inN (by omega) (by decide), bnd_sAJ fun τ w1 v1 _ _ => ?_⟩
      rw [nIl_1, nI_add]
      refine ih (x + 1) τ (by omega) (by omega) (w.up w1 (by decide)) (h7.tw w1 (by decide)) (fun i hi => ?_)
      rw [v1]
      by_cases z : i = x
      · rw [z, updL_s]; rfl
      · rw [updL_n z]; exact h i (by omega)
theorem t_y249 {Q : Int32 → wS → Prop} {kk : wS → Int32 → Prop} {a1 a2 x3 : Int32} {σ0 : wS} {f : Nat → Nat} (hT : TM σ0 t s) (hG : mG s ≤ 144) (hQ : ∀ τ, Tw GY t σ0 τ → WJ τ t 12577 (mG s) f → kk τ x3) : ∀ n x σ, x ≤ mG s → mG s - x < n → Tw GY t σ0 σ → WJ σ t 12578 (mG s) f → WJ σ t 12577 x f → l_X24_trees_249 F t a1 a2 Q kk n σ x3 (nI x) := by
  intro n
  induction n with
  | zero => intro x σ h1 h2; omega
  | succ n ih =>
    intro x σ h1 h2 w h8 h
    unfold l_X24_trees_249
    rw [w.I (by decide), hT.1.2.2.2]
    refine ⟨w.ok hT.1.1, ?_⟩
    by_cases q : x = mG s
    · rw [if_pos (nI_le (by omega) (by omega))]
      rw [q] at h
      exact hQ σ w h
    · rw [if_neg (nI_ge (by omega) (by omega)), nI_clamp (by omega)]
      refine ⟨vp_inN (by omega) (by decide), bnd_sAJ fun τ w1 v1 _ _ => ?_⟩
      rw [nIl_1, nI_add]
      refine ih (x + 1) τ (by omega) (by omega) (w.up w1 (by decide)) (h8.tw w1 (by decide)) (fun i hi => ?_)
      rw [v1]
      by_cases z : i = x
      · rw [z, updL_s]; exact h8 x (by omega)
      · rw [updL_n z]; exact h i (by omega)
theorem t_y91 {Q : Int32 → wS → Prop} {kk : wS → Int32 → Prop} {a1 a2 x3 : Int32} {σ0 : wS} {f : Nat → Nat} (hT : TM σ0 t s) (hs : Sh s) (hN : mN s ≤ 64) (hF : 200 ≤ F) (hf : ∀ g, f g ≤ TRS) (hQ : ∀ τ, Tw GY t σ0 τ → WJ τ t 12577 (mG s) f → WJ τ t 12578 (mG s) (hgs s f (mN s)) → kk τ x3) : ∀ n e σ, e ≤ mN s → mN s - e < n → Tw GY t σ0 σ → WJ σ t 12577 (mG s) f → WJ σ t 12578 (mG s) (hgs s f e) → l_X24_trees_91 F t a1 a2 Q kk n σ x3 (nI e) := by
  have hG := hs.2.1
  have tr := TRe
  intro n
  induction n with
  | zero => intro e σ h1 h2; omega
  | succ n ih =>
    intro e σ h1 h2 w h7 h8
    have hT' := hT.tw w (by decide)
    unfold l_X24_trees_91
    rw [hT'.1.2.2.1]
    refine ⟨hT'.1.1, ?_⟩
    by_cases q : e = mN s
    · rw [if_pos (nI_le (by omega) (by omega))]
      rw [q] at h8
      exact hQ σ w h7 h8
    have he : e < mN s := by omega
    obtain ⟨m1, m2, m3, m4, m5, m6⟩ := hT'.2.1 _ he
    obtain ⟨s1, s2, s3, s4⟩ := sh_bnd hs he
    have r6 := sh_lt hs s3
    rw [if_neg (nI_ge he (by omega)), nI_clamp (by omega), m6, m1]
    refine ⟨vp_inN (by omega) (by decide), ?_⟩
    by_cases g8 : s 8 e = 0
    · rw [if_pos (by rw [g8]; rfl)]
      have b197 : ∀ v, v = lN (xtr s f e) → b_X24_trees_197 F t a1 a2 Q (l_X24_trees_91 F t a1 a2 Q kk n) kk σ x3 (nI e) v := by
        intro v hv
        have hx := xtr_le (s := s) (e := e) hf
        have hh := hgs_le (s := s) (f := f) (g := R s (s 6 e)) e
        unfold b_X24_trees_197
        rw [nI_clamp (by omega), m5]
        refine ⟨hT'.1.1, vp_inN (by omega) (by decide), t_root hT' hs s3 (by omega) ?_⟩
        rw [m5]
        refine t_root hT' hs s3 (by omega) ⟨vp_inN (by omega) (by decide), vp_inN (by omega) (by decide), ?_⟩
        rw [nI_clamp (by omega), h8 _ r6, hv, lN_add, show (1000000000 : Int64) = lN TRS from rfl]
        have em : (if lN (hgs s f e (R s (s 6 e)) + xtr s f e) < lN TRS then lN (hgs s f e (R s (s 6 e)) + xtr s f e) else lN TRS) = lN (min TRS (hgs s f e (R s (s 6 e)) + xtr s f e)) := by
          by_cases z : hgs s f e (R s (s 6 e)) + xtr s f e < TRS
          · rw [if_pos ((pk_lLT (by omega) (by omega)).mpr z), Nat.min_eq_right (by omega)]
          · rw [if_neg (fun y => z ((pk_lLT (by omega) (by omega)).mp y)), Nat.min_eq_left (by omega)]
        rw [em]
        refine bnd_sAJ fun τ w1 v1 _ _ => ?_
        rw [nIl_1, nI_add]
        refine ih (e + 1) τ (by omega) (by omega) (w.up w1 (by decide)) (h7.tw w1 (by decide)) (fun i hi => ?_)
        rw [v1]
        show _ = lN (if s 8 e = 0 ∧ R s (s 6 e) = i then min TRS (hgs s f e i + xtr s f e) else hgs s f e i)
        by_cases z : i = R s (s 6 e)
        · rw [if_pos ⟨g8, z.symm⟩, z, updL_s]
        · rw [if_neg (fun y => z y.2.symm), updL_n z]
          exact h8 i hi
      by_cases k1 : s 2 e = 1
      · rw [if_pos (by rw [k1]; rfl)]
        exact b197 1 (by unfold xtr; rw [if_pos k1]; rfl)
      rw [if_neg (show ¬ nI (s 2 e) = (1 : Int32) from nI_eqf (b := 1) (by omega) (by decide) k1), m3 k1]
      have x4 := sx_4 hs he k1
      have r4 := sh_lt hs x4
      have f4 := hf (R s (s 4 e))
      by_cases k5 : 5 ≤ s 2 e
      · have x5 := sx_5 hs he k5
        have r5 := sh_lt hs x5
        have f5 := hf (R s (s 5 e))
        rw [if_pos (show (5 : Int32) ≤ nI (s 2 e) from nI_le (a := 5) k5 (by omega))]
        refine t_root hT' hs x4 (by omega) ⟨vp_inN (by omega) (by decide), ?_⟩
        rw [m4 k5]
        refine t_root hT' hs x5 (by omega) ⟨vp_inN (by omega) (by decide), b197 _ ?_⟩
        rw [nI_clamp (by omega), nI_clamp (by omega), h7 _ r4, h7 _ r5, lN_mul, show (1000000000 : Int64) = lN TRS from rfl]
        unfold xtr
        rw [if_neg k1, if_neg (show ¬ s 2 e < 5 by omega)]
        have hp : f (R s (s 4 e)) * f (R s (s 5 e)) ≤ TRS * TRS := Nat.mul_le_mul f4 f5
        have hp2 : TRS * TRS = 1000000000000000000 := rfl
        generalize f (R s (s 4 e)) * f (R s (s 5 e)) = y at hp ⊢
        by_cases z : y < TRS
        · rw [if_pos ((pk_lLT (by omega) (by omega)).mpr z), Nat.min_eq_right (by omega)]
        · rw [if_neg (fun q => z ((pk_lLT (by omega) (by omega)).mp q)), Nat.min_eq_left (by omega)]
      · rw [if_neg (show ¬ (5 : Int32) ≤ nI (s 2 e) from nI_ge (b := 5) (by omega) (by decide))]
        refine t_root hT' hs x4 (by omega) ⟨vp_inN (by omega) (by decide), b197 _ ?_⟩
        rw [nI_clamp (by omega), h7 _ r4]
        unfold xtr
        rw [if_neg k1, if_pos (show s 2 e < 5 by omega)]
    · rw [if_neg (show ¬ nI (s 8 e) = (0 : Int32) from nI_eqf (b := 0) (by omega) (by decide) g8), nIl_1, nI_add]
      refine ih (e + 1) σ (by omega) (by omega) w h7 (fun i hi => ?_)
      show _ = lN (if s 8 e = 0 ∧ R s (s 6 e) = i then min TRS (hgs s f e i + xtr s f e) else hgs s f e i)
      rw [if_neg (fun y => g8 y.1)]
      exact h8 i hi
theorem t_y57 {Q : Int32 → wS → Prop} {kk : wS → Prop} {a1 : Int32} {d : Nat} {σ0 : wS} (hT : TM σ0 t s) (hs : Sh s) (hN : mN s ≤ 64) (hF : 200 ≤ F) (hd : d ≤ 12) (hQ : ∀ τ, Tw GY t σ0 τ → WJ τ t 12577 (mG s) (tre s d) → kk τ) : ∀ n x σ, x ≤ d → d - x < n → Tw GY t σ0 σ → WJ σ t 12577 (mG s) (tre s x) → l_X24_trees_57 F t a1 (nI d) Q kk n σ (nI x) := by
  have hG := hs.2.1
  intro n
  induction n with
  | zero => intro x σ h1 h2; omega
  | succ n ih =>
    intro x σ h1 h2 w h
    unfold l_X24_trees_57
    by_cases q : x = d
    · rw [if_pos (nI_le (by omega) (by omega))]
      rw [q] at h
      exact hQ σ w h
    · rw [if_neg (nI_ge (by omega) (by omega))]
      have hT1 := hT.tw w (by decide)
      refine t_y65 hT1 h (by omega) (fun τ1 w1 a1 b1 => ?_) F 0 σ (by omega) (by omega) Tw.refl h (fun i hi => absurd hi (by omega))
      have hT2 := hT1.tw w1 (by decide)
      refine t_y91 hT2 hs hN hF (tre_le x) (fun τ2 w2 a2 b2 => ?_) F 0 τ1 (by omega) (by omega) Tw.refl a1 b1
      have hT3 := hT2.tw w2 (by decide)
      refine t_y249 (f := tre s (x + 1)) hT3 (by omega) (fun τ3 w3 a3 => ?_) F 0 τ2 (by omega) (by omega) Tw.refl b2 (fun i hi => absurd hi (by omega))
      rw [nIl_1, nI_add]
      exact ih (x + 1) τ3 (by omega) (by omega) (((w.trans w1).trans w2).trans w3) a3
theorem t_trees {Q : Int32 → wS → Prop} {a b : Int32} (hT : TT σ t S) (hM : MV S.1) (hF : 1000 ≤ F) (hQ : ∀ τ, Tu t σ τ → TT τ t (o_trees S a b).2 → Q (o_trees S a b).1 τ) : w_X24_trees F σ t a b Q := by
  obtain ⟨⟨hs, l, n⟩, ⟨hb, -⟩, hN⟩ := hM
  have hG := hs.2.1
  unfold w_X24_trees
  refine ⟨hT.ok, t_isGroup hT.1.1 (by omega) (fun ea => ?_) (fun g hg ha ea => ?_)⟩
  · have e2 : o_trees S a b = noA S 1 := by unfold o_trees; rw [ea]
    rw [e2] at hQ
    rw [if_pos rfl]
    exact t_no 1 (by decide) rfl hT hQ
  rw [if_neg (by decide)]
  refine t_isFrom (N := 12) (by decide) rfl (fun eb => ?_) (fun d hd hb' eb => ?_)
  · have e2 : o_trees S a b = noA S 6 := by unfold o_trees; rw [ea]; dsimp only; rw [eb]
    rw [e2] at hQ
    rw [if_pos rfl]
    exact t_no 6 (by decide) rfl hT hQ
  have e2 : o_trees S a b = (nI (tre S.1 d (R S.1 g)), S) := by unfold o_trees; rw [ea]; dsimp only; rw [eb]
  rw [e2] at hQ
  rw [if_neg (by decide), ha, hb']
  refine t_y34 hT.1.1 (by omega) (fun τ1 w1 h1 => ?_) F 0 σ (by omega) (by omega) Tw.refl (fun i hi => absurd hi (by omega))
  have hT1 := hT.tw w1 (by decide)
  refine t_y57 (d := d) hT1.1.1 hs hN (by omega) (by omega) (fun τ2 w2 h2 => ?_) F 0 τ1 (by omega) (by omega) Tw.refl h1
  have hT2 := hT1.tw w2 (by decide)
  have rg := sh_lt hs hg
  refine ⟨hT2.ok, t_root hT2.1.1 hs hg (by omega) ⟨vp_inN (by omega) (by decide), ?_⟩⟩
  rw [nI_clamp (by omega), h2 _ rg, lN_i]
  exact hQ τ2 (w1.tuT w2.tu) hT2
/-! draws -/
theorem nI_md (x : Nat) : nI (x % 4294967296) = nI x := by
  apply Int32.toBitVec_inj.mp
  show BitVec.ofNat 32 (x % 4294967296) = BitVec.ofNat 32 x
  apply BitVec.eq_of_toNat_eq
  simp only [BitVec.toNat_ofNat]
  omega
theorem nI_bv (v : Int32) : nI v.toBitVec.toNat = v := by
  apply Int32.toBitVec_inj.mp
  show BitVec.ofNat 32 v.toBitVec.toNat = v.toBitVec
  apply BitVec.eq_of_toNat_eq
  rw [BitVec.toNat_ofNat]
  exact Nat.mod_eq_of_lt v.toBitVec.isLt
theorem t_draw {Q : Int32 → wS → Prop} {n b : Nat} {B : Int32} (ok : ok24 σ t) (e : oI σ 2505 t = nI n) (hB : B = nI b) (hb : 0 < b) (hb2 : b < 1000) (hQ : ∀ τ, Tw [2505] t σ τ → oI τ 2505 t = nI (dsd n) → Q (nI (drw (dsd n) b)) τ) : w_X24_draw σ t B Q := by
  unfold w_X24_draw
  rw [e, hB]
  refine ⟨ok, bnd_sI fun τ w v _ _ => ?_⟩
  have ev : oI τ 2505 t = nI (dsd n) := by
    rw [v, show (1103515245 : Int32) = nI 1103515245 from rfl, show (12345 : Int32) = nI 12345 from rfl, nI_mul, nI_add, ← nI_md]; rfl
  have hd : dsd n < 4294967296 := Nat.mod_lt _ (by decide)
  rw [ev, pk_ushrN (k := 16) (by omega) _ (by decide), show (2 : Nat) ^ 16 = 65536 from rfl, mod_I (by omega) hb (by omega)]
  exact ⟨fun z => nI_eqf (b := 0) (by omega) (by decide) (by omega) z, hQ τ w ev⟩
theorem s20_mv {v : Nat} (h : MV s) : MV (s20 s v) := h
theorem tt_20 {v : Nat} (h : TT σ t S) (w : Tw [2505] t σ τ) (e : oI τ 2505 t = nI v) : TT τ t (sM S (s20 S.1 v)) := by
  have hz := h.2.1.2.2.2
  refine ⟨⟨h.1.1.tw w (by decide), h.1.2.1.tw w (by decide), h.1.2.2.tw w (by decide)⟩, ⟨h.2.1.1.tw w (by decide), h.2.1.2.1.tw w (by decide), h.2.1.2.2.1.tw w (by decide), ?_, ?_, ?_, ?_⟩, h.2.2.1.tw w (by decide), h.2.2.2.tw w (by decide)⟩
  · rw [e]
    show nI v = nI (up (S.1 20) 0 v 0)
    rw [up_s]
  · rw [w.I (by decide)]; exact hz.2.1
  · rw [w.I (by decide)]; exact hz.2.2.1
  · rw [w.A (by decide)]; exact hz.2.2.2
theorem t_seed {Q : Int32 → wS → Prop} {v : Int32} (hT : TT σ t S) (hQ : ∀ τ, Tu t σ τ → TT τ t (o_seed S v).2 → Q (o_seed S v).1 τ) : w_X24_seed σ t v Q := by
  unfold w_X24_seed
  refine ⟨hT.ok, bnd_sI fun τ w e _ _ => ?_⟩
  rw [hT.2.1.2.2.2.1]
  exact hQ τ w.tu (tt_20 hT w (by rw [e, nI_bv]))
theorem drw_lt {n b : Nat} (h : 0 < b) : drw n b < b := Nat.mod_lt _ h
theorem dl1_mv (h : MV s) (hG : 0 < mG s) : MV (dl1 s).1 ∧ 0 < mG (dl1 s).1 := by
  unfold dl1
  split
  · exact ⟨s20_mv h, hG⟩
  · rename_i q
    have c4 : drw (dsd (s 20 0)) 4 < 4 := drw_lt (by decide)
    have x4 : drw (dsd (dsd (s 20 0))) (mG s) < mG s := drw_lt hG
    have y4 : drw (dsd (dsd (dsd (s 20 0)))) (mG s) < mG s := drw_lt hG
    generalize drw (dsd (s 20 0)) 4 = c at q c4 ⊢
    generalize drw (dsd (dsd (s 20 0))) (mG s) = x at q x4 ⊢
    generalize drw (dsd (dsd (dsd (s 20 0)))) (mG s) = y at q y4 ⊢
    generalize dsd (dsd (dsd (s 20 0))) = v
    have hN : mN s ≠ 64 := fun z => q (Or.inl z)
    have hl : lik s 5 c x y = none := by
      cases hh : lik s 5 c x y with
      | none => rfl
      | some e => exact absurd (Or.inr (Or.inr (by rw [hh]; exact fun z => (nomatch z)))) q
    obtain ⟨⟨hs, l, n⟩, h2, h3⟩ := s20_mv (v := v) h
    have h64 : mN (s20 s v) = mN s := rfl
    obtain ⟨a1, a2, a3⟩ := nwx_ok (s := s20 s v) (k := 5) (p := c) (x := x) (y := y) hs l n (by omega) ⟨by decide, fun z => absurd z (by decide), fun z => absurd z (by decide), fun _ => c4, fun _ => x4, fun _ => y4, fun z => absurd z (by decide)⟩ hl
    obtain ⟨o1, o2, o3, o4, o5⟩ := nwx_old (s := s20 s v) (k := 5) (p := c) (x := x) (y := y) hs
    refine ⟨mv_k ⟨⟨hs, l, n⟩, h2, h3⟩ ⟨a1, a2, a3⟩ (fun k hk _ _ _ => o1.2.2.2 k hk) (fun i => ?_) (by rw [o4]; omega), by rw [o5]; omega⟩
    show nwx (s20 s v) 5 c x y 16 i ≤ 1
    rw [o1.2.2.2 16 (by decide)]
    exact h2.2.2 i
abbrev GD : List Nat := [2500, 2501, 2502, 2510, 2511, 2512, 2515, 2516, 2517, 2518, 2519, 2520, 22521, 2505, 2530, 2531, 2532]
theorem t_dll {Q : Int32 → wS → Prop} {m : Nat} {σ0 : wS} (hm : m ≤ 20) (hF : 1000 ≤ F) : ∀ n i σ s' k, i ≤ m → m - i < n → k ≤ i → TT σ t (sM S s') → MV s' → 0 < mG s' → Tw GD t σ0 σ →
    (∀ τ, Tw GD t σ0 τ → TT τ t (sM S (dll (m - i) s' k).1) → Q (nI (dll (m - i) s' k).2) τ) → l_X24_deal_36 F t (nI m) Q n σ (nI k) (nI i) := by
  intro n
  induction n with
  | zero => intro i σ s' k h1 h2; omega
  | succ n ih =>
    intro i σ s' k h1 h2 hk hT hM h0 w hQ
    have hs := hM.1.1
    have hG := hs.2.1
    have hN := hM.2.2
    unfold l_X24_deal_36
    by_cases q : i = m
    · rw [if_pos (nI_le (by omega) (by omega))]
      rw [show m - i = 0 by omega] at hQ
      exact hQ σ w hT
    · rw [if_neg (nI_ge (by omega) (by omega))]
      have em : m - i = (m - (i + 1)) + 1 := by omega
      rw [em] at hQ
      have mvd := dl1_mv hM h0
      have ed : dll (m - (i + 1) + 1) s' k = dll (m - (i + 1)) (dl1 s').1 (k + (dl1 s').2) := rfl
      rw [ed] at hQ
      have c4 : drw (dsd (s' 20 0)) 4 < 4 := drw_lt (by decide)
      have x4 : drw (dsd (dsd (s' 20 0))) (mG s') < mG s' := drw_lt h0
      have y4 : drw (dsd (dsd (dsd (s' 20 0)))) (mG s') < mG s' := drw_lt h0
      refine ⟨hT.ok, t_draw (n := s' 20 0) (b := 4) hT.ok hT.2.1.2.2.2.1 rfl (by decide) (by decide) (fun σ1 w1 e1 => ?_)⟩
      have eG : oI σ1 2502 t = nI (mG s') := by rw [w1.I (by decide)]; exact hT.1.1.1.2.2.2
      refine t_draw (b := mG s') (w1.ok hT.ok) e1 eG h0 (by omega) (fun σ2 w2 e2 => ?_)
      have eG2 : oI σ2 2502 t = nI (mG s') := by rw [w2.I (by decide)]; exact eG
      refine t_draw (b := mG s') (w2.ok (w1.ok hT.ok)) e2 eG2 h0 (by omega) (fun σ3 w3 e3 => ?_)
      have W3 : Tw [2505] t σ σ3 := (w1.trans w2).trans w3
      have hT3 : TT σ3 t (sM S (s20 s' (dsd (dsd (dsd (s' 20 0)))))) := tt_20 (S := sM S s') hT W3 e3
      have hM3 : MV (s20 s' (dsd (dsd (dsd (s' 20 0))))) := s20_mv hM
      have W0 : Tw GD t σ0 σ3 := w.trans (W3.mono (by decide))
      have nxt : ∀ τ, Tw GD t σ0 τ → TT τ t (sM S (s20 s' (dsd (dsd (dsd (s' 20 0)))))) → dl1 s' = (s20 s' (dsd (dsd (dsd (s' 20 0)))), 0) → l_X24_deal_36 F t (nI m) Q n τ (nI k) (nI i + 1) := by
        intro τ w' hT' e
        rw [e] at hQ
        rw [nIl_1, nI_add]
        exact ih (i + 1) τ _ k (by omega) (by omega) (by omega) hT' hM3 h0 w' hQ
      have edl : dl1 s' = if mN s' = 64 ∨ mayK s' 5 (drw (dsd (s' 20 0)) 4) (drw (dsd (dsd (s' 20 0))) (mG s')) (drw (dsd (dsd (dsd (s' 20 0)))) (mG s')) = false ∨ lik s' 5 (drw (dsd (s' 20 0)) 4) (drw (dsd (dsd (s' 20 0))) (mG s')) (drw (dsd (dsd (dsd (s' 20 0)))) (mG s')) ≠ none then (s20 s' (dsd (dsd (dsd (s' 20 0)))), 0)
        else (nwx (s20 s' (dsd (dsd (dsd (s' 20 0))))) 5 (drw (dsd (s' 20 0)) 4) (drw (dsd (dsd (s' 20 0))) (mG s')) (drw (dsd (dsd (dsd (s' 20 0)))) (mG s')), 1) := rfl
      generalize drw (dsd (s' 20 0)) 4 = c at c4 edl ⊢
      generalize drw (dsd (dsd (s' 20 0))) (mG s') = x at x4 edl ⊢
      generalize drw (dsd (dsd (dsd (s' 20 0)))) (mG s') = y at y4 edl ⊢
      generalize dsd (dsd (dsd (s' 20 0))) = v at hT3 hM3 nxt edl ⊢
      rw [hT3.1.1.1.2.2.1]
      show if nI (mN s') = (64 : Int32) then _ else _
      by_cases z : mN s' = 64
      · rw [if_pos (show nI (mN s') = (64 : Int32) by rw [z]; rfl)]
        exact nxt σ3 W0 hT3 (by rw [edl, if_pos (Or.inl z)])
      · rw [if_neg (show ¬ nI (mN s') = (64 : Int32) from nI_eqf (b := 64) (by omega) (by decide) z)]
        refine t_may (s := s20 s' v) (k := 5) hT3.1.1 hM3.1.1 hM3.1.2.1 hM3.2.1.1 (by decide) (by rw [if_neg (by decide)]; exact c4) x4 y4 (by omega) (fun σ4 w4 hL => ?_)
        have hT4 := hT3.tw w4 (by decide)
        have W4 : Tw GD t σ0 σ4 := W0.trans (w4.mono (by decide))
        have ek : mayK (s20 s' v) 5 c x y = mayK s' 5 c x y := rfl
        have el : lik (s20 s' v) 5 c x y = lik s' 5 c x y := rfl
        rw [ek]
        cases hk5 : mayK s' 5 c x y with
        | false =>
          rw [if_neg (show ¬ false = true by decide), if_pos rfl]
          exact nxt σ4 W4 hT4 (by rw [edl, if_pos (Or.inr (Or.inl hk5))])
        | true =>
          rw [if_pos rfl, if_neg (by decide)]
          refine t_alike (k := 5) hT4.1.1 hM3.1.1 (by decide) (by omega) (fun _ => ⟨x4, rfl⟩) (fun _ => ⟨y4, rfl⟩) (by omega) ?_
          show if oN (lik s' 5 c x y) = (-1 : Int32) then _ else _
          cases hl : lik s' 5 c x y with
          | some e =>
            have := lik_lt hl
            rw [show oN (some e) = nI e from rfl, if_neg (show ¬ nI e = (-1 : Int32) from nI_m1 (by omega))]
            exact nxt σ4 W4 hT4 (by rw [edl, if_pos (Or.inr (Or.inr (by rw [hl]; exact fun z => (nomatch z))))])
          | none =>
            rw [if_pos (show oN none = (-1 : Int32) from rfl)]
            refine t_told (k := 5) hT4.1.1 hM3.1.1 (show mN s' < 144 by omega) (by decide) (by omega) (fun _ => ⟨x4, rfl⟩) (fun _ => ⟨y4, rfl⟩) (by omega) (fun e he => ?_) (fun _ σ5 w5 h5 => ?_)
            · have he' : lik s' 5 c x y = some e := he
              rw [hl] at he'; cases he'
            · have e' : dl1 s' = (nwx (s20 s' v) 5 c x y, 1) := by
                rw [edl, if_neg]
                rintro (y | y | y)
                · exact z y
                · rw [hk5] at y; cases y
                · exact y hl
              rw [e'] at hQ mvd
              rw [nIl_1, nI_add, nI_add]
              exact ih (i + 1) σ5 _ (k + 1) (by omega) (by omega) (by omega) (tt_mem10 (S := sM S (s20 s' v)) hT4 w5 (by decide) (by decide) h5 (nwx_old hM3.1.1).1.2.2.2) mvd.1 mvd.2 (W4.trans (w5.mono (by decide))) hQ
theorem t_isFr2 {Q : Int32 → wS → Prop} {a : Int32} (h0 : (∀ n, num 21 a = some n → n = 0) → Q 0 σ) (h1 : ∀ n, 1 ≤ n → n < 21 → a = nI n → num 21 a = some n → Q 1 σ) : w_X24_isFrom σ t a 1 20 Q := by
  unfold w_X24_isFrom
  by_cases q : a < 1
  · rw [if_pos q]
    refine h0 (fun n hn => ?_)
    rcases lt1 q with z | z
    · rw [z, show num 21 (0 : Int32) = some 0 from num_some (n := 0) (by decide) (by decide)] at hn
      cases hn; rfl
    · rw [num_lo z] at hn; cases hn
  · obtain ⟨n, n1, n2, rfl⟩ := ge1 q
    rw [if_neg q]
    by_cases y : n < 21
    · rw [if_neg (show ¬ (20 : Int32) < nI n from nI_nlt (a := 20) (by omega) (by decide))]
      exact h1 n n1 y rfl (num_some (by decide) y)
    · rw [if_pos (show (20 : Int32) < nI n from nI_lt (a := 20) (by omega) n2)]
      refine h0 (fun m hm => ?_)
      rw [num_hi (nI_le (by omega) n2)] at hm
      cases hm
theorem t_deal {Q : Int32 → wS → Prop} {a : Int32} (hT : TT σ t S) (hM : MV S.1) (hF : 1000 ≤ F) (hQ : ∀ τ, Tu t σ τ → TT τ t (o_deal S a).2 → Q (o_deal S a).1 τ) : w_X24_deal F σ t a Q := by
  have hs := hM.1.1
  have hG := hs.2.1
  have hN := hM.2.2
  unfold w_X24_deal
  rw [hT.1.1.1.2.2.2]
  refine ⟨hT.ok, ?_⟩
  by_cases q : mG S.1 = 0
  · rw [if_pos (by rw [q]; rfl)]
    have e2 : o_deal S a = noA S 5 := if_pos q
    rw [e2] at hQ
    exact t_no 5 (by decide) rfl hT hQ
  rw [if_neg (show ¬ nI (mG S.1) = (0 : Int32) from nI_eqf (b := 0) (by omega) (by decide) q)]
  have eo : o_deal S a = match num 21 a with
    | none => noA S 6
    | some n => if n = 0 then noA S 6 else (nI (dll n S.1 0).2, sM S (dll n S.1 0).1) := if_neg q
  rw [eo] at hQ
  refine t_isFr2 (fun h0 => ?_) (fun n n1 n2 ha e => ?_)
  · rw [if_pos rfl]
    have e2 : (match num 21 a with
      | none => noA S 6
      | some n => if n = 0 then noA S 6 else (nI (dll n S.1 0).2, sM S (dll n S.1 0).1)) = noA S 6 := by
      cases h : num 21 a with
      | none => rfl
      | some n => exact if_pos (h0 n h)
    rw [e2] at hQ
    exact t_no 6 (by decide) rfl hT hQ
  · rw [e] at hQ
    dsimp only at hQ
    rw [if_neg (by omega)] at hQ
    rw [if_neg (by decide), ha]
    exact t_dll (S := S) (m := n) (by omega) hF F 0 σ S.1 0 (by omega) (by omega) (by omega) hT hM (by omega) Tw.refl (fun τ w h => hQ τ w.tu h)
/-! what stands -/
theorem t_fault {Q : Int32 → wS → Prop} (hT : TT σ t S) (hQ : ∀ τ, Tu t σ τ → TT τ t (o_fault S).2 → Q (o_fault S).1 τ) : w_X24_fault σ t Q := by
  unfold w_X24_fault
  rw [hT.2.1.2.2.2.2.1]
  exact ⟨hT.ok, hQ σ Tu.refl hT⟩
theorem t_st92 {Q : Int32 → wS → Prop} (hT : TM σ t s) (hG : mG s ≤ 144) (hb : ∀ g, g < mG s → s 7 g ≤ g) (hQ : Q (nI (ctn (fun g => decide (s 7 g = g)) (mG s))) σ) : ∀ n g, g ≤ mG s → mG s - g < n → l_X24_status_92 F t Q n σ (nI (ctn (fun g => decide (s 7 g = g)) g)) (nI g) := by
  intro n
  induction n with
  | zero => intro g h1 h2; omega
  | succ n ih =>
    intro g h1 h2
    unfold l_X24_status_92
    rw [hT.1.2.2.2]
    refine ⟨hT.1.1, ?_⟩
    by_cases q : g = mG s
    · rw [if_pos (nI_le (by omega) (by omega))]
      rw [q]; exact hQ
    · have hg : g < mG s := by omega
      have h7 := hb g hg
      rw [if_neg (nI_ge hg (by omega)), nI_clamp (by omega), hT.2.2.1 g hg]
      refine ⟨vp_inN (by omega) (by decide), fun v hv => ?_⟩
      have nx := ih (g + 1) (by omega) (by omega)
      have ce : ctn (fun g => decide (s 7 g = g)) (g + 1) = ctn (fun g => decide (s 7 g = g)) g + if decide (s 7 g = g) = true then 1 else 0 := rfl
      rw [ce] at nx
      have ev : v = nI (ctn (fun g => decide (s 7 g = g)) g + if decide (s 7 g = g) = true then 1 else 0) := by
        rw [hv, ← nI_if]
        congr 1
        by_cases z : s 7 g = g
        · rw [if_pos (by rw [z]), if_pos (by simp [z])]
        · rw [if_neg (nI_eqf (by omega) (by omega) z), if_neg (by simp [z])]
      rw [ev, nIl_1, nI_add]
      exact nx
theorem t_st128 {Q : Int32 → wS → Prop} (hT : TM σ t s) (hs : Sh s) (hQ : Q (nI (ctn (fun e => decide (s 8 e ≠ 0)) (mN s))) σ) : ∀ n e, e ≤ mN s → mN s - e < n → l_X24_status_128 F t Q n σ (nI (ctn (fun e => decide (s 8 e ≠ 0)) e)) (nI e) := by
  have hN := hs.1
  intro n
  induction n with
  | zero => intro g h1 h2; omega
  | succ n ih =>
    intro e h1 h2
    unfold l_X24_status_128
    rw [hT.1.2.2.1]
    refine ⟨hT.1.1, ?_⟩
    by_cases q : e = mN s
    · rw [if_pos (nI_le (by omega) (by omega))]
      rw [q]; exact hQ
    · have he : e < mN s := by omega
      have h8 := (sh_bnd hs he).2.2.2
      rw [if_neg (nI_ge he (by omega)), nI_clamp (by omega), (hT.2.1 e he).2.2.2.2.2]
      refine ⟨vp_inN (by omega) (by decide), fun v hv => ?_⟩
      have nx := ih (e + 1) (by omega) (by omega)
      have ce : ctn (fun e => decide (s 8 e ≠ 0)) (e + 1) = ctn (fun e => decide (s 8 e ≠ 0)) e + if decide (s 8 e ≠ 0) = true then 1 else 0 := rfl
      rw [ce] at nx
      have ev : v = nI (ctn (fun e => decide (s 8 e ≠ 0)) e + if decide (s 8 e ≠ 0) = true then 1 else 0) := by
        rw [hv, ← nI_if]
        congr 1
        by_cases z : s 8 e = 0
        · rw [if_pos (by rw [z]; rfl), if_neg (by simp [z])]
        · rw [if_neg (show ¬ nI (s 8 e) = (0 : Int32) from nI_eqf (b := 0) (by omega) (by decide) z), if_pos (by simp [z])]
      rw [ev, nIl_1, nI_add]
      exact nx
theorem t_isFr11 {Q : Int32 → wS → Prop} {a : Int32} (h0 : (∀ k, num 18 a = some k → k < 11) → Q 0 σ) (h1 : ∀ k, 11 ≤ k → k < 18 → a = nI k → num 18 a = some k → Q 1 σ) : w_X24_isFrom σ t a 11 17 Q := by
  unfold w_X24_isFrom
  rcases num_cs (N := 18) (by decide) a with ⟨n, hn, ha, e⟩ | ⟨e, h⟩
  · by_cases q : n < 11
    · rw [ha, if_pos (show nI n < (11 : Int32) from nI_lt (b := 11) q (by decide))]
      exact h0 (fun k hk => by rw [e] at hk; cases hk; exact q)
    · have := h1 n (by omega) hn ha e
      rw [ha, if_neg (show ¬ nI n < (11 : Int32) from nI_nlt (b := 11) (by omega) (by omega)), if_neg (show ¬ (17 : Int32) < nI n from nI_nlt (a := 17) (by omega) (by decide))]
      exact this
  · have hq := h0 (fun k hk => by rw [e] at hk; cases hk)
    rcases h with h | ⟨h, h'⟩
    · rw [if_pos (Int32.lt_trans h (by decide))]; exact hq
    · obtain ⟨n, hn, rfl⟩ := nI_of h
      have := (nI_leI (by decide) hn).mp h'
      rw [if_neg (show ¬ nI n < (11 : Int32) from nI_nlt (b := 11) (by omega) hn), if_pos (show (17 : Int32) < nI n from nI_lt (a := 17) (by omega) hn)]
      exact hq
theorem t_status {Q : Int32 → wS → Prop} {a : Int32} (hT : TT σ t S) (hM : MV S.1) (hF : 1000 ≤ F) (hQ : ∀ τ, Tu t σ τ → TT τ t (o_status S a).2 → Q (o_status S a).1 τ) : w_X24_status F σ t a Q := by
  have hs := hM.1.1
  have hG := hs.2.1
  have hN := hM.2.2
  obtain ⟨⟨m1, m2, m3, m4⟩, -⟩ := hT.1.1
  have hz := hT.2.1.2.2.2
  unfold w_X24_status
  refine ⟨hT.ok, t_isFr11 (fun h0 => ?_) (fun k k1 k2 ha e => ?_)⟩
  · rw [if_pos rfl, m2, m3, m4, hT.1.2.2.2.2, hz.1, hT.2.2.1.1, hT.1.2.1.1, hz.2.2.1]
    have lit : ∀ k, k < 11 → a = nI k → o_status S a = (if k = 0 then nI (S.1 10 0) else if k = 1 then nI (mN S.1) else if k = 2 then nI (ctn (fun g => decide (S.1 7 g = g)) (mG S.1)) else if k = 3 then nI (ctn (fun e => decide (S.1 8 e ≠ 0)) (mN S.1))
      else if k = 4 then nI (S.1 18 0) else if k = 5 then nI (S.1 20 0) else if k = 6 then nI (S.2.1 5 1) else if k = 7 then nI (S.1 19 0) else if k = 8 then nI S.2.2.2.2.1 else if k = 9 then nI (mG S.1) else if k = 10 then -1 else nI (S.2.1 0 (k - 10)), S) := by
      intro k hk ha
      unfold o_status
      rw [ha, num_some (by decide) (show k < 18 by omega)]
    by_cases c0 : a = 0
    · rw [if_pos c0]
      rw [lit 0 (by decide) c0] at hQ
      exact hQ σ Tu.refl hT
    rw [if_neg c0]
    by_cases c1 : a = 1
    · rw [if_pos c1]
      rw [lit 1 (by decide) c1] at hQ
      exact hQ σ Tu.refl hT
    rw [if_neg c1]
    by_cases c2 : a = 2
    · rw [if_pos c2]
      rw [lit 2 (by decide) c2] at hQ
      exact t_st92 hT.1.1 (by omega) hs.2.2.1 (hQ σ Tu.refl hT) F 0 (by omega) (by omega)
    rw [if_neg c2]
    by_cases c3 : a = 3
    · rw [if_pos c3]
      rw [lit 3 (by decide) c3] at hQ
      exact t_st128 hT.1.1 hs (hQ σ Tu.refl hT) F 0 (by omega) (by omega)
    rw [if_neg c3]
    by_cases c4 : a = 4
    · rw [if_pos c4]
      rw [lit 4 (by decide) c4] at hQ
      exact hQ σ Tu.refl hT
    rw [if_neg c4]
    by_cases c5 : a = 5
    · rw [if_pos c5]
      rw [lit 5 (by decide) c5] at hQ
      exact hQ σ Tu.refl hT
    rw [if_neg c5]
    by_cases c6 : a = 6
    · rw [if_pos c6]
      rw [lit 6 (by decide) c6] at hQ
      exact hQ σ Tu.refl hT
    rw [if_neg c6]
    by_cases c7 : a = 7
    · rw [if_pos c7]
      rw [lit 7 (by decide) c7] at hQ
      exact hQ σ Tu.refl hT
    rw [if_neg c7]
    by_cases c8 : a = 8
    · rw [if_pos c8]
      rw [lit 8 (by decide) c8] at hQ
      exact hQ σ Tu.refl hT
    rw [if_neg c8]
    by_cases c9 : a = 9
    · rw [if_pos c9]
      rw [lit 9 (by decide) c9] at hQ
      exact hQ σ Tu.refl hT
    rw [if_neg c9]
    have eo : o_status S a = (-1, S) := by
      rcases num_cs (N := 18) (by decide) a with ⟨n, hn, ha, e⟩ | ⟨e, -⟩
      · have n11 := h0 n e
        have n10 : n = 10 := by
          have hne : ∀ j, j < 10 → n ≠ j → True := fun _ _ _ => trivial
          rcases Nat.lt_or_ge n 10 with q | q
          · have h10 : n = 0 ∨ n = 1 ∨ n = 2 ∨ n = 3 ∨ n = 4 ∨ n = 5 ∨ n = 6 ∨ n = 7 ∨ n = 8 ∨ n = 9 := by omega
            rcases h10 with rfl | rfl | rfl | rfl | rfl | rfl | rfl | rfl | rfl | rfl
            · exact absurd ha c0
            · exact absurd ha c1
            · exact absurd ha c2
            · exact absurd ha c3
            · exact absurd ha c4
            · exact absurd ha c5
            · exact absurd ha c6
            · exact absurd ha c7
            · exact absurd ha c8
            · exact absurd ha c9
          · omega
        rw [lit n n11 ha, n10]
        rfl
      · unfold o_status; rw [e]
    rw [eo] at hQ
    exact hQ σ Tu.refl hT
  · have eo : o_status S a = (nI (S.2.1 0 (k - 10)), S) := by
      unfold o_status
      rw [e]
      dsimp only
      rw [if_neg (by omega), if_neg (by omega), if_neg (by omega), if_neg (by omega), if_neg (by omega), if_neg (by omega), if_neg (by omega), if_neg (by omega), if_neg (by omega), if_neg (by omega), if_neg (by omega)]
    rw [eo] at hQ
    rw [if_neg (by decide), ha, nIl_10, sub_I (by omega), nI_clamp (by omega), hT.2.1.1 _ (by omega)]
    exact ⟨vp_inN (by omega) (by decide), hQ σ Tu.refl hT⟩
end PT
