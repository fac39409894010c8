set_option linter.unusedVariables false
set_option maxRecDepth 10000
/-! ===== component: members, merging ===== -/
section PC
variable {σ τ υ : wS} {m F : Nat} {s : mS}
theorem orL (a b : Nat) : lN a ||| lN b = lN (a ||| b) := by
  apply Int64.toBitVec_inj.mp
  show BitVec.ofNat 64 a ||| BitVec.ofNat 64 b = BitVec.ofNat 64 (a ||| b)
  exact (BitVec.ofNat_or ..).symm
theorem shlL : ∀ i, i < 64 → (1 : Int64) <<< ((nI i).toInt64 &&& 63) = lN (2 ^ i) := by decide
theorem or_pow {a i : Nat} (h : a < 2 ^ i) : a ||| 2 ^ i = a + 2 ^ i := by
  have := Nat.two_pow_add_eq_or_of_lt h 1
  rw [Nat.mul_one] at this
  rw [Nat.or_comm, ← this, Nat.add_comm]
theorem c_members {Q : Int64 → wS → Prop} {g : Nat} (hC : CM σ m s) (hs : Sh s) (hN : mN s ≤ 64) (hg : g < mG s) (hF : 200 ≤ F) (hQ : Q (lN (mbs s g (mN s))) σ) : w_X22_members F σ m (nI g) Q := by
  have hb2 := hs.2.1
  have key : ∀ n i, i ≤ mN s → mN s - i < n → l_X22_members_5 F m (nI g) Q n σ (lN (mbs s g i)) (nI i) := by
    intro n
    induction n with
    | zero => intro i _ h; omega
    | succ n ih =>
      intro i hi hn
      unfold l_X22_members_5
      rw [hC.1.2.2.1]
      refine ⟨hC.1.1, ?_⟩
      by_cases c : i = mN s
      · rw [if_pos (nI_le (by omega) (by omega)), c]
        exact hQ
      · have hi' : i < mN s := by omega
        have d := sh_bnd hs hi'
        have r6 := sh_lt hs d.2.2.1
        rw [if_neg (nI_ge hi' (by omega)), nI_clamp (by omega), (hC.2.1 i hi').2.2.2.1]
        refine ⟨vp_inN (by omega) (by decide), ?_⟩
        have nx := ih (i + 1) (by omega) (by omega)
        have em : mbs s g (i + 1) = if s 8 i = 0 ∧ R s (s 6 i) = g then mbs s g i + 2 ^ i else mbs s g i := rfl
        have sk : ¬ (s 8 i = 0 ∧ R s (s 6 i) = g) → l_X22_members_5 F m (nI g) Q n σ (lN (mbs s g i) ||| (0 : Int64)) (nI i + (1 : Int32)) := fun z => by
          rw [em, if_neg z] at nx
          rw [show (0 : Int64) = lN 0 from rfl, orL, Nat.or_zero, nIl_1, nI_add]
          exact nx
        by_cases c8 : s 8 i = 0
        · rw [if_pos ((nI_n0 (by omega)).mpr c8)]
          refine c_home hC hs hN hi' (by omega) ?_
          by_cases cR : R s (s 6 i) = g
          · rw [if_pos (by rw [cR])]
            intro v hv
            rw [em, if_pos ⟨c8, cR⟩] at nx
            rw [hv, shlL i (by omega), orL, or_pow (mbs_lt i), nIl_1, nI_add]
            exact nx
          · rw [if_neg (nI_eqf (by omega) (by omega) cR)]
            exact sk (fun z => cR z.2)
        · rw [if_neg (fun z => c8 ((nI_n0 (by omega)).mp z))]
          exact sk (fun z => c8 z.1)
  have h0 := key F 0 (Nat.zero_le _) (by omega)
  exact h0
theorem cm_uni {a b : Nat} (h : CM σ m s) (hs : Sh s) (ha : a < mG s) (hb : b < mG s) (w : Tw [2316] m σ τ) (e : aI τ 2316 m = upd (aI σ 2316 m) (max (R s a) (R s b)) (nI (min (R s a) (R s b)))) : CM τ m (uni s a b) := by
  obtain ⟨⟨h0, h1, h2, h3⟩, h4, h5, h6, h7⟩ := h
  refine ⟨⟨w.ok22 h0, by rw [w.I (by decide)]; exact h1, by rw [w.I (by decide)]; exact h2, by rw [w.I (by decide)]; exact h3⟩, fun x he => ?_, fun x hx => ?_, fun i hi => ?_, fun i hi => ?_⟩
  · obtain ⟨k1, k2, k3, k4, k5⟩ := (h4 x he).tw w (by decide)
    refine ⟨k1, fun z => ?_, fun z => ?_, k4, k5⟩
    · obtain ⟨g, g1, g2, g3⟩ := k2 z
      exact ⟨g, g1, g2, uni_eq hs ha hb g2 (sx_4 hs he z) g3⟩
    · obtain ⟨g, g1, g2, g3⟩ := k3 z
      exact ⟨g, g1, g2, uni_eq hs ha hb g2 (sx_5 hs he z) g3⟩
  · rw [e, w.A (by decide)]
    refine ⟨?_, (h5 x hx).2⟩
    show _ = nI (un (s 7) (R s a) (R s b) x)
    unfold un
    by_cases q : x = max (R s a) (R s b)
    · rw [q, upd_s, up_s]
    · rw [upd_n q, up_n q]; exact (h5 x hx).1
  · obtain ⟨o, o1, o2⟩ := h6 i hi
    exact ⟨o, by rw [w.1.2.2.1]; exact o1, o2.tw w (by decide)⟩
  · rw [w.A (by decide)]; exact h7 i hi
theorem cm_gone {f : Nat} (h : CM σ m s) (w : Tw [22311] m σ τ) (e : aI τ 22311 m = upd (aI σ 22311 m) f 1) : CM τ m (st s 8 (up (s 8) f 1)) := by
  obtain ⟨⟨h0, h1, h2, h3⟩, h4, h5, h6, h7⟩ := h
  refine ⟨⟨w.ok22 h0, by rw [w.I (by decide)]; exact h1, by rw [w.I (by decide)]; exact h2, by rw [w.I (by decide)]; exact h3⟩, fun x he => ?_, fun x hx => ?_, fun i hi => ?_, fun i hi => ?_⟩
  · obtain ⟨⟨o, k1, k1'⟩, k2, k3, k4, k5⟩ := h4 x he
    refine ⟨⟨o, by rw [w.1.2.2.1]; exact k1, k1'.tw w (by decide)⟩, ?_, ?_, ?_, ?_⟩
    · rw [w.A (by decide)]; exact k2
    · rw [w.A (by decide)]; exact k3
    · rw [e]
      show _ = nI (up (s 8) f 1 x)
      by_cases q : x = f
      · rw [q, upd_s, up_s]; rfl
      · rw [upd_n q, up_n q]; exact k4
    · rw [w.A (by decide)]; exact k5
  · rw [w.A (by decide), w.A (by decide)]; exact h5 x hx
  · obtain ⟨o, o1, o2⟩ := h6 i hi
    exact ⟨o, by rw [w.1.2.2.1]; exact o1, o2.tw w (by decide)⟩
  · rw [w.A (by decide)]; exact h7 i hi
theorem c_unite {Q : Int32 → wS → Prop} {a b : Nat} (hC : CM σ m s) (hs : Sh s) (hN : mN s ≤ 64) (ha : a < mG s) (hb : b < mG s) (hF : 200 ≤ F) (hQ : ∀ τ, Tw [2316] m σ τ → CM τ m (uni s a b) → Q (if R s a = R s b then 0 else 1) τ) : w_X22_unite F σ m (nI a) (nI b) Q := by
  have h1 := sh_lt hs ha
  have h2 := sh_lt hs hb
  have b2 := hs.2.1
  unfold w_X22_unite
  refine ⟨hC.1.1, c_find hC hs hN ha (by omega) (c_find hC hs hN hb (by omega) ?_)⟩
  rw [maxI (by omega) (by omega), minI (by omega) (by omega)]
  refine ⟨vp_inN (by omega) (by decide), bnd_sA fun τ w v o _ => ?_⟩
  rw [nI_clamp (by omega)] at v
  have := hQ τ w (cm_uni hC hs ha hb w v)
  by_cases q : R s a = R s b
  · rw [if_pos (by rw [q])]
    rw [if_pos q] at this; exact this
  · rw [if_neg (nI_eqf (by omega) (by omega) q)]
    rw [if_neg q] at this; exact this
abbrev GUc : List Nat := [2316, 22311]
theorem c_drop {Q : Int32 → wS → Prop} {f : Nat} (hC : CM σ m s) (hs : Sh s) (hN : mN s ≤ 64) (hf : f < mN s) (h8 : s 8 f = 0) (hF : 200 ≤ F) (h0 : p1b s f = false → p1 s f = s → Q 0 σ) (h1 : ∀ e, p1b s f = true → p1 s f = drp s e f → ∀ τ, Tw GUc m σ τ → CM τ m (drp s e f) → Q 1 τ) : w_X22_drop F σ m (nI f) Q := by
  have b2 := hs.2.1
  have hk := sx_2 hs hf
  obtain ⟨⟨o, a1, a2⟩, a3, a4, a5, a6⟩ := hC.2.1 f hf
  obtain ⟨d2, d3, d6, d8⟩ := sh_bnd hs hf
  have vf := vp_inN (show f < 64 by omega) (by decide)
  have cf : (nI f).toNatClampNeg = f := nI_clamp (by omega)
  unfold w_X22_drop
  rw [cf, a1]
  refine ⟨hC.1.1, vf, fun v hv => ?_⟩
  subst hv
  have body : ∀ kk : wS → Int32 → Prop, (p1b s f = false → p1 s f = s → Q 0 σ) → (∀ e, e < f → p1b s f = true → p1 s f = drp s e f → kk σ (nI e)) → ∀ n i, i ≤ f → f - i < n → (∀ j, j < i → alk s (s 2 f) (s 3 f) (s 4 f) (s 5 f) j = false) → l_X22_drop_9 F m (nI f) Q kk n σ (some o) (nI i) := by
    intro kk q0 q1 n
    induction n with
    | zero => intro i _ h; omega
    | succ n ih =>
      intro i hi hn hj
      unfold l_X22_drop_9
      by_cases c : i = f
      · rw [if_pos (nI_le (by omega) (by omega))]
        rcases p1_cases hf with ⟨g1, g2, -⟩ | ⟨e, e1, -, -, -, e5, -⟩
        · exact q0 g1 g2
        · have := hj e (by omega)
          rw [e5] at this; cases this
      · rw [if_neg (nI_ge (by omega) (by omega))]
        refine ⟨o, rfl, v_kind a2 hk ⟨a2.oS hk, hC.1.1, vf, ?_⟩⟩
        rw [a2.2.2, cf]
        refine c_isAlike (x := s 4 f) (y := s 5 f) hC hs hN (by omega) d2 (by omega) (fun z => a3 z) (fun z => a4 z) hF ?_
        cases h : alk s (s 2 f) (s 3 f) (s 4 f) (s 5 f) i with
        | true =>
          rw [if_pos rfl, if_neg (by decide)]
          rcases p1_cases hf with ⟨-, -, g3⟩ | ⟨e, e1, e2, e3, -, e5, e6⟩
          · have := g3 h8 i (by omega)
            rw [h] at this; cases this
          · have hle : e ≤ i := by
              apply Nat.le_of_not_lt
              intro z
              have := (fnd_some _ _ e6).2.2.2 i (Nat.zero_le _) z
              rw [h] at this; cases this
            have hge : i ≤ e := by
              apply Nat.le_of_not_lt
              intro z
              have := hj e z
              rw [e5] at this; cases this
            have : e = i := by omega
            subst this
            exact q1 e e1 e2 e3
        | false =>
          rw [if_neg (show ¬ false = true by decide), if_pos rfl, nIl_1, nI_add]
          refine ih (i + 1) (by omega) (by omega) (fun j hj' => ?_)
          by_cases z : j = i
          · rw [z]; exact h
          · exact hj j (by omega)
  refine body _ h0 (fun e he e2 e3 => ?_) F 0 (Nat.zero_le _) (by omega) (fun j hj => absurd hj (Nat.not_lt_zero j))
  refine ⟨hC.1.1, vf, ?_⟩
  refine bnd_sA fun σ1 w1 v1 _ _ => ⟨vp_inN (by omega) (by decide), ?_⟩
  rw [nar_b1] at v1
  have C1 := cm_gone hC w1 v1
  have hs1 : Sh (st s 8 (up (s 8) f 1)) := sh_gone hs
  have ge : s 6 e < mG s := sx_6 hs (by omega)
  rw [nI_clamp (by omega), (C1.2.1 e (show e < mN s by omega)).2.2.2.2, (C1.2.1 f hf).2.2.2.2]
  refine c_unite C1 hs1 hN (show s 6 e < mG s from ge) (show s 6 f < mG s from d6) hF (fun τ w2 C2 => ?_)
  exact h1 e e2 e3 τ ((w1.mono (by decide)).up w2 (by decide)) C2
theorem c_pass {kk : wS → Int32 → Prop} {Q : wS → Prop} {σ0 : wS} (hF : 200 ≤ F) : ∀ n i σ (s : mS) (x : Int32), CM σ m s → Sh s → Lo s → mN s ≤ 64 → i ≤ mN s → mN s - i < n → x = 0 ∨ x = 1 → Tw GUc m σ0 σ → (∀ τ, Tw GUc m σ0 τ → CM τ m (pas (mN s - i) i s) → kk τ (if pab (mN s - i) i s = true then 1 else x)) → l_X22_merge_21 F m Q kk n σ x (nI i) := by
  intro n
  induction n with
  | zero => intro i σ s x _ _ _ _ _ h; omega
  | succ n ih =>
    intro i σ s x C hs l hN hi hn hx hw hk
    unfold l_X22_merge_21
    rw [C.1.2.2.1]
    refine ⟨C.1.1, ?_⟩
    by_cases c : mN s ≤ i
    · rw [if_pos (nI_le c (by omega))]
      rw [show mN s - i = 0 by omega] at hk
      exact hk σ hw C
    · have hi' : i < mN s := by omega
      rw [if_neg (nI_ge (by omega) (by omega)), nI_clamp (by omega), (C.2.1 i hi').2.2.2.1]
      refine ⟨vp_inN (by omega) (by decide), ?_⟩
      have d8 := (sh_bnd hs hi').2.2.2
      rw [show mN s - i = (mN s - (i + 1)) + 1 by omega] at hk
      have x0 : x ||| (0 : Int32) = x := by rcases hx with rfl | rfl <;> rfl
      have x1 : x ||| (1 : Int32) = 1 := by rcases hx with rfl | rfl <;> rfl
      have nxt : p1b s i = false → p1 s i = s → l_X22_merge_21 F m Q kk n σ x (nI i + 1) := fun e1 e2 => by
        rw [← nI_succ]
        refine ih (i + 1) σ s x C hs l hN (by omega) (by omega) hx hw (fun τ w m' => ?_)
        have := hk τ w
        unfold pas pab at this
        rw [e1, e2, Bool.false_or] at this
        exact this m'
      by_cases c8 : s 8 i = 0
      · rw [if_pos ((nI_n0 (by omega)).mpr c8)]
        refine c_drop C hs hN hi' c8 hF (fun e1 e2 => ?_) (fun e e1 e2 τ w C1 => ?_)
        · intro v hv
          rw [hv, if_pos rfl, x0]
          exact nxt e1 e2
        · intro v hv
          rw [hv, if_neg (by decide), x1, ← nI_succ]
          rcases p1_cases hi' with ⟨g1, -, -⟩ | ⟨e', g0, -, g2, g3, g4, -⟩
          · rw [g1] at e1; cases e1
          · have C1' : CM τ m (p1 s i) := by rw [e2]; exact C1
            rw [g2] at C1'
            refine ih (i + 1) τ (drp s e' i) 1 C1' (sh_drp hs) (lo_drp hs l g0 hi' g3 g4) hN (show i + 1 ≤ mN s by omega) (show mN s - (i + 1) < n by omega) (Or.inr rfl) (hw.trans w) (fun τ2 w2 m2 => ?_)
            have := hk τ2 w2
            unfold pas pab at this
            rw [e1, g2, Bool.true_or, if_pos rfl] at this
            have h9 := this m2
            have e9 : (if pab (mN (drp s e' i) - (i + 1)) (i + 1) (drp s e' i) = true then (1 : Int32) else 1) = 1 := by split <;> rfl
            rw [e9]
            exact h9
      · rw [if_neg (fun z => c8 ((nI_n0 (by omega)).mp z)), x0]
        rcases p1_cases hi' with ⟨g1, g2, g3⟩ | ⟨e, g0, g1, g2, g3, g4, g5⟩
        · exact nxt g1 g2
        · exact absurd g3 c8
theorem c_mgl {Q : wS → Prop} {σ0 : wS} (hF : 200 ≤ F) : ∀ j n σ (s : mS), CM σ m s → Sh s → Lo s → mN s ≤ 64 → 1 ≤ mN s → cnt s (mN s) < j → j < n → Tw GUc m σ0 σ → (∀ τ, Tw GUc m σ0 τ → CM τ m (mgl j s) → Q τ) → l_X22_merge_12 F m Q n σ 1 := by
  intro j
  induction j with
  | zero => intro n σ s _ _ _ _ _ h; omega
  | succ j ih =>
    intro n σ s C hs l hN h1N hc hn hw hQ
    cases n with
    | zero => omega
    | succ n =>
      show (if (1 : Int32) = 0 then Q σ else _)
      rw [if_neg (by decide)]
      have p0 : p1b s 0 = false ∧ p1 s 0 = s := by
        rcases p1_cases (s := s) (f := 0) (by omega) with ⟨g1, g2, -⟩ | ⟨e, g0, -⟩
        · exact ⟨g1, g2⟩
        · omega
      have ep : pas (mN s) 0 s = pas (mN s - 1) 1 s := by
        rw [show mN s = (mN s - 1) + 1 by omega]
        show pas (mN s - 1) (0 + 1) (p1 s 0) = _
        rw [p0.2]
        rfl
      have eb : pab (mN s) 0 s = pab (mN s - 1) 1 s := by
        rw [show mN s = (mN s - 1) + 1 by omega]
        show (p1b s 0 || pab (mN s - 1) (0 + 1) (p1 s 0)) = _
        rw [p0.1, p0.2, Bool.false_or]
        rfl
      refine c_pass hF F 1 σ s 0 C hs l hN h1N (by omega) (Or.inl rfl) hw (fun τ w m' => ?_)
      rw [← ep] at m'
      rw [← eb]
      obtain ⟨hh1, l1, k1⟩ := pas_keep (mN s) 0 s (by omega) hs l
      have c := cnt_pas (mN s) 0 s (by omega) hs l
      have eN : mN (pas (mN s) 0 s) = mN s := by show pas (mN s) 0 s 0 0 = s 0 0; rw [k1 0 (by decide) (by decide)]
      unfold mgl at hQ
      by_cases q : pab (mN s) 0 s = true
      · rw [if_pos q] at hQ c ⊢
        exact ih n τ _ m' hh1 l1 (by omega) (by omega) (by rw [eN]; omega) (by omega) w hQ
      · rw [if_neg q] at hQ ⊢
        cases n with
        | zero => omega
        | succ n =>
          show (if (0 : Int32) = 0 then Q τ else _)
          rw [if_pos rfl]
          exact hQ τ w m'
theorem c_merge {Q : wS → Prop} {a b : Nat} (C : CM σ m s) (hs : Sh s) (l : Lo s) (hn : No s) (hN : mN s ≤ 64) (ha : a < mG s) (hb : b < mG s) (hc : s 9 (R s a) = s 9 (R s b)) (hF : 200 ≤ F) (hQ : ∀ τ, Tw [2316, 22311, 2318] m σ τ → CM τ m (mrg s a b) → oI τ 2318 m = 0 → Q τ) : w_X22_merge F σ m (nI a) (nI b) Q := by
  have b2 := hs.2.1
  unfold w_X22_merge
  refine ⟨C.1.1, c_unite C hs hN ha hb hF (fun τ w C1 => bnd_sI fun τ2 w2 v2 _ _ => ?_)⟩
  have C2 := C1.tw w2 (by decide)
  have W2 : Tw [2316, 22311, 2318] m σ τ2 := (w.mono (by decide)).up w2 (by decide)
  obtain ⟨n, rfl⟩ : ∃ n, F = n + 1 := ⟨F - 1, by omega⟩
  by_cases q : R s a = R s b
  · rw [if_pos q]
    show (if (0 : Int32) = 0 then Q τ2 else _)
    rw [if_pos rfl]
    rw [uni_same hs ha q] at C2
    refine hQ τ2 W2 ?_ v2
    rw [mrg_same hs hn ha q]
    exact C2
  · rw [if_neg q]
    refine c_mgl (σ0 := τ2) (by omega) (mN s + 1) (n + 1) τ2 (uni s a b) C2 (sh_uni hs) (lo_uni hs l ha hb hc) hN (show 1 ≤ mN s by omega) (Nat.lt_succ_of_le (cnt_le _)) (by omega) Tw.refl (fun τ3 w3 C3 => ?_)
    refine hQ τ3 (W2.trans (w3.mono (by decide))) C3 ?_
    rw [w3.I (by decide)]; exact v2
end PC
