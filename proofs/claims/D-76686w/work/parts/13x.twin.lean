set_option linter.unusedVariables false
set_option maxRecDepth 10000
/-! ===== twin: firings; what is allowed ===== -/
section PT
variable {σ τ υ : wS} {t F : Nat} {s : mS} {S : gS}
theorem fir_n {e r f : Nat} (hs : Sh s) (l : Lo s) (n : No s) (hN : mN s ≤ 64) (hk : NK s e r f) : mN (fir s e r f) ≤ mN s + nws s e r f := by
  unfold fir nws
  by_cases r4 : r = 4
  · subst r4
    rw [if_pos rfl, if_pos rfl]
    have hf := (hk.2.2.2.2 (by decide)).1
    obtain ⟨k1, k2, k3, k4⟩ := mrg_ok (s := s0f s e 4 f) hs l (sx_6 hs hk.1) (sx_6 hs hf) (once_col l hk)
    show mrg (s0f s e 4 f) (s 6 e) (s 6 f) 0 0 ≤ _
    rw [k4 0 (by decide) (by decide)]
    show s 0 0 ≤ s 0 0 + 0
    omega
  · rw [if_neg r4, if_neg r4]
    by_cases r0 : r = 0
    · subst r0
      rw [if_pos rfl, if_pos rfl]
      obtain ⟨k1, k2, k3, k4, k5⟩ := fin2_ok (s := s0f s e 0 f) (y := (s0f s e 0 f, 0)) (s0_sh hs) (s0_lo l) (s0_nk hk) r4 Old.refl (s0_sh hs) (s0_lo l) (s0_no n) (show mN s < 144 by omega) (fun z => by omega)
      rw [k5]
      exact Nat.le_refl _
    · rw [if_neg r0, if_neg r0]
      obtain ⟨t1, t2, t3, t4, t5, t6, t7, t8⟩ := tel_ok (s := s0f s e r f) (x := brk (s0f s e r f) e r f) (s0_sh hs) (s0_lo l) (s0_no n) (show mN s < 144 by omega) (brk_okx (s0_sh hs) (s0_lo l) (s0_nk hk) (by omega) r4)
      have hm : mN (tel (s0f s e r f) (brk (s0f s e r f) e r f)).1 ≤ mN s + 1 := by
        rw [t8]
        show mN s + _ ≤ mN s + 1
        split <;> omega
      obtain ⟨k1, k2, k3, k4, k5⟩ := fin2_ok (s := s0f s e r f) (s0_sh hs) (s0_lo l) (s0_nk hk) r4 t7 t1 t2 t3 (by omega) (fun _ => ⟨t4, t5, t6⟩)
      rw [k5]
      cases hl : lk4 s (brk s e r f) with
      | none =>
        dsimp only
        split <;> omega
      | some i =>
        have e1 : tel (s0f s e r f) (brk (s0f s e r f) e r f) = (s0f s e r f, R s (s 6 i)) := by
          unfold tel
          rw [show lk4 (s0f s e r f) (brk (s0f s e r f) e r f) = some i from hl]
          rfl
        rw [e1]
        exact Nat.le_refl _
theorem mv_k {s' : mS} (h : MV s) (a : Sh s' ∧ Lo s' ∧ No s') (b : ∀ k, 10 ≤ k → k ≠ 16 → k ≠ 17 → k ≠ 18 → s' k = s k) (c : Fb s') (d : mN s' ≤ 64) : MV s' := by
  obtain ⟨-, ⟨h1, h2, h3⟩, -⟩ := h
  refine ⟨a, ⟨?_, ?_, c⟩, d⟩
  · unfold Tb
    rw [b 10 (by decide) (by decide) (by decide) (by decide), b 11 (by decide) (by decide) (by decide) (by decide), b 12 (by decide) (by decide) (by decide) (by decide), b 15 (by decide) (by decide) (by decide) (by decide)]
    exact h1
  · unfold Xo
    rw [b 10 (by decide) (by decide) (by decide) (by decide), b 13 (by decide) (by decide) (by decide) (by decide), b 14 (by decide) (by decide) (by decide) (by decide), b 19 (by decide) (by decide) (by decide) (by decide)]
    exact h2
theorem s0f_k {e r f k : Nat} (h6 : k ≠ 16) (h7 : k ≠ 17) (h8 : k ≠ 18) : s0f s e r f k = s k := by
  unfold s0f
  rw [st_n h8, st_n h7, st_n h6]
theorem fir_mv {e r f : Nat} (h : MV s) (hk : NK s e r f) (hn : mN s + nws s e r f ≤ 64) : MV (fir s e r f) := by
  obtain ⟨⟨hs, l, n⟩, ⟨hb, hX, hB⟩, hN⟩ := h
  obtain ⟨k1, k2, k3, k4, k5⟩ := fir_ok hs l n hN hk
  refine mv_k ⟨⟨hs, l, n⟩, ⟨hb, hX, hB⟩, hN⟩ ⟨k1, k2, k3⟩ (fun k h h6 h7 h8 => (k4 k h).trans (s0f_k h6 h7 h8)) ?_ (Nat.le_trans (fir_n hs l n hN hk) hn)
  intro i
  rw [k4 16 (by decide)]
  show up (s 16) (wi e r f) 1 i ≤ 1
  by_cases z : i = wi e r f
  · rw [z, up_s]; exact Nat.le_refl 1
  · rw [up_n z]; exact hB i
theorem exl_mv : ∀ n (s : mS) k, MV s → MV (exl n s k).2 := by
  intro n
  induction n with
  | zero => intro s k h; exact h
  | succ n ih =>
    intro s k h
    unfold exl
    split
    · exact h
    · rename_i e r f hf
      by_cases q : 64 < mN s + nws s e r f
      · rw [if_pos q]; exact h
      · rw [if_neg q]; exact ih _ _ (fir_mv h (nk_of hf) (by omega))
theorem exl_20 : ∀ n (s : mS) k, MV s → (exl n s k).2 20 = s 20 ∧ (exl n s k).2 10 = s 10 := by
  intro n
  induction n with
  | zero => intro s k h; exact ⟨rfl, rfl⟩
  | succ n ih =>
    intro s k h
    unfold exl
    split
    · exact ⟨rfl, rfl⟩
    · rename_i e r f hf
      by_cases q : 64 < mN s + nws s e r f
      · rw [if_pos q]; exact ⟨rfl, rfl⟩
      · rw [if_neg q]
        have hm := fir_mv h (nk_of hf) (by omega)
        obtain ⟨-, -, -, k4, -⟩ := fir_ok h.1.1 h.1.2.1 h.1.2.2 h.2.2 (nk_of hf)
        obtain ⟨i1, i2⟩ := ih (fir s e r f) (k + 1) hm
        exact ⟨i1.trans (k4 20 (by decide)), i2.trans (k4 10 (by decide))⟩
theorem news_le {e r f : Nat} : nws s e r f ≤ 2 := by
  unfold nws
  split
  · omega
  · split
    · split <;> omega
    · split
      · omega
      · split <;> omega
abbrev GE : List Nat := [2500, 2501, 2502, 2510, 2511, 2512, 2515, 2516, 2517, 2518, 2519, 2520, 22521, 22522, 2523, 2503, 2575, 2530, 2531, 2532, 2565, 2566, 2567]
theorem t_exl {Q : Int32 → wS → Prop} {m : Nat} {σ0 : wS} (hm : m ≤ 200) (hF : 1000 ≤ F) : ∀ n k σ s', k ≤ m → m - k < n → TT σ t (sM S s') → MV s' → Tw GE t σ0 σ →
    (∀ τ, Tw GE t σ0 τ → TT τ t (sM S (exl (m - k) s' k).2) → Q (nI (exl (m - k) s' k).1) τ) → l_X24_explore_21 F t (nI m) Q n σ (nI k) := by
  intro n
  induction n with
  | zero => intro k σ s' h1 h2; omega
  | succ n ih =>
    intro k σ s' h1 h2 hT hM w hQ
    obtain ⟨⟨hs, l, no⟩, ⟨hb, hX, hB⟩, hN⟩ := hM
    unfold l_X24_explore_21
    by_cases q : k = m
    · rw [if_pos (by rw [q]; exact nI_le (Nat.le_refl m) (by omega))]
      rw [show m - k = 0 by omega] at hQ
      exact hQ σ w hT
    · rw [if_neg (nI_ge (by omega) (by omega))]
      have em : m - k = (m - (k + 1)) + 1 := by omega
      rw [em] at hQ
      unfold exl at hQ
      refine ⟨hT.ok, t_finds hT.1.1 hT.1.2.2 hB hs l hb hN (by omega) (fun h0 τ w1 hL => ?_) (fun e r f h1' τ w1 hL hn => ?_)⟩
      · rw [show fnx s' (mN s') 0 = none from h0] at hQ
        rw [if_pos rfl]
        exact hQ τ (w.trans (w1.mono (by decide))) (hT.tw w1 (by decide))
      · rw [show fnx s' (mN s') 0 = some (e, r, f) from h1'] at hQ
        dsimp only at hQ
        rw [if_neg (by decide)]
        have hT1 := hT.tw w1 (by decide)
        have hk := nk_of h1'
        refine t_news hT1.1.1 hs hn hk (by omega) (fun τ2 w2 => ?_)
        have hT2 := hT1.tw w2 (by decide)
        have hl := news_le (s := s') (e := e) (r := r) (f := f)
        rw [hT1.1.1.1.2.2.1, nI_add]
        have W2 : Tw GE t σ0 τ2 := (w.trans (w1.mono (by decide))).trans (w2.mono (by decide))
        have eN : mN (sM S s').1 = mN s' := rfl
        by_cases z : 64 < mN s' + nws s' e r f
        · rw [if_pos z] at hQ
          rw [if_pos (show (64 : Int32) < nI (mN (sM S s').1 + nws (sM S s').1 e r f) from nI_lt (a := 64) (b := mN s' + nws s' e r f) z (by omega))]
          exact hQ τ2 W2 hT2
        · rw [if_neg z] at hQ
          rw [if_neg (show ¬ (64 : Int32) < nI (mN (sM S s').1 + nws (sM S s').1 e r f) from nI_nlt (b := mN s' + nws s' e r f) (a := 64) (by omega) (by decide))]
          refine t_fires hT2.1.1 hT2.1.2.2 hs l no hN (hn.tw w2 (by decide)) hk (by omega) (fun τ3 w3 m3 f3 => ?_)
          rw [nIl_1, nI_add]
          have hM3 := fir_mv ⟨⟨hs, l, no⟩, ⟨hb, hX, hB⟩, hN⟩ hk (by omega)
          obtain ⟨-, -, -, k4, -⟩ := fir_ok hs l no hN hk
          have k4' : ∀ k, 10 ≤ k → k ≠ 16 → k ≠ 17 → k ≠ 18 → fir s' e r f k = s' k := fun k h h6 h7 h8 => (k4 k h).trans (s0f_k h6 h7 h8)
          refine ih (k + 1) τ3 (fir s' e r f) (by omega) (by omega) (tt_mem (S := sM S s') hT2 w3 (by decide) m3 ?_ f3 (k4' 20 (by decide) (by decide) (by decide) (by decide))) hM3 (W2.trans (w3.mono (by decide))) hQ
          have := hT2.1.2.1.tw w3 (by decide)
          unfold TXo at this ⊢
          rw [k4' 19 (by decide) (by decide) (by decide) (by decide), k4' 10 (by decide) (by decide) (by decide) (by decide), k4' 13 (by decide) (by decide) (by decide) (by decide), k4' 14 (by decide) (by decide) (by decide) (by decide)]
          exact this
theorem sM_id : sM S S.1 = S := rfl
theorem t_isFr1 {Q : Int32 → wS → Prop} {a : Int32} (h0 : (∀ n, num 201 a = some n → n = 0) → Q 0 σ) (h1 : ∀ n, 1 ≤ n → n < 201 → a = nI n → num 201 a = some n → Q 1 σ) : w_X24_isFrom σ t a 1 200 Q := by
  unfold w_X24_isFrom
  by_cases q : a < 1
  · rw [if_pos q]
    refine h0 (fun n hn => ?_)
    rcases lt1 q with z | z
    · rw [z, show num 201 (0 : Int32) = some 0 from num_some (n := 0) (by decide) (by decide)] at hn
      cases hn; rfl
    · rw [num_lo z] at hn; cases hn
  · obtain ⟨n, n1, n2, rfl⟩ := ge1 q
    rw [if_neg q]
    by_cases y : n < 201
    · rw [if_neg (show ¬ (200 : Int32) < nI n from nI_nlt (a := 200) (by omega) (by decide))]
      exact h1 n n1 y rfl (num_some (by decide) y)
    · rw [if_pos (show (200 : Int32) < nI n from nI_lt (a := 200) (by omega) n2)]
      refine h0 (fun m hm => ?_)
      rw [num_hi (nI_le (by omega) n2)] at hm
      cases hm
theorem t_explore {Q : Int32 → wS → Prop} {a : Int32} (hT : TT σ t S) (hM : MV S.1) (hF : 1000 ≤ F) (hQ : ∀ τ, Tu t σ τ → TT τ t (o_explore S a).2 → Q (o_explore S a).1 τ) : w_X24_explore F σ t a Q := by
  unfold w_X24_explore
  refine ⟨hT.ok, t_isFr1 (fun h0 => ?_) (fun n n1 n2 ha e => ?_)⟩
  · have e2 : o_explore S a = noA S 6 := by
      unfold o_explore
      cases h : num 201 a with
      | none => rfl
      | some n => exact if_pos (h0 n h)
    rw [e2] at hQ
    rw [if_pos rfl]
    exact t_no 6 (by decide) rfl hT hQ
  · have e2 : o_explore S a = (nI (exl n S.1 0).1, sM S (exl n S.1 0).2) := by
      unfold o_explore
      rw [e]
      exact if_neg (by omega)
    rw [e2] at hQ
    rw [if_neg (by decide), ha]
    exact t_exl (S := S) (m := n) (by omega) hF F 0 σ S.1 (by omega) (by omega) hT hM Tw.refl (fun τ w h => hQ τ w.tu h)
theorem t_next {Q : Int32 → wS → Prop} {a : Int32} (hT : TT σ t S) (hM : MV S.1) (hF : 1000 ≤ F) (hQ : ∀ τ, Tu t σ τ → TT τ t (o_next S a).2 → Q (o_next S a).1 τ) : w_X24_next F σ t a Q := by
  obtain ⟨⟨hs, l, no⟩, ⟨hb, hX, hB⟩, hN⟩ := hM
  unfold w_X24_next
  refine ⟨hT.ok, t_isFrom (N := 3) (by decide) rfl (fun e => ?_) (fun w hw ha e => ?_)⟩
  · have e2 : o_next S a = noA S 5 := by unfold o_next; rw [e]
    rw [e2] at hQ
    rw [if_pos rfl]
    exact t_no 5 (by decide) rfl hT hQ
  rw [if_neg (by decide), ha]
  refine t_finds hT.1.1 hT.1.2.2 hB hs l hb hN (by omega) (fun h0 τ w1 hL => ?_) (fun x r f h1' τ w1 hL hn => ?_)
  · have e2 : o_next S a = (-1, S) := by unfold o_next; rw [e]; dsimp only; rw [h0]
    rw [e2] at hQ
    rw [if_pos rfl]
    exact hQ τ w1.tu (hT.tw w1 (by decide))
  · have e2 : o_next S a = (if w = 0 then nI x else if w = 1 then nI r else if w = 2 then (if r = 0 then -1 else nI f) else if 64 < mN S.1 + nws S.1 x r f then 0 else 1, S) := by unfold o_next; rw [e]; dsimp only; rw [h1']
    rw [e2] at hQ
    rw [if_neg (by decide)]
    have hT1 := hT.tw w1 (by decide)
    have hk := nk_of h1'
    obtain ⟨n1, n2, n3⟩ := hn
    have hq := hQ τ w1.tu hT1
    rw [n1, n2, n3]
    by_cases k0 : w = 0
    · rw [if_pos (by rw [k0]; rfl)]
      rw [if_pos k0] at hq
      exact hq
    rw [if_neg (show ¬ nI w = (0 : Int32) from nI_eqf (b := 0) (by omega) (by decide) k0)]
    rw [if_neg k0] at hq
    by_cases k1 : w = 1
    · rw [if_pos (by rw [k1]; rfl)]
      rw [if_pos k1] at hq
      exact hq
    rw [if_neg (show ¬ nI w = (1 : Int32) from nI_eqf (b := 1) (by omega) (by decide) k1)]
    rw [if_neg k1] at hq
    by_cases k2 : w = 2
    · rw [if_pos (by rw [k2]; rfl)]
      rw [if_pos k2] at hq
      exact hq
    rw [if_neg (show ¬ nI w = (2 : Int32) from nI_eqf (b := 2) (by omega) (by decide) k2)]
    rw [if_neg k0, if_neg k1, if_neg k2] at hQ
    refine t_news hT1.1.1 hs ⟨n1, n2, n3⟩ hk (by omega) (fun τ2 w2 => ?_)
    have hT2 := hT1.tw w2 (by decide)
    have hl := news_le (s := S.1) (e := x) (r := r) (f := f)
    have hq2 := hQ τ2 (w1.tuT w2.tu) hT2
    rw [hT1.1.1.1.2.2.1, nI_add]
    by_cases z : 64 < mN S.1 + nws S.1 x r f
    · rw [if_pos (show (64 : Int32) < nI (mN S.1 + nws S.1 x r f) from nI_lt (a := 64) z (by omega))]
      rw [if_pos z] at hq2
      exact hq2
    · rw [if_neg (show ¬ (64 : Int32) < nI (mN S.1 + nws S.1 x r f) from nI_nlt (b := mN S.1 + nws S.1 x r f) (a := 64) (by omega) (by decide))]
      rw [if_neg z] at hq2
      exact hq2
theorem t_fired {Q : Int32 → wS → Prop} {a : Int32} (hT : TT σ t S) (hQ : ∀ τ, Tu t σ τ → TT τ t (o_fired S a).2 → Q (o_fired S a).1 τ) : w_X24_fired σ t a Q := by
  unfold w_X24_fired
  refine ⟨hT.ok, t_isFrom (N := 6) (by decide) rfl (fun e => ?_) (fun w hw ha e => ?_)⟩
  · have e2 : o_fired S a = noA S 5 := by unfold o_fired; rw [e]
    rw [e2] at hQ
    rw [if_pos rfl]
    exact t_no 5 (by decide) rfl hT hQ
  · have e2 : o_fired S a = (nI (S.1 17 w), S) := by unfold o_fired; rw [e]
    rw [e2] at hQ
    rw [if_neg (by decide), ha, nI_clamp (by omega), hT.1.2.2.2.1 w hw]
    exact ⟨vp_inN hw (by decide), hQ σ Tu.refl hT⟩
theorem isWay_d : ∀ k, k < 12 → (if nI k = (1 : Int32) then (1 : Int32) else if nI k = (2 : Int32) then (1 : Int32) else if nI k < (4 : Int32) then if nI k < (8 : Int32) then (0 : Int32) else if (11 : Int32) < nI k then (0 : Int32) else (1 : Int32) else if nI k ≤ (6 : Int32) then (1 : Int32) else if nI k < (8 : Int32) then (0 : Int32) else if (11 : Int32) < nI k then (0 : Int32) else (1 : Int32)) = if k = 0 ∨ k = 3 ∨ k = 7 then 0 else 1 := by decide
theorem t_isWay {Q : Int32 → wS → Prop} {a : Int32} (h0 : wayN a = none → Q 0 σ) (h1 : ∀ k, k < 12 → k ≠ 0 → k ≠ 3 → k ≠ 7 → a = nI k → wayN a = some k → Q 1 σ) : w_X24_isWay σ t a Q := by
  unfold w_X24_isWay
  rcases num_cs (N := 12) (by decide) a with ⟨k, hk, ha, e⟩ | ⟨e, h⟩
  · have ew : wayN a = if k = 0 ∨ k = 3 ∨ k = 7 then none else some k := by unfold wayN; rw [e]
    have h1' := h1 k hk
    rw [ew] at h0 h1'
    rw [ha, isWay_d k hk]
    by_cases q : k = 0 ∨ k = 3 ∨ k = 7
    · rw [if_pos q]
      exact h0 (if_pos q)
    · rw [if_neg q]
      exact h1' (fun z => q (Or.inl z)) (fun z => q (Or.inr (Or.inl z))) (fun z => q (Or.inr (Or.inr z))) ha (if_neg q)
  · have hq := h0 (by unfold wayN; rw [e])
    rcases h with h | ⟨h, h'⟩
    · have hh : ∀ c : Int32, 0 ≤ c → ¬ a = c := fun c hc z => absurd h (Int32.not_lt.mpr (z ▸ hc))
      rw [if_neg (hh 1 (by decide)), if_neg (hh 2 (by decide)), if_pos (Int32.lt_trans h (by decide)), if_pos (Int32.lt_trans h (by decide))]
      exact hq
    · obtain ⟨n, hn, rfl⟩ := nI_of h
      have n12 : 12 ≤ n := (nI_leI (by decide) hn).mp h'
      rw [if_neg (show ¬ nI n = (1 : Int32) from fun z => absurd ((nI_eq (b := 1) hn (by decide)).mp z) (by omega)), if_neg (show ¬ nI n = (2 : Int32) from fun z => absurd ((nI_eq (b := 2) hn (by decide)).mp z) (by omega)),
        if_neg (show ¬ nI n < (4 : Int32) from nI_nlt (b := 4) (by omega) hn), if_neg (show ¬ nI n ≤ (6 : Int32) from nI_ge (a := 6) (b := n) (by omega) hn), if_neg (show ¬ nI n < (8 : Int32) from nI_nlt (b := 8) (by omega) hn), if_pos (show (11 : Int32) < nI n from nI_lt (a := 11) (by omega) hn)]
      exact hq
theorem and_nI (a b : Nat) : nI a &&& nI b = nI (a &&& b) := by
  apply Int32.toBitVec_inj.mp
  show BitVec.ofNat 32 a &&& BitVec.ofNat 32 b = BitVec.ofNat 32 (a &&& b)
  exact (BitVec.ofNat_and ..).symm
theorem msk_d : ∀ k, k < 12 → ((1 : Int32) <<< (nI k &&& 31)) ^^^ (-1 : Int32) = nI (4294967295 - 2 ^ k) := by decide
theorem clr_lt {a k : Nat} (h : a < 4096) : clr a k < 4096 := Nat.lt_of_le_of_lt Nat.and_le_left h
theorem stb_lt {a k : Nat} (h : a < 4096) (hk : k < 12) : stb a k < 4096 := Nat.or_lt_two_pow (n := 12) h (Nat.pow_lt_pow_right (a := 2) (by decide) hk)
theorem clr_I {a k : Nat} (hk : k < 12) : nI a &&& (((1 : Int32) <<< (nI k &&& 31)) ^^^ (-1 : Int32)) = nI (clr a k) := by rw [msk_d k hk, and_nI]; rfl
theorem shl2 : ∀ p, p < 12 → (1 : Int32) <<< (nI p &&& 31) = nI (2 ^ p) := by decide
theorem stb_I {a k : Nat} (hk : k < 12) : nI a ||| ((1 : Int32) <<< (nI k &&& 31)) = nI (stb a k) := by rw [shl2 k hk, or_nI]; rfl
theorem tt_19 {v : Nat} (h : TT σ t S) (w : Tw [2504] t σ τ) (e : oI τ 2504 t = nI v) : TT τ t (sM S (s19 S.1 v)) :=
  tt_mem h w (by decide) (h.1.1.tw w (by decide)) ⟨e, fun i hi => by rw [w.A (by decide), w.A (by decide)]; exact h.1.2.1.2 i hi⟩ (h.1.2.2.tw w (by decide)) rfl
end PT
