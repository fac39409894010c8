set_option linter.unusedVariables false
set_option maxRecDepth 10000
/-! ===== twin: what is told; groups and expressions ===== -/
section PT
variable {σ τ υ : wS} {t F : Nat} {s : mS} {S : gS}
theorem Tw.tuT {G : List Nat} (h : Tw G t σ τ) (k : Tu t τ υ) : Tu t σ υ := by
  obtain ⟨⟨a1, a2, a3, a4, a5, a6, a7, a8⟩, a⟩ := h
  obtain ⟨⟨b1, b2⟩, b, b6, b7, b8⟩ := k
  refine ⟨⟨b1.trans a1, b2.trans a2⟩, fun g o q hq => ?_, by omega, by omega, by omega⟩
  obtain ⟨c1, c2, c3, c4⟩ := a g o (fun e => absurd e q)
  obtain ⟨⟨d1, d2, d3, d4⟩, d5, d6, d7⟩ := b g o q (by omega)
  exact ⟨⟨d1.trans c1, d2.trans c2, d3.trans c3, d4.trans c4⟩, by rw [d5, a4], by rw [d6, a5], by rw [d7, a3]⟩
theorem div2_d : ∀ p, p < 8 → nI p / (2 : Int32) = nI (p / 2) := by decide
theorem t_isColB {Q : Int32 → wS → Prop} {C c : Nat} {b : Bool} (hC : C < 2 ^ 31) (hc : c < 4) (e : C.testBit c = b) (h : Q (if b = true then 1 else 0) σ) : w_X24_isColumn σ t (nI C) (nI c) Q :=
  t_isColumn hC hc (by rw [e]; exact h)
theorem t_may {Q : Int32 → wS → Prop} {k p x y : Nat} (hT : TM σ t s) (hs : Sh s) (l : Lo s) (hb : Tb s) (hk : k = 3 ∨ k = 4 ∨ k = 5 ∨ k = 6) (hp : p < (if k = 3 then 8 else 4)) (hx : x < mG s) (hy : y < mG s) (hF : 200 ≤ F) (hQ : ∀ τ, Tw GL t σ τ → TL τ t s → Q (if mayK s k p x y = true then 1 else 0) τ) : w_X24_may F σ t (nI k) (nI p) (nI x) (nI y) Q := by
  unfold w_X24_may
  refine ⟨hT.1.1, t_tells hT hs l hb hF (fun τ w hL v hv => ?_)⟩
  have hT' := hT.tw w (by decide)
  have hq := hQ τ w hL
  have hG := hs.2.1
  have hN := hs.1
  have e1 : v = nI (if k = 3 then p / 2 else p) ∧ (if k = 3 then p / 2 else p) < 4 := by
    rw [hv]
    by_cases q : k = 3
    · rw [if_pos q] at hp
      rw [if_pos (by rw [q]; rfl), if_pos q, div2_d p hp]
      exact ⟨rfl, by omega⟩
    · rw [if_neg q] at hp
      rw [if_neg (show ¬ nI k = (3 : Int32) from nI_eqf (b := 3) (by omega) (by decide) q), if_neg q]
      exact ⟨rfl, hp⟩
  rw [e1.1]
  unfold mayK at hq
  generalize (if k = 3 then p / 2 else p) = c at e1 hq
  have c4 := e1.2
  refine t_root hT' hs hx (by omega) ?_
  have rx := sh_lt hs hx
  have ry := sh_lt hs hy
  refine ⟨vp_inN (by omega) (by decide), ?_⟩
  rw [nI_clamp (by omega), hL.cl hs hx]
  have bx := l.2.2.2 x hx
  have by' := l.2.2.2 y hy
  refine t_isColB (b := (s 9 (R s x)).testBit c) (by omega) c4 rfl ?_
  cases h1 : (s 9 (R s x)).testBit c with
  | false =>
    rw [h1] at hq
    rw [if_neg (show ¬ false = true by decide), if_pos rfl]
    exact hq
  | true =>
    rw [h1] at hq
    rw [if_pos rfl, if_neg (by decide)]
    by_cases q : k < 5
    · rw [if_pos (show nI k < (5 : Int32) from nI_lt (b := 5) q (by decide))]
      rw [decide_eq_true q] at hq
      exact hq
    · rw [if_neg (show ¬ nI k < (5 : Int32) from nI_nlt (b := 5) (by omega) (by omega))]
      rw [decide_eq_false q] at hq
      refine t_root hT' hs hy (by omega) ⟨vp_inN (by omega) (by decide), ?_⟩
      rw [nI_clamp (by omega), hL.cl hs hy]
      refine t_isColB (b := (s 9 (R s y)).testBit c) (by omega) c4 rfl ?_
      cases h2 : (s 9 (R s y)).testBit c with
      | false =>
        rw [h2] at hq
        rw [if_neg (show ¬ false = true by decide), if_pos rfl]
        exact hq
      | true =>
        rw [h2] at hq
        rw [if_pos rfl, if_neg (by decide)]
        exact hq
theorem t_tellOf {Q : Int32 → wS → Prop} {k p x y : Nat} {X Y : Int32} (hT : TT σ t S) (hs : Sh S.1) (hN : mN S.1 ≤ 64) (hk : k < 7) (hp : p < 100) (hx : Im (k ≠ 1) (x < mG S.1 ∧ X = nI x)) (hy : Im (5 ≤ k) (y < mG S.1 ∧ Y = nI y)) (hF : 200 ≤ F) (hQ : ∀ τ, Tu t σ τ → TT τ t (tlo S k p x y).2 → Q (tlo S k p x y).1 τ) : w_X24_tellOf F σ t (nI k) (nI p) X Y Q := by
  unfold w_X24_tellOf
  refine ⟨hT.ok, t_alike hT.1.1 hs hk hp hx hy hF ?_⟩
  have told : (lik S.1 k p x y = none → mN S.1 ≠ 64) → b_X24_tellOf_29 F t (nI k) (nI p) X Y Q σ := fun h0 => by
    unfold b_X24_tellOf_29
    refine ⟨hT.ok, t_told hT.1.1 hs (by omega) hk hp hx hy hF (fun e he => ?_) (fun he τ w h => ?_)⟩
    · have eo : tlo S k p x y = (nI (R S.1 (S.1 6 e)), S) := by unfold tlo; rw [he]
      rw [eo] at hQ
      exact hQ σ Tu.refl hT
    · have eo : tlo S k p x y = (nI (mG S.1), sM S (nwx S.1 k p x y)) := by unfold tlo; rw [he]; exact if_neg (h0 he)
      rw [eo] at hQ
      exact hQ τ w.tu (tt_mem10 hT w (by decide) (by decide) h (nwx_old hs).1.2.2.2)
  cases he : lik S.1 k p x y with
  | some e =>
    have := lik_lt he
    rw [show oN (some e) = nI e from rfl, if_neg (nI_m1 (by omega))]
    exact told (fun z => by rw [he] at z; cases z)
  | none =>
    rw [if_pos (show oN none = (-1 : Int32) from rfl), hT.1.1.1.2.2.1]
    by_cases q : mN S.1 = 64
    · rw [if_pos (by rw [q]; rfl)]
      have eo : tlo S k p x y = noA S 7 := by unfold tlo; rw [he]; exact if_pos q
      rw [eo] at hQ
      exact t_no 7 (by decide) rfl hT hQ
    · rw [if_neg (show ¬ nI (mN S.1) = (64 : Int32) from nI_eqf (b := 64) (by omega) (by decide) q)]
      exact told (fun _ => q)
theorem t_scan {Q : Int32 → wS → Prop} {a : Int32} (hT : TT σ t S) (hM : MV S.1) (hF : 1000 ≤ F) (hQ : ∀ τ, Tu t σ τ → TT τ t (o_scan S a).2 → Q (o_scan S a).1 τ) : w_X24_scan F σ t a Q := by
  obtain ⟨⟨hs, l, n⟩, -, hN⟩ := hM
  have h8 := hs.2.2.2.1
  unfold w_X24_scan
  have b12 : num (S.1 10 0) a = none → b_X24_scan_12 F t Q σ := fun e => by
    have e2 : o_scan S a = noA S 1 := by unfold o_scan; rw [e]
    rw [e2] at hQ
    exact ⟨hT.ok, t_no 1 (by decide) rfl hT hQ⟩
  rcases num_cs (N := S.1 10 0) (by omega) a with ⟨i, hi, ha, e⟩ | ⟨e, h | ⟨h, h'⟩⟩
  · have e2 : o_scan S a = tlo S 1 i 0 0 := by unfold o_scan; rw [e]
    rw [e2] at hQ
    rw [ha, if_neg (nI_pos (by omega)), hT.1.1.1.2.1, if_pos (nI_lt hi (by omega))]
    exact ⟨hT.ok, t_tellOf (k := 1) (x := 0) (y := 0) hT hs hN (by decide) (by omega) (fun z => absurd rfl z) (fun z => absurd z (by decide)) (by omega) hQ⟩
  · rw [if_pos h]; exact b12 e
  · rw [if_neg h, hT.1.1.1.2.1, if_neg (Int32.not_lt.mpr h')]; exact ⟨hT.ok, b12 e⟩
theorem t_keep {Q : Int32 → wS → Prop} {p x : Int32} (hT : TT σ t S) (hM : MV S.1) (hF : 1000 ≤ F) (hQ : ∀ τ, Tu t σ τ → TT τ t (o_keep S p x).2 → Q (o_keep S p x).1 τ) : w_X24_keep F σ t p x Q := by
  obtain ⟨⟨hs, l, n⟩, ⟨hb, -⟩, hN⟩ := hM
  have hG := hs.2.1
  unfold w_X24_keep
  refine ⟨hT.ok, t_isGroup hT.1.1 (by omega) (fun ex => ?_) (fun g hg hx ex => ?_)⟩
  · have e2 : o_keep S p x = noA S 1 := by unfold o_keep; rw [ex]
    rw [e2] at hQ
    rw [if_pos rfl]
    exact t_no 1 (by decide) rfl hT hQ
  rw [if_neg (by decide)]
  refine t_isFrom (N := 7) (by decide) rfl (fun ep => ?_) (fun q hq hp ep => ?_)
  · have e2 : o_keep S p x = noA S 6 := by unfold o_keep; rw [ex, ep]
    rw [e2] at hQ
    rw [if_pos rfl]
    exact ⟨hT.ok, t_no 6 (by decide) rfl hT hQ⟩
  rw [if_neg (by decide), hx, hp]
  have eo : o_keep S p x = if mayK S.1 3 q g g = true then tlo S 3 q g g else noA S 6 := by unfold o_keep; rw [ex, ep]
  rw [eo] at hQ
  refine t_may (k := 3) hT.1.1 hs l hb (Or.inl rfl) (by rw [if_pos rfl]; exact hq) hg hg (by omega) (fun τ w hL => ?_)
  have hT' := hT.tw w (by decide)
  by_cases z : mayK S.1 3 q g g = true
  · rw [if_pos z] at hQ
    rw [if_pos z, if_neg (by decide)]
    exact t_tellOf (k := 3) hT' hs hN (by decide) (by omega) (fun _ => ⟨hg, rfl⟩) (fun z => absurd z (by decide)) (by omega) (fun τ' k h => hQ τ' (w.tuT k) h)
  · rw [if_neg z] at hQ
    rw [if_neg z, if_pos rfl]
    exact ⟨hT'.ok, t_no 6 (by decide) rfl hT' (fun τ' k h => hQ τ' (w.tuT k) h)⟩
theorem t_tally {Q : Int32 → wS → Prop} {c x : Int32} (hT : TT σ t S) (hM : MV S.1) (hF : 1000 ≤ F) (hQ : ∀ τ, Tu t σ τ → TT τ t (o_tally S c x).2 → Q (o_tally S c x).1 τ) : w_X24_tally F σ t c x Q := by
  obtain ⟨⟨hs, l, n⟩, ⟨hb, -⟩, hN⟩ := hM
  have hG := hs.2.1
  unfold w_X24_tally
  refine ⟨hT.ok, t_isFrom (N := 3) (by decide) rfl (fun ec => ?_) (fun q hq hc ec => ?_)⟩
  · have e2 : o_tally S c x = noA S 1 := by unfold o_tally; rw [ec]
    rw [e2] at hQ
    rw [if_pos rfl]
    exact ⟨hT.ok, t_no 1 (by decide) rfl hT hQ⟩
  rw [if_neg (by decide)]
  refine t_isGroup hT.1.1 (by omega) (fun ex => ?_) (fun g hg hx ex => ?_)
  · have e2 : o_tally S c x = noA S 1 := by unfold o_tally; rw [ec, ex]
    rw [e2] at hQ
    rw [if_pos rfl]
    exact ⟨hT.ok, t_no 1 (by decide) rfl hT hQ⟩
  rw [if_neg (by decide), hx, hc]
  have eo : o_tally S c x = if mayK S.1 4 q g g = true then tlo S 4 q g g else noA S 6 := by unfold o_tally; rw [ec, ex]
  rw [eo] at hQ
  refine t_may (k := 4) hT.1.1 hs l hb (Or.inr (Or.inl rfl)) (by rw [if_neg (by decide)]; exact hq) hg hg (by omega) (fun τ w hL => ?_)
  have hT' := hT.tw w (by decide)
  by_cases z : mayK S.1 4 q g g = true
  · rw [if_pos z] at hQ
    rw [if_pos z, if_neg (by decide)]
    exact t_tellOf (k := 4) hT' hs hN (by decide) (by omega) (fun _ => ⟨hg, rfl⟩) (fun z => absurd z (by decide)) (by omega) (fun τ' k h => hQ τ' (w.tuT k) h)
  · rw [if_neg z] at hQ
    rw [if_neg z, if_pos rfl]
    exact t_no 6 (by decide) rfl hT' (fun τ' k h => hQ τ' (w.tuT k) h)
theorem t_two {Q : Int32 → wS → Prop} {k : Nat} {c x y : Int32} (hk : k = 5 ∨ k = 6) (hT : TT σ t S) (hM : MV S.1) (hF : 1000 ≤ F) (hQ : ∀ τ, Tu t σ τ → TT τ t (o_two S k c x y).2 → Q (o_two S k c x y).1 τ) : w_X24_two F σ t (nI k) c x y Q := by
  obtain ⟨⟨hs, l, n⟩, ⟨hb, -⟩, hN⟩ := hM
  have hG := hs.2.1
  unfold w_X24_two
  have b27 : o_two S k c x y = noA S 1 → b_X24_two_27 F t Q σ := fun e2 => by
    rw [e2] at hQ
    exact ⟨hT.ok, t_no 1 (by decide) rfl hT hQ⟩
  refine ⟨hT.ok, t_isFrom (N := 3) (by decide) rfl (fun ec => ?_) (fun q hq hc ec => ?_)⟩
  · rw [if_pos rfl]
    exact b27 (by unfold o_two; rw [ec])
  rw [if_neg (by decide)]
  refine t_isGroup hT.1.1 (by omega) (fun ex => ?_) (fun g hg hx ex => ?_)
  · rw [if_pos rfl]
    exact b27 (by unfold o_two; rw [ec, ex])
  rw [if_neg (by decide)]
  refine t_isGroup hT.1.1 (by omega) (fun ey => ?_) (fun h hh hy ey => ?_)
  · rw [if_pos rfl]
    exact b27 (by unfold o_two; rw [ec, ex, ey])
  rw [if_neg (by decide), hx, hc, hy]
  have eo : o_two S k c x y = if mayK S.1 k q g h = true then tlo S k q g h else noA S 6 := by unfold o_two; rw [ec, ex, ey]
  rw [eo] at hQ
  refine t_may (k := k) hT.1.1 hs l hb (Or.inr (Or.inr hk)) (by rw [if_neg (by omega)]; exact hq) hg hh (by omega) (fun τ w hL => ?_)
  have hT' := hT.tw w (by decide)
  by_cases z : mayK S.1 k q g h = true
  · rw [if_pos z] at hQ
    rw [if_pos z, if_neg (by decide)]
    exact t_tellOf (k := k) hT' hs hN (by omega) (by omega) (fun _ => ⟨hg, rfl⟩) (fun _ => ⟨hh, rfl⟩) (by omega) (fun τ' k h => hQ τ' (w.tuT k) h)
  · rw [if_neg z] at hQ
    rw [if_neg z, if_pos rfl]
    exact t_no 6 (by decide) rfl hT' (fun τ' k h => hQ τ' (w.tuT k) h)
theorem t_join {Q : Int32 → wS → Prop} {c x y : Int32} (hT : TT σ t S) (hM : MV S.1) (hF : 1000 ≤ F) (hQ : ∀ τ, Tu t σ τ → TT τ t (o_two S 5 c x y).2 → Q (o_two S 5 c x y).1 τ) : w_X24_join F σ t c x y Q := by
  unfold w_X24_join
  exact ⟨hT.ok, t_two (k := 5) (Or.inl rfl) hT hM hF hQ⟩
theorem t_half {Q : Int32 → wS → Prop} {c x y : Int32} (hT : TT σ t S) (hM : MV S.1) (hF : 1000 ≤ F) (hQ : ∀ τ, Tu t σ τ → TT τ t (o_two S 6 c x y).2 → Q (o_two S 6 c x y).1 τ) : w_X24_half F σ t c x y Q := by
  unfold w_X24_half
  exact ⟨hT.ok, t_two (k := 6) (Or.inr rfl) hT hM hF hQ⟩
theorem t_same {Q : Int32 → wS → Prop} {a b : Int32} (hT : TT σ t S) (hM : MV S.1) (hF : 1000 ≤ F) (hQ : ∀ τ, Tu t σ τ → TT τ t (o_same S a b).2 → Q (o_same S a b).1 τ) : w_X24_same F σ t a b Q := by
  obtain ⟨⟨hs, l, n⟩, ⟨hb, -⟩, hN⟩ := hM
  have hG := hs.2.1
  unfold w_X24_same
  refine ⟨hT.ok, t_isGroup hT.1.1 (by omega) (fun ea => ?_) (fun g hg ha ea => ?_)⟩
  · have e2 : o_same S a b = noA S 1 := by unfold o_same; rw [ea] <;> cases num (mG S.1) b <;> rfl
    rw [e2] at hQ
    rw [if_pos rfl]
    exact ⟨hT.ok, t_no 1 (by decide) rfl hT hQ⟩
  rw [if_neg (by decide)]
  refine t_isGroup hT.1.1 (by omega) (fun eb => ?_) (fun h hh hb' eb => ?_)
  · have e2 : o_same S a b = noA S 1 := by unfold o_same; rw [ea, eb]
    rw [e2] at hQ
    rw [if_pos rfl]
    exact ⟨hT.ok, t_no 1 (by decide) rfl hT hQ⟩
  rw [if_neg (by decide), ha, hb']
  have eo : o_same S a b = if S.1 9 (R S.1 g) = S.1 9 (R S.1 h) then (nI (R (mrg S.1 g h) g), sM S (mrg S.1 g h)) else noA S 6 := by unfold o_same; rw [ea, eb]
  rw [eo] at hQ
  refine t_tells hT.1.1 hs l hb (by omega) (fun τ w hL => ?_)
  have hT' := hT.tw w (by decide)
  have rg := sh_lt hs hg
  have rh := sh_lt hs hh
  have bg := l.2.2.2 g hg
  have bh := l.2.2.2 h hh
  refine t_root hT'.1.1 hs hg (by omega) ⟨vp_inN (by omega) (by decide), ?_⟩
  refine t_root hT'.1.1 hs hh (by omega) ⟨vp_inN (by omega) (by decide), ?_⟩
  rw [nI_clamp (by omega), nI_clamp (by omega), hL.cl hs hg, hL.cl hs hh]
  by_cases z : S.1 9 (R S.1 g) = S.1 9 (R S.1 h)
  · rw [if_pos z] at hQ
    rw [if_pos (by rw [z])]
    obtain ⟨m1, m2, m3, m4⟩ := mrg_ok hs l hg hh z
    refine t_merges hT'.1.1 hs l hg hh z (by omega) (fun τ2 w2 h2 => ?_)
    have eG : mG (mrg S.1 g h) = mG S.1 := congrFun (m4 1 (by decide) (by decide)) 0
    refine t_root h2 m1 (by omega) (by omega) ?_
    exact hQ τ2 (w.tuT w2.tu) (tt_mem10 hT' w2 (by decide) (by decide) h2 (fun k hk => m4 k (by omega) (by omega)))
  · rw [if_neg z] at hQ
    rw [if_neg (nI_eqf (by omega) (by omega) z)]
    exact t_no 6 (by decide) rfl hT' (fun τ' k h => hQ τ' (w.tuT k) h)
theorem t_groupOf {Q : Int32 → wS → Prop} {a : Int32} (hT : TT σ t S) (hM : MV S.1) (hF : 1000 ≤ F) (hQ : ∀ τ, Tu t σ τ → TT τ t (o_groupOf S a).2 → Q (o_groupOf S a).1 τ) : w_X24_groupOf F σ t a Q := by
  obtain ⟨⟨hs, l, n⟩, ⟨hb, -⟩, hN⟩ := hM
  have hG := hs.2.1
  unfold w_X24_groupOf
  refine ⟨hT.ok, t_isGroup hT.1.1 (by omega) (fun ea => ?_) (fun g hg ha ea => ?_)⟩
  · have e2 : o_groupOf S a = noA S 1 := by unfold o_groupOf; rw [ea]
    rw [e2] at hQ
    rw [if_pos rfl]
    exact t_no 1 (by decide) rfl hT hQ
  · have e2 : o_groupOf S a = (nI (R S.1 g), S) := by unfold o_groupOf; rw [ea]
    rw [e2] at hQ
    rw [if_neg (by decide), ha]
    exact t_root hT.1.1 hs hg (by omega) (hQ σ Tu.refl hT)
def gpP (s : mS) (w g e : Nat) : Bool := if w = 0 then mem s g e else usr s g e
theorem ctn_le {p : Nat → Bool} : ∀ n, ctn p n ≤ n := by
  intro n
  induction n with
  | zero => exact Nat.le_refl 0
  | succ n ih =>
    show ctn p n + (if p n = true then 1 else 0) ≤ n + 1
    split <;> omega
theorem nI_if {b : Bool} {c : Nat} : nI c + (if b = true then (1 : Int32) else 0) = nI (c + (if b = true then 1 else 0)) := by
  cases b
  · exact nI_add c 0
  · exact nI_add c 1
theorem t_g156 {Q : Int32 → wS → Prop} {kk : wS → Int32 → Int32 → Int32 → Prop} {w e g c : Nat} {u : Bool} {s0 : Int32} (hT : TM σ t s) (hs : Sh s) (hN : mN s ≤ 64) (he : e < mN s) (hg : g < mG s) (hw : w < 5) (h8 : s 8 e = 0) (e0 : s0 = if u = true then 1 else 0) (hu : u = usr s g e) (hF : 200 ≤ F) (hQ : kk σ (nI g) (nI (c + if gpP s w g e = true then 1 else 0)) (nI (e + 1))) : b_X24_group_156 F t (nI w) Q kk σ (nI g) (nI c) (nI e) s0 := by
  obtain ⟨m1, m2, m3, m4, m5, m6⟩ := hT.2.1 _ he
  obtain ⟨s1, s2, s3, s4⟩ := sh_bnd hs he
  have hG := hs.2.1
  unfold b_X24_group_156
  by_cases q : w = 0
  · rw [if_pos (by rw [q]; rfl), nI_clamp (by omega), m5]
    refine ⟨hT.1.1, vp_inN (by omega) (by decide), t_root hT hs s3 (by omega) (fun v hv => ?_)⟩
    have rr := sh_lt hs s3
    have ev : v = nI (c + if gpP s w g e = true then 1 else 0) := by
      rw [hv]
      have : (if nI (R s (s 6 e)) = nI g then (1 : Int32) else 0) = if gpP s w g e = true then 1 else 0 := by
        unfold gpP mem
        rw [if_pos q]
        by_cases z : R s (s 6 e) = g
        · rw [if_pos (by rw [z]), if_pos (by simp [h8, z])]
        · rw [if_neg (nI_eqf (by omega) (by omega) z), if_neg (by simp [z])]
      rw [this, nI_if]
    rw [ev, nIl_1, nI_add]
    exact hQ
  · rw [if_neg (show ¬ nI w = (0 : Int32) from nI_eqf (b := 0) (by omega) (by decide) q)]
    intro v hv
    have ev : v = nI (c + if gpP s w g e = true then 1 else 0) := by
      rw [hv, e0]
      unfold gpP
      rw [if_neg q, ← hu]
      cases u
      · exact nI_add c 0
      · exact nI_add c 1
    rw [ev, nIl_1, nI_add]
    exact hQ
theorem t_g77 {Q : Int32 → wS → Prop} {w g : Nat} (hT : TM σ t s) (hs : Sh s) (hN : mN s ≤ 64) (hg : g < mG s) (hw : w < 5) (hF : 200 ≤ F) (hQ : Q (nI (ctn (gpP s w g) (mN s))) σ) : ∀ n e, e ≤ mN s → mN s - e < n → l_X24_group_77 F t (nI w) Q n σ (nI g) (nI (ctn (gpP s w g) e)) (nI e) := by
  intro n
  induction n with
  | zero => intro e h1 h2; omega
  | succ n ih =>
    intro e h1 h2
    unfold l_X24_group_77
    rw [hT.1.2.2.1]
    refine ⟨hT.1.1, ?_⟩
    by_cases q : e = mN s
    · rw [if_pos (nI_le (by omega) (by omega)), q]
      exact hQ
    have he : e < mN s := by omega
    obtain ⟨m1, m2, m3, m4, m5, m6⟩ := hT.2.1 _ he
    obtain ⟨s1, s2, s3, s4⟩ := sh_bnd hs he
    have hG := hs.2.1
    rw [if_neg (nI_ge he (by omega)), nI_clamp (by omega), m6, m1]
    refine ⟨vp_inN (by omega) (by decide), ?_⟩
    have nx := ih (e + 1) (by omega) (by omega)
    have ce : ctn (gpP s w g) (e + 1) = ctn (gpP s w g) e + if gpP s w g e = true then 1 else 0 := rfl
    by_cases h8 : s 8 e = 0
    · rw [if_pos (by rw [h8]; rfl)]
      rw [ce] at nx
      have b125 : (s 2 e = 1 ∨ R s (s 4 e) ≠ g) → b_X24_group_125 F t (nI w) Q (l_X24_group_77 F t (nI w) Q n) σ (nI g) (nI (ctn (gpP s w g) e)) (nI e) := fun z => by
        unfold b_X24_group_125
        rw [nI_clamp (by omega), m1]
        refine ⟨hT.1.1, vp_inN (by omega) (by decide), ?_⟩
        have z1 : (decide (s 2 e ≠ 1) && decide (R s (s 4 e) = g)) = false := by
          rcases z with z | z <;> simp [z]
        by_cases k5 : s 2 e < 5
        · rw [if_pos (show nI (s 2 e) < (5 : Int32) from nI_lt (b := 5) k5 (by decide))]
          refine t_g156 (u := false) hT hs hN he hg hw h8 rfl ?_ hF nx
          unfold usr
          rw [z1, decide_eq_false (show ¬ 5 ≤ s 2 e by omega)]
          simp
        · rw [if_neg (show ¬ nI (s 2 e) < (5 : Int32) from nI_nlt (b := 5) (by omega) (by omega)), m4 (by omega)]
          refine t_root hT hs (sx_5 hs he (by omega)) (by omega) ?_
          have rr := sh_lt hs (sx_5 hs he (by omega))
          refine t_g156 (u := decide (R s (s 5 e) = g)) hT hs hN he hg hw h8 ?_ ?_ hF nx
          · by_cases y : R s (s 5 e) = g
            · rw [if_pos (by rw [y]), if_pos (by simp [y])]
            · rw [if_neg (nI_eqf (by omega) (by omega) y), if_neg (by simp [y])]
          · unfold usr
            rw [z1, decide_eq_true (show 5 ≤ s 2 e by omega)]
            simp [h8]
      by_cases k1 : s 2 e = 1
      · rw [if_pos (by rw [k1]; rfl)]
        exact b125 (Or.inl k1)
      · rw [if_neg (show ¬ nI (s 2 e) = (1 : Int32) from nI_eqf (b := 1) (by omega) (by decide) k1), m3 k1]
        refine t_root hT hs (sx_4 hs he k1) (by omega) ?_
        have rr := sh_lt hs (sx_4 hs he k1)
        by_cases y : R s (s 4 e) = g
        · rw [if_pos (by rw [y])]
          refine t_g156 (u := true) hT hs hN he hg hw h8 rfl ?_ hF nx
          unfold usr
          simp [h8, k1, y]
        · rw [if_neg (nI_eqf (by omega) (by omega) y)]
          exact b125 (Or.inr y)
    · rw [if_neg (show ¬ nI (s 8 e) = (0 : Int32) from nI_eqf (b := 0) (by omega) (by decide) h8), nIl_1, nI_add]
      have : gpP s w g e = false := by
        unfold gpP mem usr
        by_cases q : w = 0
        · rw [if_pos q]; simp [h8]
        · rw [if_neg q]; simp [h8]
      rw [ce, this] at nx
      exact nx
theorem t_group {Q : Int32 → wS → Prop} {a b : Int32} (hT : TT σ t S) (hM : MV S.1) (hF : 1000 ≤ F) (hQ : ∀ τ, Tu t σ τ → TT τ t (o_group S a b).2 → Q (o_group S a b).1 τ) : w_X24_group F σ t a b Q := by
  obtain ⟨⟨hs, l, n⟩, ⟨hb, -⟩, hN⟩ := hM
  have hG := hs.2.1
  unfold w_X24_group
  refine ⟨hT.ok, t_isGroup hT.1.1 (by omega) (fun ea => ?_) (fun g hg ha ea => ?_)⟩
  · have e2 : o_group S a b = noA S 5 := by unfold o_group; rw [ea] <;> cases num 5 b <;> rfl
    rw [e2] at hQ
    rw [if_pos rfl]
    exact ⟨hT.ok, t_no 5 (by decide) rfl hT hQ⟩
  rw [if_neg (by decide)]
  refine t_isFrom (N := 4) (by decide) rfl (fun eb => ?_) (fun w hw hb' eb => ?_)
  · have e2 : o_group S a b = noA S 5 := by unfold o_group; rw [ea, eb]
    rw [e2] at hQ
    rw [if_pos rfl]
    exact ⟨hT.ok, t_no 5 (by decide) rfl hT hQ⟩
  rw [if_neg (by decide), ha, hb']
  have eo : o_group S a b = (if w = 1 then nI (rw' S.1 (R S.1 g)) else if w = 2 then nI (S.1 9 (R S.1 g)) else if w = 3 then oN (lsu S.1 (mN S.1) (R S.1 g))
      else if w = 0 then nI (ctn (mem S.1 (R S.1 g)) (mN S.1)) else nI (ctn (usr S.1 (R S.1 g)) (mN S.1)), S) := by unfold o_group; rw [ea, eb]
  rw [eo] at hQ
  refine t_tells hT.1.1 hs l hb (by omega) (fun τ x hL => ?_)
  have hT' := hT.tw x (by decide)
  have hq := hQ τ x.tu hT'
  have rg := sh_lt hs hg
  refine t_root hT'.1.1 hs hg (by omega) ?_
  obtain ⟨L1, L2, f, L3, L4⟩ := hL _ rg (sh_RR hs hg)
  rw [nI_clamp (by omega), L1, L2, L4]
  by_cases k1 : w = 1
  · rw [if_pos (by rw [k1]; rfl)]
    rw [if_pos k1] at hq
    exact ⟨vp_inN (by omega) (by decide), hq⟩
  rw [if_neg (show ¬ nI w = (1 : Int32) from nI_eqf (b := 1) (by omega) (by decide) k1)]
  rw [if_neg k1] at hq
  by_cases k2 : w = 2
  · rw [if_pos (by rw [k2]; rfl)]
    rw [if_pos k2] at hq
    exact ⟨vp_inN (by omega) (by decide), hq⟩
  rw [if_neg (show ¬ nI w = (2 : Int32) from nI_eqf (b := 2) (by omega) (by decide) k2)]
  rw [if_neg k2] at hq
  by_cases k3 : w = 3
  · rw [if_pos (by rw [k3]; rfl)]
    rw [if_pos k3, L3] at hq
    exact ⟨vp_inN (by omega) (by decide), hq⟩
  rw [if_neg (show ¬ nI w = (3 : Int32) from nI_eqf (b := 3) (by omega) (by decide) k3)]
  rw [if_neg k3] at hq
  refine t_g77 hT'.1.1 hs hN rg (by omega) (by omega) ?_ F 0 (by omega) (by omega)
  by_cases k0 : w = 0
  · rw [if_pos k0] at hq
    rw [show gpP S.1 w (R S.1 g) = mem S.1 (R S.1 g) from funext fun e => if_pos k0]
    exact hq
  · rw [if_neg k0] at hq
    rw [show gpP S.1 w (R S.1 g) = usr S.1 (R S.1 g) from funext fun e => if_neg k0]
    exact hq
theorem t_e144 {Q : Int32 → wS → Prop} {g : Nat} (hT : TM σ t s) (hs : Sh s) (hg : g < mG s) (hF : 200 ≤ F) (hQ : Q (nI (R s g)) σ) : b_X24_expression_144 F Q σ (some t) (nI g) := by
  unfold b_X24_expression_144
  exact ⟨t, rfl, hT.1.1, t_root hT hs hg (by omega) hQ⟩
theorem t_expression {Q : Int32 → wS → Prop} {a b : Int32} (hT : TT σ t S) (hM : MV S.1) (hF : 1000 ≤ F) (hQ : ∀ τ, Tu t σ τ → TT τ t (o_expr S a b).2 → Q (o_expr S a b).1 τ) : w_X24_expression F σ t a b Q := by
  obtain ⟨⟨hs, l, n⟩, ⟨hb, -⟩, hN⟩ := hM
  have hG := hs.2.1
  unfold w_X24_expression
  refine ⟨hT.ok, t_isExpr hT.1.1 (by omega) (fun ea => ?_) (fun e he ha ea => ?_)⟩
  · have e2 : o_expr S a b = noA S 5 := by unfold o_expr; rw [ea] <;> cases num 6 b <;> rfl
    rw [e2] at hQ
    rw [if_pos rfl]
    exact ⟨hT.ok, t_no 5 (by decide) rfl hT hQ⟩
  rw [if_neg (by decide)]
  refine t_isFrom (N := 5) (by decide) rfl (fun eb => ?_) (fun w hw hb' eb => ?_)
  · have e2 : o_expr S a b = noA S 5 := by unfold o_expr; rw [ea, eb]
    rw [e2] at hQ
    rw [if_pos rfl]
    exact ⟨hT.ok, t_no 5 (by decide) rfl hT hQ⟩
  have eo : o_expr S a b = (if w = 0 then nI (S.1 2 e) else if w = 1 then nI (S.1 3 e) else if w = 5 then nI (S.1 8 e)
      else if S.1 8 e = 1 ∨ w = 2 ∧ S.1 2 e = 1 ∨ w = 3 ∧ S.1 2 e < 5 then -1
      else if w = 2 then nI (R S.1 (S.1 4 e)) else if w = 3 then nI (R S.1 (S.1 5 e)) else nI (R S.1 (S.1 6 e)), S) := by unfold o_expr; rw [ea, eb]
  rw [eo] at hQ
  have hq := hQ σ Tu.refl hT
  obtain ⟨m1, m2, m3, m4, m5, m6⟩ := hT.1.1.2.1 _ he
  obtain ⟨s1, s2, s3, s4⟩ := sh_bnd hs he
  have v := vp_inN (show e < 144 by omega) (by decide)
  have cl : (nI e).toNatClampNeg = e := nI_clamp (by omega)
  rw [if_neg (by decide), ha, hb', cl, m1, m2, m6]
  by_cases k0 : w = 0
  · rw [if_pos (by rw [k0]; rfl)]
    rw [if_pos k0] at hq
    exact ⟨v, hq⟩
  rw [if_neg (show ¬ nI w = (0 : Int32) from nI_eqf (b := 0) (by omega) (by decide) k0)]
  rw [if_neg k0] at hq
  by_cases k1 : w = 1
  · rw [if_pos (by rw [k1]; rfl)]
    rw [if_pos k1] at hq
    exact ⟨v, hq⟩
  rw [if_neg (show ¬ nI w = (1 : Int32) from nI_eqf (b := 1) (by omega) (by decide) k1)]
  rw [if_neg k1] at hq
  by_cases k5 : w = 5
  · rw [if_pos (by rw [k5]; rfl)]
    rw [if_pos k5] at hq
    refine ⟨v, ?_⟩
    by_cases z : S.1 8 e = 0
    · rw [if_pos (by rw [z]; rfl)]; rw [z] at hq; exact hq
    · rw [if_neg (show ¬ nI (S.1 8 e) = (0 : Int32) from nI_eqf (b := 0) (by omega) (by decide) z)]
      rw [show S.1 8 e = 1 by omega] at hq; exact hq
  rw [if_neg (show ¬ nI w = (5 : Int32) from nI_eqf (b := 5) (by omega) (by decide) k5)]
  rw [if_neg k5] at hq
  refine ⟨v, ?_⟩
  by_cases z : S.1 8 e = 0
  · rw [if_pos (by rw [z]; rfl)]
    have b109 : (¬ (S.1 8 e = 1 ∨ w = 2 ∧ S.1 2 e = 1 ∨ w = 3 ∧ S.1 2 e < 5)) → b_X24_expression_109 F t (nI e) (nI w) Q σ := fun y => by
      rw [if_neg y] at hq
      unfold b_X24_expression_109
      rw [cl, m5]
      by_cases k2 : w = 2
      · rw [if_pos (by rw [k2]; rfl)]
        rw [if_pos k2] at hq
        have y1 : S.1 2 e ≠ 1 := fun z => y (Or.inr (Or.inl ⟨k2, z⟩))
        rw [m3 y1]
        exact ⟨hT.ok, v, t_e144 hT.1.1 hs (sx_4 hs he y1) (by omega) hq⟩
      rw [if_neg (show ¬ nI w = (2 : Int32) from nI_eqf (b := 2) (by omega) (by decide) k2)]
      rw [if_neg k2] at hq
      by_cases k3 : w = 3
      · rw [if_pos (by rw [k3]; rfl)]
        rw [if_pos k3] at hq
        have y1 : 5 ≤ S.1 2 e := Nat.le_of_not_lt fun z => y (Or.inr (Or.inr ⟨k3, z⟩))
        rw [m4 y1]
        exact ⟨hT.ok, v, t_e144 hT.1.1 hs (sx_5 hs he y1) (by omega) hq⟩
      rw [if_neg (show ¬ nI w = (3 : Int32) from nI_eqf (b := 3) (by omega) (by decide) k3)]
      rw [if_neg k3] at hq
      exact ⟨hT.ok, v, t_e144 hT.1.1 hs s3 (by omega) hq⟩
    have b92 : ¬ (w = 2 ∧ S.1 2 e = 1) → b_X24_expression_92 F t (nI e) (nI w) Q σ := fun y => by
      unfold b_X24_expression_92
      rw [cl, m1]
      by_cases k3 : w = 3
      · rw [if_pos (by rw [k3]; rfl)]
        refine ⟨hT.ok, v, ?_⟩
        by_cases x5 : S.1 2 e < 5
        · rw [if_neg (show ¬ (5 : Int32) ≤ nI (S.1 2 e) from nI_ge (b := 5) x5 (by decide))]
          rw [if_pos (Or.inr (Or.inr ⟨k3, x5⟩))] at hq
          exact hq
        · rw [if_pos (show (5 : Int32) ≤ nI (S.1 2 e) from nI_le (a := 5) (by omega) (by omega))]
          exact b109 (fun q => q.elim (fun q => by omega) (fun q => q.elim (fun q => y q) (fun q => x5 q.2)))
      · rw [if_neg (show ¬ nI w = (3 : Int32) from nI_eqf (b := 3) (by omega) (by decide) k3)]
        exact b109 (fun q => q.elim (fun q => by omega) (fun q => q.elim (fun q => y q) (fun q => k3 q.1)))
    by_cases k2 : w = 2
    · rw [if_pos (by rw [k2]; rfl)]
      by_cases y : S.1 2 e = 1
      · rw [if_pos (by rw [y]; rfl)]
        rw [if_pos (Or.inr (Or.inl ⟨k2, y⟩))] at hq
        exact hq
      · rw [if_neg (show ¬ nI (S.1 2 e) = (1 : Int32) from nI_eqf (b := 1) (by omega) (by decide) y)]
        exact b92 (fun q => y q.2)
    · rw [if_neg (show ¬ nI w = (2 : Int32) from nI_eqf (b := 2) (by omega) (by decide) k2)]
      exact b92 (fun q => k2 q.1)
  · rw [if_neg (show ¬ nI (S.1 8 e) = (0 : Int32) from nI_eqf (b := 0) (by omega) (by decide) z)]
    rw [if_pos (Or.inl (by omega))] at hq
    exact hq
end PT
