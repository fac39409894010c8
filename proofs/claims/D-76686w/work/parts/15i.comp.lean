set_option linter.unusedVariables false
set_option maxRecDepth 10000
/-! ===== component: more calls on the memo ===== -/
section PC
variable {σ τ υ σ0 : wS} {x m F : Nat} {s : mS} {S : gS} {K : Nat → Nat} {P P' : Nat → Nat → Prop} {a b c d : Nat}
theorem cf_0 : Cf σ σ := fr0.cf noP (by decide) (by decide)
theorem c_mustG0 {Q1 : wS → Prop} {v : Int32} {Xh : Nat → Nat → wS → Prop} (hK : CK σ x K S) (hI : IV S) (hr : 1 ≤ rC σ ∧ 7 ≤ rS σ) (h1 : ∀ g, g < mG S.1 → v = nI g → num (mG S.1) v = some g → Q1 σ) (hX : num (mG S.1) v = none → ∀ q τ, Fr (fun _ _ => False) 1 7 σ τ → RfX 1 σ τ q → Xh 25 q τ) : w_X0_mustGroup σ x v Q1 Xh := by
  have hG := hI.1.1.1.1.1.2.1
  have hN := hI.1.1.1.2.2
  unfold w_X0_mustGroup
  refine ⟨hK.1.1.1.1, K 0, (ck_m hK).1, (ck_m hK).2, c_isGroup hK.1.2.1.1 (by omega) (fun e => ?_) (fun g hg hv e => ?_)⟩
  · exact c_need (b := 1) hr (fun z => absurd rfl z) (fun _ => hX e)
  · exact c_need (b := 1) hr (fun _ => h1 g hg hv e) (fun z => absurd z (by decide))
theorem c_mustC0 {Q1 : wS → Prop} {v : Int32} {Xh : Nat → Nat → wS → Prop} (hr : 1 ≤ rC σ ∧ 7 ≤ rS σ) (h1 : ∀ g, g < 4 → v = nI g → num 4 v = some g → Q1 σ) (hX : num 4 v = none → ∀ q τ, Fr (fun _ _ => False) 1 7 σ τ → RfX 1 σ τ q → Xh 25 q τ) : w_X0_mustColumn σ v Q1 Xh := by
  unfold w_X0_mustColumn
  refine c_isCol (fun e => ?_) (fun g hg hv e => ?_)
  · exact c_need (b := 1) hr (fun z => absurd rfl z) (fun _ => hX e)
  · exact c_need (b := 1) hr (fun _ => h1 g hg hv e) (fun z => absurd z (by decide))
/-- tells, any handler -/
theorem c_tlo0 {Q : Int32 → wS → Prop} {Xh : Nat → Nat → wS → Prop} {k p x1 y1 : Nat} {X Y : Int32} (hK : CK σ x K S) (hI : IV S) (hr : 1 ≤ rC σ ∧ 7 ≤ rS σ) (ho : okx S.1 k p x1 y1) (hx : Im (k ≠ 1) (∃ g, X = nI g ∧ g < mG S.1 ∧ R S.1 g = R S.1 x1)) (hy : Im (5 ≤ k) (∃ g, Y = nI g ∧ g < mG S.1 ∧ R S.1 g = R S.1 y1)) (hF : 200 ≤ F) (h1 : ∀ e, lik S.1 k p x1 y1 = some e → Q (nI (R S.1 (S.1 6 e))) σ) (h2 : lik S.1 k p x1 y1 = none → mN S.1 < 64 → ∀ τ, Fr (fun g o => o = K 0 ∧ g ∈ GTe) 1 7 σ τ → CK τ x K (sM S (nwx S.1 k p x1 y1)) → Q (nI (mG S.1)) τ) (hX : lik S.1 k p x1 y1 = none → mN S.1 = 64 → ∀ q τ, Fr (fun _ _ => False) 1 7 σ τ → RfX 7 σ τ q → Xh 25 q τ) : w_X22_tell F σ (K 0) (nI k) (nI p) X Y Q Xh := by
  have hW := hI.1.1
  have hs := hW.1.1.1
  refine c_tell hK.1.2.1.1 hK.1.2.1.2.1 hW ho hx hy hr hF h1 hX (fun hl h64 τ f C Fd n0 => h2 hl h64 τ f (ck_memo hK hI.1.2 f (by decide) ⟨C, Fd, Or.inl n0⟩ (fun i hi z => ?_)))
  obtain ⟨o2, o3, -⟩ := (nwx_old (k := k) (p := p) (x := x1) (y := y1) hs).1.2.1 _ ((hI.1.2 i hi).2.2.2 z)
  exact ⟨o2, o3⟩
theorem c_tally {Q : Int32 → wS → Prop} {p v : Int32} (hK : CK σ x K S) (hI : IV S) (hr : RM σ) (hF : 1000 ≤ F) (hQ : ∀ τ, Cf σ τ → CC τ x (o_tally S p v).2 → Q (o_tally S p v).1 τ) : w_X0_tally F σ x p v Q := by
  have hs := hI.1.1.1.1.1
  have l := hI.1.1.1.1.2.1
  unfold w_X0_tally
  refine c_mustC hK hI.1.2 (fr0 (σ := σ)) noP hr (by decide) (by decide) (fun _ _ => rfl) (fun q hq hp e2 => ⟨hK.1.1.1.1, ?_⟩) (fun e2 => ?_)
  · refine c_mustG hK hI (fr0 (σ := σ)) noP hr (by decide) (by decide) (fun _ _ => rfl) (fun g hg hv e => ?_) (fun e => ?_)
    · have eo : o_tally S p v = if mayK S.1 4 q g g = true then tlo S 4 q g g else noA S 6 := by unfold o_tally; rw [e2, e]
      have em : mayK S.1 4 q g g = (S.1 9 (R S.1 g)).testBit q := by
        unfold mayK
        simp
      have l4 := l.2.2.2 g hg
      rw [em] at eo
      rw [hv]
      refine c_colsOf hK hI hg (by omega) ?_
      rw [hp]
      refine c_has (by omega) (by omega) ?_
      by_cases z : (S.1 9 (R S.1 g)).testBit q = true
      · rw [if_pos z] at eo ⊢
        rw [eo] at hQ
        refine c_needX (n := 6) (Q := Q) hK hI.1.2 (by decide) (fr0 (σ := σ)) noP hr (by decide) (by decide) (fun _ _ => rfl) (fun _ => ⟨K 0, (ck_m hK).1, (ck_m hK).2, ?_⟩) (fun y => absurd y (by decide))
        refine c_find hK.1.2.1.1 hs hI.1.1.1.2.2 hg (by omega) ?_
        exact c_tlo (k := 4) hK hI hr ⟨Or.inr (Or.inr (Or.inl rfl)), fun z => absurd z (by decide), fun z => absurd z (by decide), fun _ => hq, fun _ => hg, fun _ => hg, fun _ => z⟩ (fun _ => ⟨_, rfl, sh_lt hs hg, sh_RR hs hg⟩) (fun z => absurd z (by decide)) (by omega) (fun _ _ => rfl) hQ
      · rw [if_neg z] at eo ⊢
        rw [eo] at hQ
        exact c_needX (n := 6) (Q := Q) hK hI.1.2 (by decide) (fr0 (σ := σ)) noP hr (by decide) (by decide) (fun _ _ => rfl) (fun y => absurd rfl y) (fun _ => hQ)
    · have eo : o_tally S p v = noA S 1 := by unfold o_tally; rw [e2, e]
      rw [eo] at hQ; exact hQ
  · have eo : o_tally S p v = noA S 1 := by unfold o_tally; rw [e2] <;> cases num (mG S.1) v <;> rfl
    rw [eo] at hQ; exact hQ
theorem c_pair {Q : Int32 → wS → Prop} {Xh : Nat → Nat → wS → Prop} {k : Nat} {p v w : Int32} (hk : k = 5 ∨ k = 6) (hK : CK σ x K S) (hI : IV S) (hr : 1 ≤ rC σ ∧ 7 ≤ rS σ) (hF : 1000 ≤ F) (h1 : ∀ τ, Fr (fun g o => o = K 0 ∧ g ∈ GTe) 1 7 σ τ → CK τ x K (o_two S k p v w).2 → (∀ q g h, num 4 p = some q → num (mG S.1) v = some g → num (mG S.1) w = some h → mayK S.1 k q g h = true ∧ (lik S.1 k q g h = none → mN S.1 ≠ 64)) → Q (o_two S k p v w).1 τ) (hX : ∀ n, n < 8 → o_two S k p v w = noA S n → (num 4 p = none ∨ num (mG S.1) v = none ∨ num (mG S.1) w = none ∨ ∃ q g h, num 4 p = some q ∧ num (mG S.1) v = some g ∧ num (mG S.1) w = some h ∧ (mayK S.1 k q g h = false ∨ lik S.1 k q g h = none ∧ mN S.1 = 64)) → ∀ q τ, Fr (fun _ _ => False) 1 7 σ τ → RfX n σ τ q → Xh 25 q τ) : w_X0_pair F σ x (nI k) p v w Q Xh := by
  have hs := hI.1.1.1.1.1
  have l := hI.1.1.1.1.2.1
  unfold w_X0_pair
  refine c_mustC0 hr (fun q hq hp e1 => ⟨hK.1.1.1.1, ?_⟩) (fun e1 => hX 1 (by decide) (by unfold o_two; rw [e1]) (Or.inl e1))
  refine c_mustG0 hK hI hr (fun g hg hv e2 => ?_) (fun e2 => hX 1 (by decide) (by unfold o_two; rw [e1, e2]) (Or.inr (Or.inl e2)))
  refine c_mustG0 hK hI hr (fun h hh hw e3 => ?_) (fun e3 => hX 1 (by decide) (by unfold o_two; rw [e1, e2, e3]) (Or.inr (Or.inr (Or.inl e3))))
  have eo : o_two S k p v w = if mayK S.1 k q g h = true then tlo S k q g h else noA S 6 := by unfold o_two; rw [e1, e2, e3]
  have em : mayK S.1 k q g h = ((S.1 9 (R S.1 g)).testBit q && (S.1 9 (R S.1 h)).testBit q) := by
    unfold mayK
    rw [if_neg (by omega), decide_eq_false (show ¬ k < 5 by omega), Bool.false_or]
  have l4 := l.2.2.2 g hg
  have l5 := l.2.2.2 h hh
  have b0 : mayK S.1 k q g h = false → b_X0_pair_45 F x (nI k) p v w Q Xh σ 0 := fun z => by
    rw [if_neg (by rw [z]; decide)] at eo
    unfold b_X0_pair_45
    exact c_need (b := 6) hr (fun y => absurd rfl y) (fun _ => hX 6 (by decide) eo (Or.inr (Or.inr (Or.inr ⟨q, g, h, e1, e2, e3, Or.inl z⟩))))
  have b1 : mayK S.1 k q g h = true → b_X0_pair_45 F x (nI k) p v w Q Xh σ 1 := fun z => by
    rw [if_pos z] at eo
    unfold b_X0_pair_45
    refine c_need (b := 6) hr (fun _ => ⟨hK.1.1.1.1, K 0, (ck_m hK).1, (ck_m hK).2, ?_⟩) (fun y => absurd y (by decide))
    rw [hv]
    refine c_find hK.1.2.1.1 hs hI.1.1.1.2.2 hg (by omega) ⟨K 0, (ck_m hK).1, (ck_m hK).2, ?_⟩
    rw [hw]
    refine c_find hK.1.2.1.1 hs hI.1.1.1.2.2 hh (by omega) ?_
    rw [hp]
    have info : (lik S.1 k q g h = none → mN S.1 ≠ 64) → ∀ q' g' h', num 4 p = some q' → num (mG S.1) v = some g' → num (mG S.1) w = some h' → mayK S.1 k q' g' h' = true ∧ (lik S.1 k q' g' h' = none → mN S.1 ≠ 64) := fun y q' g' h' a1 a2 a3 => by
      rw [e1] at a1; rw [e2] at a2; rw [e3] at a3
      cases a1; cases a2; cases a3
      exact ⟨z, y⟩
    refine c_tlo0 (k := k) hK hI hr ⟨by omega, fun z => by omega, fun z => by omega, fun _ => hq, fun _ => hg, fun _ => hh, fun z => by omega⟩ (fun _ => ⟨_, rfl, sh_lt hs hg, sh_RR hs hg⟩) (fun _ => ⟨_, rfl, sh_lt hs hh, sh_RR hs hh⟩) (by omega) (fun e he => ?_) (fun hl h64 τ f ck => ?_) (fun hl h64 => ?_)
    · have et : tlo S k q g h = (nI (R S.1 (S.1 6 e)), S) := by unfold tlo; rw [he]
      rw [eo, et] at h1
      exact h1 σ (fr0.mono (fun _ _ z => z.elim) (by decide) (by decide)) hK (info (fun y => by rw [he] at y; cases y))
    · have et : tlo S k q g h = (nI (mG S.1), sM S (nwx S.1 k q g h)) := by unfold tlo; rw [hl]; exact if_neg (by omega)
      rw [eo, et] at h1
      exact h1 τ f ck (info (fun _ => by omega))
    · have et : tlo S k q g h = noA S 7 := by unfold tlo; rw [hl]; exact if_pos h64
      exact hX 7 (by decide) (eo.trans et) (Or.inr (Or.inr (Or.inr ⟨q, g, h, e1, e2, e3, Or.inr ⟨hl, h64⟩⟩)))
  rw [hv]
  refine c_colsOf hK hI hg (by omega) ?_
  rw [hp]
  refine c_has (by omega) (by omega) ?_
  rw [← hp, ← hv]
  cases z1 : (S.1 9 (R S.1 g)).testBit q with
  | false =>
    rw [if_neg (show ¬ false = true by decide), if_pos rfl]
    exact b0 (by rw [em, z1]; rfl)
  | true =>
    rw [if_pos rfl, if_neg (by decide), hw]
    refine c_colsOf hK hI hh (by omega) ?_
    rw [hp]
    refine c_has (by omega) (by omega) ?_
    rw [← hp, ← hw]
    cases z2 : (S.1 9 (R S.1 h)).testBit q with
    | false =>
      rw [if_neg (show ¬ false = true by decide), if_pos rfl]
      exact b0 (by rw [em, z1, z2]; rfl)
    | true =>
      rw [if_pos rfl, if_neg (by decide)]
      exact b1 (by rw [em, z1, z2]; rfl)
theorem c_join {Q : Int32 → wS → Prop} {p v w : Int32} (hK : CK σ x K S) (hI : IV S) (hr : RM σ) (hF : 1000 ≤ F) (hQ : ∀ τ, Cf σ τ → CC τ x (o_two S 5 p v w).2 → Q (o_two S 5 p v w).1 τ) : w_X0_join F σ x p v w Q := by
  obtain ⟨r1, r2⟩ := hr
  unfold w_X0_join
  refine ⟨hK.1.1.1.1, c_pair (k := 5) (Or.inl rfl) hK hI (by omega) hF (fun τ f ck _ => hQ τ (f.cf (ck_P hK) (by decide) (by decide)) ⟨K, ck⟩) (fun n hn e _ q τ f r => ⟨rfl, ?_⟩)⟩
  rw [e] at hQ
  exact c_thr hK hI.1.2 hn (fr0 (σ := σ)) noP (by decide) (by decide) f r hQ
theorem c_half {Q : Int32 → wS → Prop} {p v w : Int32} (hK : CK σ x K S) (hI : IV S) (hr : RM σ) (hF : 1000 ≤ F) (hQ : ∀ τ, Cf σ τ → CC τ x (o_two S 6 p v w).2 → Q (o_two S 6 p v w).1 τ) : w_X0_half F σ x p v w Q := by
  obtain ⟨r1, r2⟩ := hr
  unfold w_X0_half
  refine ⟨hK.1.1.1.1, c_pair (k := 6) (Or.inr rfl) hK hI (by omega) hF (fun τ f ck _ => hQ τ (f.cf (ck_P hK) (by decide) (by decide)) ⟨K, ck⟩) (fun n hn e _ q τ f r => ⟨rfl, ?_⟩)⟩
  rw [e] at hQ
  exact c_thr hK hI.1.2 hn (fr0 (σ := σ)) noP (by decide) (by decide) f r hQ
theorem cfd_k {s' : mS} (h : CFd σ m s) (e : ∀ k, 10 ≤ k → s' k = s k) (eN : mN s' = mN s) : CFd σ m s' := by
  unfold CFd
  rw [eN, e 16 (by decide), e 17 (by decide), e 18 (by decide), e 19 (by decide), e 20 (by decide)]
  exact h
theorem c_same {Q : Int32 → wS → Prop} {v w : Int32} (hK : CK σ x K S) (hI : IV S) (hr : RM σ) (hF : 1000 ≤ F) (hQ : ∀ τ, Cf σ τ → CC τ x (o_same S v w).2 → Q (o_same S v w).1 τ) : w_X0_same F σ x v w Q := by
  obtain ⟨⟨hs, l, no⟩, -, hN⟩ := hI.1.1.1
  have hG := hs.2.1
  unfold w_X0_same
  refine ⟨hK.1.1.1.1, c_mustG hK hI (fr0 (σ := σ)) noP hr (by decide) (by decide) (fun _ _ => rfl) (fun g hg hv e1 => ?_) (fun e1 => ?_)⟩
  · refine c_mustG hK hI (fr0 (σ := σ)) noP hr (by decide) (by decide) (fun _ _ => rfl) (fun h hh hw e2 => ?_) (fun e2 => ?_)
    · have eo : o_same S v w = if S.1 9 (R S.1 g) = S.1 9 (R S.1 h) then (nI (R (mrg S.1 g h) g), sM S (mrg S.1 g h)) else noA S 6 := by unfold o_same; rw [e1, e2]
      rw [eo] at hQ
      have l4 := l.2.2.2 g hg
      have l5 := l.2.2.2 h hh
      rw [hv]
      refine c_colsOf hK hI hg (by omega) ?_
      rw [hw]
      refine c_colsOf hK hI hh (by omega) ?_
      by_cases z : S.1 9 (R S.1 g) = S.1 9 (R S.1 h)
      · rw [if_pos z] at hQ
        rw [if_pos (by rw [z])]
        obtain ⟨m1, m2, m3, m4⟩ := mrg_ok hs l hg hh z
        have eN : mN (mrg S.1 g h) = mN S.1 := congrFun (m4 0 (by decide) (by decide)) 0
        have eG : mG (mrg S.1 g h) = mG S.1 := congrFun (m4 1 (by decide) (by decide)) 0
        refine c_needX (n := 6) (Q := Q) hK hI.1.2 (by decide) (fr0 (σ := σ)) noP hr (by decide) (by decide) (fun _ _ => rfl) (fun _ => ⟨K 0, (ck_m hK).1, (ck_m hK).2, ?_⟩) (fun y => absurd y (by decide))
        refine c_merge hK.1.2.1.1 hs l no hN hg hh z (by omega) (fun τ w1 C n0 => ?_)
        have fr : Fr (fun g o => o = K 0 ∧ g ∈ [2316, 22311, 2318]) 0 0 σ τ := w1.wq.fr (fun g hg => ⟨rfl, hg⟩)
        have ck := ck_memo hK hI.1.2 fr (by decide) (s' := mrg S.1 g h) ⟨C, cfd_k (hK.1.2.1.2.1.tw w1 (by decide)) (fun k hk => m4 k (by omega) (by omega)) eN, Or.inl n0⟩ (fun i hi _ => by rw [m4 2 (by decide) (by decide), m4 3 (by decide) (by decide)]; exact ⟨rfl, rfl⟩)
        exact ⟨K 0, (ck_m ck).1, (ck_m ck).2, c_find C m1 (by omega) (by omega) (by omega) (hQ τ (fr.cf (ck_P hK) (by decide) (by decide)) ⟨K, ck⟩)⟩
      · rw [if_neg z] at hQ
        rw [if_neg (nI_eqf (by omega) (by omega) z)]
        exact c_needX (n := 6) (Q := Q) hK hI.1.2 (by decide) (fr0 (σ := σ)) noP hr (by decide) (by decide) (fun _ _ => rfl) (fun y => absurd rfl y) (fun _ => hQ)
    · have eo : o_same S v w = noA S 1 := by unfold o_same; rw [e1, e2]
      rw [eo] at hQ; exact hQ
  · have eo : o_same S v w = noA S 1 := by unfold o_same; rw [e1] <;> cases num (mG S.1) w <;> rfl
    rw [eo] at hQ; exact hQ
theorem c_groupOf {Q : Int32 → wS → Prop} {v : Int32} (hK : CK σ x K S) (hI : IV S) (hr : RM σ) (hF : 1000 ≤ F) (hQ : ∀ τ, Cf σ τ → CC τ x (o_groupOf S v).2 → Q (o_groupOf S v).1 τ) : w_X0_groupOf F σ x v Q := by
  obtain ⟨⟨hs, l, no⟩, -, hN⟩ := hI.1.1.1
  unfold w_X0_groupOf
  refine ⟨hK.1.1.1.1, c_mustG hK hI (fr0 (σ := σ)) noP hr (by decide) (by decide) (fun _ _ => rfl) (fun g hg hv e1 => ?_) (fun e1 => ?_)⟩
  · have eo : o_groupOf S v = (nI (R S.1 g), S) := by unfold o_groupOf; rw [e1]
    rw [eo] at hQ
    rw [hv]
    exact ⟨K 0, (ck_m hK).1, (ck_m hK).2, c_find hK.1.2.1.1 hs hN hg (by omega) (hQ σ cf_0 ⟨K, hK⟩)⟩
  · have eo : o_groupOf S v = noA S 1 := by unfold o_groupOf; rw [e1]
    rw [eo] at hQ; exact hQ
theorem c_bey {Q : Int32 → wS → Prop} (hK : CK σ x K S) (hA : AV S) (hQ : ∀ τ, Cf σ τ → CC τ x (noA S 5).2 → Q (noA S 5).1 τ) : w_X0_beyond σ x Q := by
  have hx := hK.1.1.1.1.1
  refine c_beyond hK hA (fun τ w k => hQ τ ?_ ⟨K, k⟩)
  exact (w.fr (P := fun g o => o = x) (fun _ _ => rfl)).cf (fun g o z => by rw [z, hx]; decide) (by decide) (by decide)
theorem c_tableOf {Q : Int32 → wS → Prop} {v w : Int32} (hK : CK σ x K S) (hI : IV S) (hQ : ∀ τ, Cf σ τ → CC τ x (o_tableOf S v w).2 → Q (o_tableOf S v w).1 τ) : w_X0_tableOf σ x v w Q := by
  have h8 := hI.1.1.1.1.1.2.2.2.1
  unfold w_X0_tableOf
  refine ⟨hK.1.1.1.1, K 0, (ck_m hK).1, (ck_m hK).2, ?_⟩
  rw [hK.1.2.1.1.1.2.1]
  refine c_in0 (N := S.1 10 0) (by omega) (tI8 _ h8) (fun e => ?_) (fun i hi hv e => ?_)
  · have e2 : o_tableOf S v w = noA S 5 := by unfold o_tableOf; rw [e] <;> cases num 4 w <;> rfl
    rw [e2] at hQ
    rw [if_pos rfl]
    exact c_bey hK hI.1.2 hQ
  · obtain ⟨o, o1, o2, o3, o4, o5, o6⟩ := hK.1.2.1.1.2.2.2.1 i hi
    rw [if_neg (by decide), hv]
    refine ⟨K 0, (ck_m hK).1, (ck_m hK).2, vp_inN (by omega) (by decide), fun y hy => ?_⟩
    rw [hy, nI_clamp (by omega), o1]
    dsimp only
    have eo : ∀ k, num 4 w = some k → o_tableOf S v w = (if k = 0 then nI (S.1 11 i) else if k = 1 then nI (S.1 12 i) else if k = 2 then eI (S.1 13 i) else nI (S.1 14 i), S) := fun k ek => by unfold o_tableOf; rw [e, ek]
    by_cases c0 : w = 0
    · rw [if_pos c0]
      rw [eo 0 (by rw [c0]; exact num_some (n := 0) (by decide) (by decide))] at hQ
      refine ⟨o, rfl, o2, ?_⟩
      rw [o3]; exact hQ σ cf_0 ⟨K, hK⟩
    rw [if_neg c0]
    by_cases c1 : w = 1
    · rw [if_pos c1]
      rw [eo 1 (by rw [c1]; exact num_some (n := 1) (by decide) (by decide))] at hQ
      refine ⟨o, rfl, o2, ?_⟩
      rw [o4]; exact hQ σ cf_0 ⟨K, hK⟩
    rw [if_neg c1]
    by_cases c2 : w = 2
    · rw [if_pos c2]
      rw [eo 2 (by rw [c2]; exact num_some (n := 2) (by decide) (by decide))] at hQ
      refine ⟨o, rfl, o2, ?_⟩
      rw [o5]; exact hQ σ cf_0 ⟨K, hK⟩
    rw [if_neg c2]
    by_cases c3 : w = 3
    · rw [if_pos c3]
      rw [eo 3 (by rw [c3]; exact num_some (n := 3) (by decide) (by decide))] at hQ
      refine ⟨o, rfl, o2, ?_⟩
      rw [o6]; exact hQ σ cf_0 ⟨K, hK⟩
    rw [if_neg c3]
    have e2 : o_tableOf S v w = noA S 5 := by
      unfold o_tableOf
      rcases num_cs (N := 4) (by decide) w with ⟨n, hn, ha, -⟩ | ⟨e', -⟩
      · have h4 : n = 0 ∨ n = 1 ∨ n = 2 ∨ n = 3 := by omega
        rcases h4 with rfl | rfl | rfl | rfl
        · exact absurd ha c0
        · exact absurd ha c1
        · exact absurd ha c2
        · exact absurd ha c3
      · rw [e, e']
    rw [e2] at hQ
    exact c_bey hK hI.1.2 hQ
end PC
