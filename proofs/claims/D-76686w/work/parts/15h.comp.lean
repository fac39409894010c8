set_option linter.unusedVariables false
set_option maxRecDepth 10000
/-! ===== component: calls on the memo ===== -/
section PC
variable {σ τ υ σ0 : wS} {x m F : Nat} {s : mS} {S : gS} {K : Nat → Nat} {P P' : Nat → Nat → Prop} {a b c d : Nat}
def RM (σ : wS) : Prop := 2000 ≤ rC σ ∧ 20000 ≤ rS σ
theorem c_in0 {Q : Int32 → wS → Prop} {N : Nat} {v : Int32} {hi : Int64} (hN : N < 2 ^ 31) (hhi : hi.toInt = (N : Int) - 1) (h0 : num N v = none → Q 0 σ) (h1 : ∀ n, n < N → v = nI n → num N v = some n → Q 1 σ) : w_X0_in σ v.toInt64 (0 : Int64) hi Q := by
  unfold w_X0_in
  have e0 : (0 : Int64).toInt = 0 := by decide
  have ev : v.toInt64.toInt = v.toInt := Int32.toInt_toInt64 v
  rcases num_cs (N := N) hN v with ⟨n, hn, ha, e⟩ | ⟨e, h | ⟨h, h'⟩⟩
  · have := h1 n hn ha e
    have en : v.toInt = (n : Int) := by rw [ha]; exact nI_toInt (by omega)
    rw [if_neg (by rw [Int64.lt_iff_toInt_lt, e0, ev, en]; omega), if_neg (by rw [Int64.lt_iff_toInt_lt, hhi, ev, en]; omega)]
    exact this
  · have en : v.toInt < 0 := by rw [Int32.lt_iff_toInt_lt] at h; exact h
    rw [if_pos (by rw [Int64.lt_iff_toInt_lt, e0, ev]; exact en)]
    exact h0 e
  · obtain ⟨n, hn, rfl⟩ := nI_of h
    have hNn := (nI_leI hN hn).mp h'
    have en : (nI n).toInt = (n : Int) := nI_toInt hn
    rw [if_neg (by rw [Int64.lt_iff_toInt_lt, e0, ev, en]; omega), if_pos (by rw [Int64.lt_iff_toInt_lt, hhi, ev, en]; omega)]
    exact h0 e
theorem c_in1 {Q : Int32 → wS → Prop} {N : Nat} {v : Int32} {hi : Int64} (hN : N < 2 ^ 31) (hhi : hi.toInt = (N : Int) - 1) (h0 : (v = 0 ∨ num N v = none) → Q 0 σ) (h1 : ∀ n, 1 ≤ n → n < N → v = nI n → num N v = some n → Q 1 σ) : w_X0_in σ v.toInt64 (1 : Int64) hi Q := by
  unfold w_X0_in
  have e0 : (1 : Int64).toInt = 1 := by decide
  have ev : v.toInt64.toInt = v.toInt := Int32.toInt_toInt64 v
  rcases num_cs (N := N) hN v with ⟨n, hn, ha, e⟩ | ⟨e, h | ⟨h, h'⟩⟩
  · have en : v.toInt = (n : Int) := by rw [ha]; exact nI_toInt (by omega)
    by_cases q : n = 0
    · rw [if_pos (by rw [Int64.lt_iff_toInt_lt, e0, ev, en]; omega)]
      exact h0 (Or.inl (by rw [ha, q]; rfl))
    · rw [if_neg (by rw [Int64.lt_iff_toInt_lt, e0, ev, en]; omega), if_neg (by rw [Int64.lt_iff_toInt_lt, hhi, ev, en]; omega)]
      exact h1 n (by omega) hn ha e
  · have en : v.toInt < 0 := by rw [Int32.lt_iff_toInt_lt] at h; exact h
    rw [if_pos (by rw [Int64.lt_iff_toInt_lt, e0, ev]; omega)]
    exact h0 (Or.inr e)
  · obtain ⟨n, hn, rfl⟩ := nI_of h
    have hNn := (nI_leI hN hn).mp h'
    have en : (nI n).toInt = (n : Int) := nI_toInt hn
    by_cases q : n = 0
    · rw [if_pos (by rw [Int64.lt_iff_toInt_lt, e0, ev, en]; omega)]
      exact h0 (Or.inr e)
    · rw [if_neg (by rw [Int64.lt_iff_toInt_lt, e0, ev, en]; omega), if_pos (by rw [Int64.lt_iff_toInt_lt, hhi, ev, en]; omega)]
      exact h0 (Or.inr e)
theorem c_isCol {Q : Int32 → wS → Prop} {v : Int32} (h0 : num 4 v = none → Q 0 σ) (h1 : ∀ n, n < 4 → v = nI n → num 4 v = some n → Q 1 σ) : w_X0_isColumn σ v Q := by
  unfold w_X0_isColumn
  exact c_in0 (N := 4) (by decide) (by decide) (fun e => ⟨Or.inl rfl, h0 e⟩) (fun n hn ha e => ⟨Or.inr rfl, h1 n hn ha e⟩)
theorem c_has {Q : Int32 → wS → Prop} {C c : Nat} (hC : C < 2 ^ 31) (hc : c < 32) (h : Q (if C.testBit c = true then 1 else 0) σ) : w_X0_has σ (nI C) (nI c) Q := by
  unfold w_X0_has
  rw [bitI hC hc]
  by_cases q : C.testBit c = true
  · rw [if_pos q, if_neg (by decide)]
    rw [if_pos q] at h; exact h
  · rw [if_neg q, if_pos rfl]
    rw [if_neg q] at h; exact h
theorem c_thr {Q : Int32 → wS → Prop} {n q : Nat} (hK : CK σ x K S) (hA : AV S) (hn : n < 8) (h0 : Fr P a b σ0 σ) (hP : ∀ g o, P g o → oC σ0 o ≠ 25) (ha : a + 1 ≤ 2000) (hb : b + 7 ≤ 20000) (f : Fr (fun _ _ => False) 1 7 σ τ) (r : RfX n σ τ q) (hQ : ∀ υ, Cf σ0 υ → CC υ x (rfu S n) → Q (-nI n) υ) : ok0 τ x ∧ w_X0_refused τ x (some q) (fun r σ => Q r σ) := by
  have K1 := hK.no hA f
  refine ⟨K1.1.1.1.1, c_refd K1 hA hn r.2.1 r.2.2 (fun υ w k => hQ υ ?_ ⟨K, k⟩)⟩
  have f1 : Fr (fun _ o => oC σ0 o ≠ 25) (a + 1) (b + 7) σ0 τ := (h0.mono hP (Nat.le_refl _) (Nat.le_refl _)).trans f.no
  refine (f1.w w ?_).mono (fun _ _ z => z) ha hb
  by_cases z : oC σ0 x = 0
  · exact Or.inl z
  · right
    intro g _ y
    have := h0.1.1 x z
    rw [y, hK.1.1.1.1.1] at this
    exact absurd this (by decide)
theorem c_needX {Q : Int32 → wS → Prop} {Q1 : wS → Prop} {n : Nat} {y : Int32} {B : wS → Nat → Prop} (hK : CK σ x K S) (hA : AV S) (hn : n < 8) (h0 : Fr P a b σ0 σ) (hP : ∀ g o, P g o → oC σ0 o ≠ 25) (hr : RM σ0) (ha : a + 1 ≤ 2000) (hb : b + 7 ≤ 20000) (hB : ∀ τ q, B τ q = (ok0 τ x ∧ w_X0_refused τ x (some q) (fun r σ => Q r σ))) (h1 : y ≠ 0 → Q1 σ) (hQ : y = 0 → ∀ υ, Cf σ0 υ → CC υ x (rfu S n) → Q (-nI n) υ) : w_X0_need σ y (-nI n) Q1 (fun c9 q9 τ9 => c9 = 25 ∧ B τ9 q9) := by
  obtain ⟨r1, r2⟩ := hr
  obtain ⟨f1, f2⟩ := h0.2.2.1
  refine c_need (by omega) h1 (fun z q τ f r => ⟨rfl, ?_⟩)
  rw [hB]
  exact c_thr hK hA hn h0 hP ha hb f r (hQ z)
theorem fr0 : Fr (fun _ _ => False) 0 0 σ σ := Fr.refl
theorem noP : ∀ g o, (fun (_ _ : Nat) => False) g o → oC σ o ≠ 25 := fun _ _ z => z.elim
abbrev GMem : List Nat := [2300, 2301, 2302, 2303, 2304, 2305, 92306, 2307, 102308, 2309, 2310, 22311, 2312, 12313, 2314, 2315, 2316, 2317, 2318]
theorem ck_memo {G : List Nat} {s' : mS} (h : CK σ x K S) (hA : AV S) (f : Fr (fun g o => o = K 0 ∧ g ∈ G) a b σ τ) (hG : ∀ g ∈ G, g ∈ GMem) (hm : Me τ (K 0) s') (hx : ∀ i, i < 8 → S.2.1 1 i = 2 → s' 2 (S.2.1 4 i) = S.1 2 (S.2.1 4 i) ∧ s' 3 (S.2.1 4 i) = S.1 3 (S.2.1 4 i)) : CK τ x K (sM S s') := by
  obtain ⟨⟨k1, k2, k3⟩, ⟨k4, k5, k6⟩, k7, k8⟩ := h
  have hx1 := k1.1.1.1
  have h1 := k1.2.1.1.1
  have no : ∀ g, g ∉ GMem → ∀ o, ¬ (o = K 0 ∧ g ∈ G) := fun g hg o z => hg (hG g z.2)
  refine ⟨⟨k1.fr f (fun g hg => no g (by revert g; decide)), hm, fun i hi => ?_⟩, ⟨⟨fun i hi => ?_, k4.2⟩, ⟨?_, ?_⟩, ?_⟩, k7.fr hx1 f (fun g hg o ho z => ho z.1) (fun g hg => no g (by revert g; decide)), k8.fr hx1 f (fun g hg => no g (by revert g; decide))⟩
  · rw [f.A hx1 (no _ (by decide) _)]; exact k3 i hi
  · obtain ⟨y1, y2, y3⟩ := (k4.1 i hi).fr (k1.2.2.2.2.2.2.1 i hi).2 (hA i hi).2.1 f (fun g hg => no g (by revert g; decide))
    refine ⟨y1, y2, fun z => ?_⟩
    obtain ⟨o, o1, o2⟩ := y3 z
    obtain ⟨z2, z3⟩ := hx i hi z
    refine ⟨o, o1, ?_⟩
    show XO τ o (S.2.1 4 i) (s' 2 (S.2.1 4 i)) (s' 3 (S.2.1 4 i))
    rw [z2, z3]
    exact o2
  · rw [f.I h1 (no _ (by decide) _)]; exact k5.1
  · rw [f.A h1 (no _ (by decide) _)]; exact k5.2
  · rw [f.I hx1 (no _ (by decide) _)]; exact k6
theorem ck_P {G : List Nat} (h : CK σ x K S) : ∀ g o, (fun g o => o = K 0 ∧ g ∈ G) g o → oC σ o ≠ 25 := fun g o z => by rw [z.1, h.1.2.1.1.1.1.1]; decide
theorem ck_m (h : CK σ x K S) : oR σ 107 x = some (K 0) ∧ ok22 σ (K 0) := ⟨h.1.1.1.2.1, h.1.2.1.1.1.1⟩
/-- must be a group -/
theorem c_mustG {Q : Int32 → wS → Prop} {Q1 : wS → Prop} {v : Int32} {B : wS → Nat → Prop} (hK : CK σ x K S) (hI : IV S) (h0 : Fr P a b σ0 σ) (hP : ∀ g o, P g o → oC σ0 o ≠ 25) (hr : RM σ0) (ha : a + 1 ≤ 2000) (hb : b + 7 ≤ 20000) (hB : ∀ τ q, B τ q = (ok0 τ x ∧ w_X0_refused τ x (some q) (fun r σ => Q r σ))) (h1 : ∀ g, g < mG S.1 → v = nI g → num (mG S.1) v = some g → Q1 σ) (hQ : num (mG S.1) v = none → ∀ υ, Cf σ0 υ → CC υ x (rfu S 1) → Q (-nI 1) υ) : w_X0_mustGroup σ x v Q1 (fun c9 q9 τ9 => c9 = 25 ∧ B τ9 q9) := by
  have hG := hI.1.1.1.1.1.2.1
  have hN := hI.1.1.1.2.2
  unfold w_X0_mustGroup
  refine ⟨hK.1.1.1.1, K 0, (ck_m hK).1, (ck_m hK).2, c_isGroup hK.1.2.1.1 (by omega) (fun e => ?_) (fun g hg hv e => ?_)⟩
  · exact c_needX (n := 1) hK hI.1.2 (by decide) h0 hP hr ha hb hB (fun z => absurd rfl z) (fun _ => hQ e)
  · exact c_needX (n := 1) hK hI.1.2 (by decide) h0 hP hr ha hb hB (fun _ => h1 g hg hv e) (fun z => absurd z (by decide))
theorem c_mustC {Q : Int32 → wS → Prop} {Q1 : wS → Prop} {v : Int32} {B : wS → Nat → Prop} (hK : CK σ x K S) (hA : AV S) (h0 : Fr P a b σ0 σ) (hP : ∀ g o, P g o → oC σ0 o ≠ 25) (hr : RM σ0) (ha : a + 1 ≤ 2000) (hb : b + 7 ≤ 20000) (hB : ∀ τ q, B τ q = (ok0 τ x ∧ w_X0_refused τ x (some q) (fun r σ => Q r σ))) (h1 : ∀ g, g < 4 → v = nI g → num 4 v = some g → Q1 σ) (hQ : num 4 v = none → ∀ υ, Cf σ0 υ → CC υ x (rfu S 1) → Q (-nI 1) υ) : w_X0_mustColumn σ v Q1 (fun c9 q9 τ9 => c9 = 25 ∧ B τ9 q9) := by
  unfold w_X0_mustColumn
  refine c_isCol (fun e => ?_) (fun g hg hv e => ?_)
  · exact c_needX (n := 1) hK hA (by decide) h0 hP hr ha hb hB (fun z => absurd rfl z) (fun _ => hQ e)
  · exact c_needX (n := 1) hK hA (by decide) h0 hP hr ha hb hB (fun _ => h1 g hg hv e) (fun z => absurd z (by decide))
theorem c_colsOf {Q : Int32 → wS → Prop} {g : Nat} (hK : CK σ x K S) (hI : IV S) (hg : g < mG S.1) (hF : 200 ≤ F) (hQ : Q (nI (S.1 9 (R S.1 g))) σ) : w_X0_columnsOf F σ x (nI g) Q := by
  have hs := hI.1.1.1.1.1
  have hG := hs.2.1
  have hN := hI.1.1.1.2.2
  have r := sh_lt hs hg
  unfold w_X0_columnsOf
  refine ⟨hK.1.1.1.1, K 0, (ck_m hK).1, (ck_m hK).2, c_find hK.1.2.1.1 hs hN hg (by omega) ?_⟩
  rw [nI_clamp (by omega), (hK.1.2.1.1.2.2.1 _ r).2]
  exact ⟨vp_inN (by omega) (by decide), hQ⟩
/-- tells, whole -/
theorem c_tlo {Q : Int32 → wS → Prop} {k p x1 y1 : Nat} {X Y : Int32} {B : wS → Nat → Prop} (hK : CK σ x K S) (hI : IV S) (hr : RM σ) (ho : okx S.1 k p x1 y1) (hx : Im (k ≠ 1) (∃ g, X = nI g ∧ g < mG S.1 ∧ R S.1 g = R S.1 x1)) (hy : Im (5 ≤ k) (∃ g, Y = nI g ∧ g < mG S.1 ∧ R S.1 g = R S.1 y1)) (hF : 200 ≤ F) (hB : ∀ τ q, B τ q = (ok0 τ x ∧ w_X0_refused τ x (some q) (fun r σ => Q r σ))) (hQ : ∀ τ, Cf σ τ → CC τ x (tlo S k p x1 y1).2 → Q (tlo S k p x1 y1).1 τ) : w_X22_tell F σ (K 0) (nI k) (nI p) X Y Q (fun c9 q9 τ9 => c9 = 25 ∧ B τ9 q9) := by
  obtain ⟨r1, r2⟩ := hr
  have hW := hI.1.1
  have hs := hW.1.1.1
  refine c_tell hK.1.2.1.1 hK.1.2.1.2.1 hW ho hx hy (by omega) hF (fun e he => ?_) (fun hl h64 q τ f r => ⟨rfl, ?_⟩) (fun hl h64 τ f C Fd n0 => ?_)
  · have eo : tlo S k p x1 y1 = (nI (R S.1 (S.1 6 e)), S) := by unfold tlo; rw [he]
    rw [eo] at hQ
    exact hQ σ (fr0.cf noP (by decide) (by decide)) ⟨K, hK⟩
  · have eo : tlo S k p x1 y1 = noA S 7 := by unfold tlo; rw [hl]; exact if_pos h64
    rw [eo] at hQ
    rw [hB]
    exact c_thr hK hI.1.2 (by decide) (fr0 (σ := σ)) noP (by decide) (by decide) f r hQ
  · have eo : tlo S k p x1 y1 = (nI (mG S.1), sM S (nwx S.1 k p x1 y1)) := by unfold tlo; rw [hl]; exact if_neg (by omega)
    rw [eo] at hQ
    refine hQ τ (f.cf (ck_P hK) (by decide) (by decide)) ⟨K, ck_memo hK hI.1.2 f (by decide) ⟨C, Fd, Or.inl n0⟩ (fun i hi z => ?_)⟩
    obtain ⟨o2, o3, -⟩ := (nwx_old (k := k) (p := p) (x := x1) (y := y1) hs).1.2.1 _ ((hI.1.2 i hi).2.2.2 z)
    exact ⟨o2, o3⟩
theorem tI8 : ∀ T, T ≤ 8 → ((nI T - (1 : Int32)).toInt64).toInt = (T : Int) - 1 := by decide
theorem c_scan {Q : Int32 → wS → Prop} {v : Int32} (hK : CK σ x K S) (hI : IV S) (hr : RM σ) (hF : 1000 ≤ F) (hQ : ∀ τ, Cf σ τ → CC τ x (o_scan S v).2 → Q (o_scan S v).1 τ) : w_X0_scan F σ x v Q := by
  have hs := hI.1.1.1.1.1
  have h8 := hs.2.2.2.1
  unfold w_X0_scan
  refine ⟨hK.1.1.1.1, K 0, (ck_m hK).1, (ck_m hK).2, ?_⟩
  rw [hK.1.2.1.1.1.2.1]
  refine c_in0 (N := S.1 10 0) (by omega) (tI8 _ h8) (fun e => ?_) (fun i hi hv e => ?_)
  · have e2 : o_scan S v = noA S 1 := by unfold o_scan; rw [e]
    rw [e2] at hQ
    exact c_needX (n := 1) hK hI.1.2 (by decide) (fr0 (σ := σ)) noP hr (by decide) (by decide) (fun _ _ => rfl) (fun z => absurd rfl z) (fun _ => hQ)
  · have e2 : o_scan S v = tlo S 1 i 0 0 := by unfold o_scan; rw [e]
    rw [e2] at hQ
    refine c_needX (n := 1) (Q := Q) hK hI.1.2 (by decide) (fr0 (σ := σ)) noP hr (by decide) (by decide) (fun _ _ => rfl) (fun _ => ⟨K 0, (ck_m hK).1, (ck_m hK).2, ?_⟩) (fun z => absurd z (by decide))
    rw [hv]
    exact c_tlo (k := 1) hK hI hr ⟨Or.inl rfl, fun _ => ⟨hi, (hI.1.1.1.2.1.1.1 i hi).2.2⟩, fun z => absurd z (by decide), fun z => absurd z (by decide), fun z => absurd rfl z, fun z => absurd z (by decide), fun z => absurd z (by decide)⟩ (fun z => absurd rfl z) (fun z => absurd z (by decide)) (by omega) (fun _ _ => rfl) hQ
theorem c_keep {Q : Int32 → wS → Prop} {p v : Int32} (hK : CK σ x K S) (hI : IV S) (hr : RM σ) (hF : 1000 ≤ F) (hQ : ∀ τ, Cf σ τ → CC τ x (o_keep S p v).2 → Q (o_keep S p v).1 τ) : w_X0_keep F σ x p v Q := by
  have hs := hI.1.1.1.1.1
  have l := hI.1.1.1.1.2.1
  unfold w_X0_keep
  refine ⟨hK.1.1.1.1, c_mustG hK hI (fr0 (σ := σ)) noP hr (by decide) (by decide) (fun _ _ => rfl) (fun g hg hv e => ?_) (fun e => ?_)⟩
  · have b36 : ∀ y, (y = 0 ∧ o_keep S p v = noA S 6) ∨ (y = 1 ∧ ∃ q, q < 8 ∧ p = nI q ∧ o_keep S p v = tlo S 3 q g g) → b_X0_keep_36 F x p v Q σ y := fun y hy => by
      unfold b_X0_keep_36
      refine c_needX (n := 6) hK hI.1.2 (by decide) (fr0 (σ := σ)) noP hr (by decide) (by decide) (fun _ _ => rfl) (fun z => ⟨hK.1.1.1.1, K 0, (ck_m hK).1, (ck_m hK).2, ?_⟩) (fun z => ?_)
      · rcases hy with ⟨y0, -⟩ | ⟨-, q, hq, hp, e2⟩
        · exact absurd y0 z
        · rw [e2] at hQ
          rw [hv, hp]
          refine c_find hK.1.2.1.1 hs hI.1.1.1.2.2 hg (by omega) ?_
          exact c_tlo (k := 3) hK hI hr ⟨Or.inr (Or.inl rfl), fun z => absurd z (by decide), fun _ => hq, fun z => absurd z (by decide), fun _ => hg, fun _ => hg, fun z => absurd z (by decide)⟩ (fun _ => ⟨_, rfl, sh_lt hs hg, sh_RR hs hg⟩) (fun z => absurd z (by decide)) (by omega) (fun _ _ => rfl) hQ
      · rcases hy with ⟨-, e2⟩ | ⟨y1, -⟩
        · rw [e2] at hQ; exact hQ
        · rw [y1] at z; exact absurd z (by decide)
    refine c_in0 (N := 8) (by decide) (by decide) (fun e2 => ?_) (fun q hq hp e2 => ?_)
    · rw [if_pos rfl]
      exact b36 0 (Or.inl ⟨rfl, by unfold o_keep; rw [e, e2]⟩)
    · have eo : o_keep S p v = if mayK S.1 3 q g g = true then tlo S 3 q g g else noA S 6 := by unfold o_keep; rw [e, e2]
      have em : mayK S.1 3 q g g = (S.1 9 (R S.1 g)).testBit (q / 2) := by
        unfold mayK
        simp
      have l4 := l.2.2.2 g hg
      rw [if_neg (by decide), hv]
      refine c_colsOf hK hI hg (by omega) ?_
      rw [hp, div2_d q hq]
      refine c_has (by omega) (by omega) ?_
      rw [← hp, ← hv]
      rw [em] at eo
      by_cases z : (S.1 9 (R S.1 g)).testBit (q / 2) = true
      · rw [if_pos z] at eo ⊢
        rw [if_neg (by decide)]
        exact b36 1 (Or.inr ⟨rfl, q, hq, hp, eo⟩)
      · rw [if_neg z] at eo ⊢
        rw [if_pos rfl]
        exact b36 0 (Or.inl ⟨rfl, eo⟩)
  · have e2 : o_keep S p v = noA S 1 := by unfold o_keep; rw [e]
    rw [e2] at hQ
    exact hQ
end PC
