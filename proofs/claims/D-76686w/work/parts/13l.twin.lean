set_option linter.unusedVariables false
set_option maxRecDepth 10000
section PT
variable {σ τ υ : wS} {t F : Nat} {s : mS}
/-! rules: what fits, the next firing -/
def fit (s : mS) (e r f : Nat) : Bool :=
  if r = 1 then decide (s 2 e = 5) && (decide (s 2 f = 5) && (s 9 (R s (s 5 f))).testBit (s 3 e))
  else if r = 2 then decide (s 2 e = 3) && (decide (5 ≤ s 2 f) && (s 9 (R s (s 4 f))).testBit (s 3 e / 2))
  else if r = 3 then decide (s 2 e = 3) && (decide (s 2 f = 3) && decide (s 3 e ≠ s 3 f))
  else if r = 4 then decide (s 2 e = s 2 f) && (decide (s 2 e = 3 ∨ s 2 e = 4) && decide (s 3 e = s 3 f))
  else if r = 5 then decide (s 2 e = 4) && (decide (s 2 f = 3) && decide (s 3 f / 2 = s 3 e))
  else decide (s 2 e = 6) && decide (s 2 f = 6)
def wi (e r f : Nat) : Nat := (e * 7 + r) * 65 + f
def can (s : mS) (e r f : Nat) : Bool := decide (s 8 f = 0) && (decide (R s (s 6 f) = R s (s 4 e)) && (fit s e r f && decide (s 16 (wi e r f) = 0)))
def sec (s : mS) (e r : Nat) : Option Nat := if r = 0 then (if s 2 e = 5 ∧ s 16 (wi e 0 64) = 0 then some 64 else none) else if s 2 e = 1 then none else fnd (can s e r) (mN s) 0
def rlf (s : mS) (e : Nat) : Nat → Nat → Option (Nat × Nat)
  | 0, _ => none
  | n + 1, r => match sec s e r with
    | some f => some (r, f)
    | none => rlf s e n (r + 1)
def fnx (s : mS) : Nat → Nat → Option (Nat × Nat × Nat)
  | 0, _ => none
  | n + 1, e => if s 8 e = 0 then (match rlf s e 7 0 with
    | some rf => some (e, rf)
    | none => fnx s n (e + 1)) else fnx s n (e + 1)
def TF (σ : wS) (t : Nat) (s : mS) : Prop := (∀ i, i < 29120 → aI σ 22522 t i = nI (s 16 i)) ∧ (∀ i, i < 7 → aI σ 2523 t i = nI (s 17 i)) ∧ oI σ 2503 t = nI (s 18 0)
def Fb (s : mS) : Prop := ∀ i, s 16 i ≤ 1
theorem TF.tw {G : List Nat} (h : TF σ t s) (k : Tw G t σ τ) (d : ∀ g ∈ [22522, 2523, 2503], g ∉ G) : TF τ t s := by
  obtain ⟨h1, h2, h3⟩ := h
  refine ⟨fun i hi => ?_, fun i hi => ?_, ?_⟩
  · rw [k.A (d _ (by decide))]; exact h1 i hi
  · rw [k.A (d _ (by decide))]; exact h2 i hi
  · rw [k.I (d _ (by decide))]; exact h3
theorem TL.cl (h : TL σ t s) (hs : Sh s) {g : Nat} (hg : g < mG s) : aI σ 2531 t (R s g) = nI (s 9 (R s g)) := (h _ (sh_lt hs hg) (sh_RR hs hg)).2.1
theorem b01 {b : Bool} {Q : Int32 → wS → Prop} (h : Q (if b = true then 1 else 0) σ) : Q (if (if b = true then (1 : Int32) else 0) = 0 then (0 : Int32) else (1 : Int32)) σ := by
  cases b
  · exact h
  · exact h
theorem t_fits {Q : Int32 → wS → Prop} {e r f : Nat} (hT : TM σ t s) (hL : TL σ t s) (hs : Sh s) (l : Lo s) (he : e < mN s) (hf : f < mN s) (hr : 1 ≤ r) (hr2 : r < 7) (hF : 200 ≤ F) (hQ : Q (if fit s e r f = true then 1 else 0) σ) : w_X24_fits F σ t (nI e) (nI r) (nI f) Q := by
  have b1 := hs.1
  have b2 := hs.2.1
  have De := sh_bnd hs he
  have Df := sh_bnd hs hf
  have d2 := De.1
  have d3 := De.2.1
  have g2 := Df.1
  have g3 := Df.2.1
  have ce : (nI e).toNatClampNeg = e := nI_clamp (lt31 (by omega))
  have cf : (nI f).toNatClampNeg = f := nI_clamp (lt31 (by omega))
  refine ⟨hT.1.1, vp_in_nI (by omega) (by decide), ?_⟩
  rw [ce, (hT.2.1 e he).1, bnd_eq]
  refine ⟨vp_in_nI (by omega) (by decide), ?_⟩
  rw [cf, (hT.2.1 f hf).1, bnd_eq, (hT.2.1 e he).2.1, (hT.2.1 f hf).2.1]
  have ne : ∀ a b : Nat, a < 8 → b < 8 → a ≠ b → ¬ nI a = nI b := fun a b h1 h2 h3 => nI_eqf (by omega) (by omega) h3
  have h16 := l.2.2.2
  unfold fit at hQ
  by_cases r1 : r = 1
  · subst r1
    rw [if_pos rfl] at hQ
    rw [if_pos (show nI 1 = (1 : Int32) from rfl)]
    by_cases q : s 2 e = 5
    · rw [if_pos (by rw [q]; rfl)]
      by_cases q2 : s 2 f = 5
      · rw [if_pos (by rw [q2]; rfl), (hT.2.1 f hf).2.2.2.1 (by omega)]
        have B5 := sx_5 hs hf (by omega)
        have g5 := sh_lt hs B5
        have p4 := sx_p4 hs he (by omega)
        have := h16 _ B5
        refine t_root hT hs B5 (by omega) ⟨vp_in_nI (by omega) (by decide), ?_⟩
        rw [nI_clamp (n := R s (s 5 f)) (lt31 (by omega)), hL.cl hs B5, (hT.2.1 e he).2.1]
        refine t_isColumn (lt31 (by omega)) p4 (b01 ?_)
        simp only [q, q2, decide_true, Bool.true_and] at hQ
        exact hQ
      · rw [if_neg (show ¬ nI (s 2 f) = (5 : Int32) from ne _ 5 (by omega) (by decide) q2)]
        simp only [q2, decide_false, Bool.false_and, Bool.and_false] at hQ
        exact hQ
    · rw [if_neg (show ¬ nI (s 2 e) = (5 : Int32) from ne _ 5 (by omega) (by decide) q)]
      simp only [q, decide_false, Bool.false_and] at hQ
      exact hQ
  · rw [if_neg (show ¬ nI r = (1 : Int32) from ne _ 1 (by omega) (by decide) r1)]
    rw [if_neg r1] at hQ
    by_cases r2 : r = 2
    · subst r2
      rw [if_pos rfl] at hQ
      rw [if_pos (show nI 2 = (2 : Int32) from rfl)]
      by_cases q : s 2 e = 3
      · rw [if_pos (by rw [q]; rfl)]
        by_cases q2 : 5 ≤ s 2 f
        · rw [if_neg (show ¬ nI (s 2 f) < (5 : Int32) from nI_nlt (b := 5) q2 (lt31 (by omega))), (hT.2.1 f hf).2.2.1 (by omega)]
          have B4 := sx_4 hs hf (by omega)
          have g4 := sh_lt hs B4
          have := h16 _ B4
          refine t_root hT hs B4 (by omega) ⟨vp_in_nI (by omega) (by decide), ?_⟩
          rw [nI_clamp (n := R s (s 4 f)) (lt31 (by omega)), hL.cl hs B4, (hT.2.1 e he).2.1, show (2 : Int32) = nI 2 from rfl, pk_div (lt31 (by omega)) (by decide) (by decide)]
          refine t_isColumn (lt31 (by omega)) (by omega) (b01 ?_)
          simp only [q, q2, decide_true, Bool.true_and] at hQ
          exact hQ
        · rw [if_pos (show nI (s 2 f) < (5 : Int32) from nI_lt (b := 5) (by omega) (by decide))]
          simp only [q2, decide_false, Bool.false_and, Bool.and_false] at hQ
          exact hQ
      · rw [if_neg (show ¬ nI (s 2 e) = (3 : Int32) from ne _ 3 (by omega) (by decide) q)]
        simp only [q, decide_false, Bool.false_and] at hQ
        exact hQ
    · rw [if_neg (show ¬ nI r = (2 : Int32) from ne _ 2 (by omega) (by decide) r2)]
      rw [if_neg r2] at hQ
      have i3 : ∀ a : Nat, a < 8 → (nI a = (3 : Int32) ↔ a = 3) := fun a h => nI_eq (b := 3) (lt31 (by omega)) (by decide)
      have i4 : ∀ a : Nat, a < 8 → (nI a = (4 : Int32) ↔ a = 4) := fun a h => nI_eq (b := 4) (lt31 (by omega)) (by decide)
      have i6 : ∀ a : Nat, a < 8 → (nI a = (6 : Int32) ↔ a = 6) := fun a h => nI_eq (b := 6) (lt31 (by omega)) (by decide)
      have ii : ∀ a b : Nat, a < 8 → b < 8 → (nI a = nI b ↔ a = b) := fun a b h h' => nI_eq (lt31 (by omega)) (lt31 (by omega))
      have e3 : nI (s 2 e) = (3 : Int32) ↔ s 2 e = 3 := i3 _ (by omega)
      have e4 : nI (s 2 e) = (4 : Int32) ↔ s 2 e = 4 := i4 _ (by omega)
      have e6 : nI (s 2 e) = (6 : Int32) ↔ s 2 e = 6 := i6 _ (by omega)
      have f3 : nI (s 2 f) = (3 : Int32) ↔ s 2 f = 3 := i3 _ (by omega)
      have f6 : nI (s 2 f) = (6 : Int32) ↔ s 2 f = 6 := i6 _ (by omega)
      have pp : nI (s 3 e) = nI (s 3 f) ↔ s 3 e = s 3 f := ii _ _ (by omega) (by omega)
      have kk : nI (s 2 e) = nI (s 2 f) ↔ s 2 e = s 2 f := ii _ _ (by omega) (by omega)
      have hv : nI (s 3 f) / (2 : Int32) = nI (s 3 f / 2) := pk_div (d := 2) (lt31 (by omega)) (by decide) (by decide)
      have ph : nI (s 3 f / 2) = nI (s 3 e) ↔ s 3 f / 2 = s 3 e := ii _ _ (by omega) (by omega)
      rw [hv]
      by_cases r3 : r = 3
      · subst r3
        rw [if_pos rfl] at hQ
        rw [if_pos (show nI 3 = (3 : Int32) from rfl)]
        simp only [e3, f3, pp]
        by_cases a : s 2 e = 3
        · by_cases b : s 2 f = 3
          · by_cases c : s 3 e = s 3 f
            · simpa [a, b, c] using hQ
            · simpa [a, b, c] using hQ
          · simpa [a, b] using hQ
        · simpa [a] using hQ
      · rw [if_neg (show ¬ nI r = (3 : Int32) from ne _ 3 (by omega) (by decide) r3)]
        rw [if_neg r3] at hQ
        by_cases r4 : r = 4
        · subst r4
          rw [if_pos rfl] at hQ
          rw [if_pos (show nI 4 = (4 : Int32) from rfl)]
          simp only [e3, e4, kk, pp]
          by_cases a : s 2 e = s 2 f
          · rw [decide_eq_true a, Bool.true_and] at hQ
            rw [if_pos a]
            by_cases b : s 2 e = 3
            · rw [if_pos b]
              by_cases c : s 3 e = s 3 f
              · simp only [b, c, true_or, decide_true, Bool.true_and, if_true] at hQ ⊢; exact hQ
              · simp only [c, decide_false, Bool.and_false, if_false] at hQ ⊢; exact hQ
            · rw [if_neg b]
              by_cases b4 : s 2 e = 4
              · rw [if_pos b4]
                by_cases c : s 3 e = s 3 f
                · simp only [b4, c, or_true, decide_true, Bool.true_and, if_true] at hQ ⊢; exact hQ
                · simp only [c, decide_false, Bool.and_false, if_false] at hQ ⊢; exact hQ
              · rw [if_neg b4]
                simp only [b, b4, or_self, decide_false, Bool.false_and] at hQ
                exact hQ
          · rw [if_neg a]
            simp only [a, decide_false, Bool.false_and] at hQ
            exact hQ
        · rw [if_neg (show ¬ nI r = (4 : Int32) from ne _ 4 (by omega) (by decide) r4)]
          rw [if_neg r4] at hQ
          by_cases r5 : r = 5
          · subst r5
            rw [if_pos rfl] at hQ
            rw [if_pos (show nI 5 = (5 : Int32) from rfl)]
            simp only [e4, f3, ph]
            by_cases a : s 2 e = 4
            · by_cases b : s 2 f = 3
              · by_cases c : s 3 f / 2 = s 3 e
                · simpa [a, b, c] using hQ
                · simpa [a, b, c] using hQ
              · simpa [a, b] using hQ
            · simpa [a] using hQ
          · rw [if_neg (show ¬ nI r = (5 : Int32) from ne _ 5 (by omega) (by decide) r5)]
            rw [if_neg r5] at hQ
            simp only [e6, f6]
            by_cases a : s 2 e = 6
            · by_cases b : s 2 f = 6
              · simpa [a, b] using hQ
              · simpa [a, b] using hQ
            · simpa [a] using hQ
end PT
