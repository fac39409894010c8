set_option linter.unusedVariables false
set_option maxRecDepth 10000
/-! ===== component: reading, expressions ===== -/
section PC
variable {σ τ υ σ0 : wS} {x m F t ro k n i : Nat} {s : mS} {S : gS} {K K' : Nat → Nat} {P P' : Nat → Nat → Prop} {a b c d : Nat} {f : Nat → Int64}
abbrev GSd : List Nat := [4200, 4201, 4402, 4403, 4502, 4503, 4504]
/-- what was read: the objects of an expression that begins at i -/
def SD (D : Nat → Prop) (σ : wS) (s0 : mS) (L : Nat → Int32) (n : Nat) : Nat → Nat → Nat → Prop
  | 0, _, _ => False
  | R + 1, i, o => D o ∧ (if kdl (ltr L n i) = 1 then oC σ o = 43 ∧ oI σ 4200 o = nI (dgv L (i + 5))
    else if kdl (ltr L n i) < 5 then oC σ o = 44 ∧ oI σ 4402 o = nI (kdl (ltr L n i)) ∧ oI σ 4200 o = nI (dgv L (i + (WB (lix (kdl (ltr L n i)))).length)) ∧ ∃ o1, oR σ 4403 o = some o1 ∧ SD D σ s0 L n R (i + (WB (lix (kdl (ltr L n i)))).length + 2) o1
    else oC σ o = 45 ∧ oI σ 4502 o = nI (kdl (ltr L n i)) ∧ oI σ 4200 o = nI (dgv L (i + 5)) ∧ ∃ o1 o2, oR σ 4503 o = some o1 ∧ oR σ 4504 o = some o2 ∧ SD D σ s0 L n R (i + 7) o1 ∧ SD D σ s0 L n R (pse s0 L n R (i + 7) + 1) o2)
theorem SD.fr {D D' : Nat → Prop} {s0 : mS} {L : Nat → Int32} (hD : ∀ o, D o → D' o) (f : Fr P a b σ τ) (d : ∀ g ∈ GSd, ∀ o, D o → ¬ P g o) : ∀ R i o, SD D σ s0 L n R i o → SD D' τ s0 L n R i o := by
  intro R
  induction R with
  | zero => intro i o h; exact h
  | succ R ih =>
    intro i o ⟨h0, h⟩
    refine ⟨hD o h0, ?_⟩
    have hd := fun g hg => d g hg o h0
    by_cases k1 : kdl (ltr L n i) = 1
    · rw [if_pos k1] at h ⊢
      exact ⟨f.C (c := 42) h.1, by rw [f.I (c := 42) h.1 (hd _ (by decide))]; exact h.2⟩
    · rw [if_neg k1] at h ⊢
      by_cases k5 : kdl (ltr L n i) < 5
      · rw [if_pos k5] at h ⊢
        obtain ⟨h1, h2, h3, o1, h4, h5⟩ := h
        exact ⟨f.C (c := 43) h1, by rw [f.I (c := 43) h1 (hd _ (by decide))]; exact h2, by rw [f.I (c := 43) h1 (hd _ (by decide))]; exact h3, o1, by rw [f.R (c := 43) h1 (hd _ (by decide))]; exact h4, ih _ _ h5⟩
      · rw [if_neg k5] at h ⊢
        obtain ⟨h1, h2, h3, o1, o2, h4, h5, h6, h7⟩ := h
        exact ⟨f.C (c := 44) h1, by rw [f.I (c := 44) h1 (hd _ (by decide))]; exact h2, by rw [f.I (c := 44) h1 (hd _ (by decide))]; exact h3, o1, o2, by rw [f.R (c := 44) h1 (hd _ (by decide))]; exact h4, by rw [f.R (c := 44) h1 (hd _ (by decide))]; exact h5, ih _ _ h6, ih _ _ h7⟩
theorem SD.D {D : Nat → Prop} {s0 : mS} {L : Nat → Int32} {R o : Nat} (h : SD D σ s0 L n R i o) : D o := by
  cases R with
  | zero => exact h.elim
  | succ R => exact h.1
theorem SD.oS {D : Nat → Prop} {s0 : mS} {L : Nat → Int32} {R o : Nat} (h : SD D σ s0 L n R i o) : oS41 σ o := by
  cases R with
  | zero => exact h.elim
  | succ R =>
    obtain ⟨-, h⟩ := h
    unfold oS41
    by_cases k1 : kdl (ltr L n i) = 1
    · rw [if_pos k1] at h; exact Or.inl h.1
    · rw [if_neg k1] at h
      by_cases k5 : kdl (ltr L n i) < 5
      · rw [if_pos k5] at h; exact Or.inr (Or.inl h.1)
      · rw [if_neg k5] at h; exact Or.inr (Or.inr h.1)
theorem psr_b {s0 : mS} {L : Nat → Int32} (hb : ∀ p, p < s0 10 0 → s0 12 p < 16) (h8 : s0 10 0 ≤ 8) (hn : n ≤ 160) : ∀ R i j c, i ≤ n → psr s0 L n R i = Sum.inr (j, c) → c < 16 ∧ i + 6 ≤ j ∧ j ≤ n := by
  intro R
  induction R with
  | zero => intro i j c _ h; cases h
  | succ R ih =>
    intro i j c hi h
    rw [psr_k rfl] at h
    have hkd := kdl_c (ltr L n i)
    generalize kdl (ltr L n i) = k at h hkd
    by_cases k0 : k = 0
    · rw [if_pos k0] at h; cases h
    rw [if_neg k0] at h
    obtain ⟨len, -⟩ := lix_len (k := k) (by omega)
    cases h1 : mst L n (WB (lix k)) i with
    | inl z => rw [h1] at h; cases h
    | inr j0 =>
      rw [h1] at h
      dsimp only at h
      obtain ⟨e0, l0⟩ := mst_inr _ _ _ hi h1
      have hu : und s0 k ≤ 8 := by unfold und; split; exact h8; split <;> decide
      cases h2 : dgt L n (und s0 k) j0 with
      | none => rw [h2] at h; cases h
      | some p =>
        rw [h2] at h
        dsimp only at h
        obtain ⟨p1, p2, -⟩ := dgt_some (by omega) h2
        have l5 : 5 ≤ (WB (lix k)).length := by rw [len]; split <;> decide
        by_cases k1 : k = 1
        · rw [if_pos k1] at h
          cases h
          refine ⟨hb p ?_, by omega, by omega⟩
          unfold und at p2
          rw [if_pos k1] at p2
          exact p2
        rw [if_neg k1] at h
        cases h3 : mst L n [40] (j0 + 1) with
        | inl z => rw [h3] at h; cases h
        | inr j1 =>
          rw [h3] at h
          dsimp only at h
          obtain ⟨e1, l1⟩ := mst_inr _ _ _ (by omega) h3
          cases h4 : psr s0 L n R j1 with
          | inl z => rw [h4] at h; cases h
          | inr y =>
            obtain ⟨y1, y2⟩ := y
            rw [h4] at h
            dsimp only at h
            obtain ⟨c1, c2, c3⟩ := ih _ _ _ l1 h4
            by_cases k5 : k < 5
            · rw [if_pos k5] at h
              cases h5 : mst L n [41] y1 with
              | inl z => rw [h5] at h; cases h
              | inr j3 =>
                rw [h5] at h
                dsimp only at h
                obtain ⟨e3, l3⟩ := mst_inr _ _ _ c3 h5
                split at h
                · cases h
                  refine ⟨?_, by omega, by omega⟩
                  by_cases k4 : k = 4
                  · rw [if_pos k4]
                    unfold und at p2
                    rw [if_neg k1, if_neg (by omega)] at p2
                    rcases (show p = 0 ∨ p = 1 ∨ p = 2 ∨ p = 3 by omega) with rfl | rfl | rfl | rfl <;> decide
                  · rw [if_neg k4]; exact c1
                · cases h
            · rw [if_neg k5] at h
              cases h5 : mst L n [44] y1 with
              | inl z => rw [h5] at h; cases h
              | inr j3 =>
                rw [h5] at h
                dsimp only at h
                obtain ⟨e3, l3⟩ := mst_inr _ _ _ c3 h5
                cases h6 : psr s0 L n R j3 with
                | inl z => rw [h6] at h; cases h
                | inr w =>
                  obtain ⟨w1, w2⟩ := w
                  rw [h6] at h
                  dsimp only at h
                  obtain ⟨d1, d2, d3⟩ := ih _ _ _ l3 h6
                  cases h7 : mst L n [41] w1 with
                  | inl z => rw [h7] at h; cases h
                  | inr j5 =>
                    rw [h7] at h
                    dsimp only at h
                    obtain ⟨e5, l5⟩ := mst_inr _ _ _ d3 h7
                    split at h
                    · cases h
                      refine ⟨?_, by omega, by omega⟩
                      split
                      · exact Nat.or_lt_two_pow (n := 4) c1 d1
                      · exact c1
                    · cases h
/-- what reading an expression does -/
def RdX (F : Nat) (t ro m k n : Nat) (f : Nat → Int64) (s : mS) (R : Nat) : Prop := ∀ (i : Nat) (σ : wS) (Q : Option Nat → wS → Prop) (Xh : Nat → Nat → wS → Prop), Rd σ t ro m k n f s i → i ≤ n → 210 ≤ i + 7 * R → (n - i + 1 ≤ rC σ ∧ 5 * (n - i) + 7 ≤ rS σ) →
  (∀ j c, psr s (Lf f) n R i = Sum.inr (j, c) → ∀ τ o, Fr (P4 t) (j - i) (5 * (j - i)) σ τ → Rd τ t ro m k n f s j → SD (fun o => oC σ o = 0) τ s (Lf f) n R i o → oI τ 4201 o = nI c → Q (some o) τ) →
  (∀ z, psr s (Lf f) n R i = Sum.inl z → XF Xh t (n - i + 1) (5 * (n - i) + 7) σ z) → w_X39_expression F R σ t Q Xh
theorem Rd.q (h : Rd σ t ro m k n f s i) {q : Nat} (f' : Fr (P4 t) a b σ τ) (hq : oC σ q = 0) : q ≠ t := fun z => by
  rw [z, show oC σ t = 40 from h.1.1] at hq; cases hq
end PC
