set_option linter.unusedVariables false
set_option maxRecDepth 10000
/-! ===== reading: the plain part ===== -/
section PM
variable {s s1 : mS}
def OldR (s s1 : mS) : Prop := Old s s1 ∧ ∀ g, g < mG s → s1 7 g = s 7 g
theorem OldR.refl : OldR s s := ⟨Old.refl, fun _ _ => rfl⟩
theorem OldR.trans {s2 : mS} (h : OldR s s1) (k : OldR s1 s2) (hs : ∀ g, g < mG s → R s g < mG s) : OldR s s2 := by
  obtain ⟨⟨⟨a1, a2⟩, a3, a4, a5⟩, a6⟩ := h
  obtain ⟨⟨⟨b1, b2⟩, b3, b4, b5⟩, b6⟩ := k
  refine ⟨⟨⟨by omega, by omega⟩, fun e he => ?_, fun g hg => ?_, fun k hk => (b5 k hk).trans (a5 k hk)⟩, fun g hg => (b6 g (by omega)).trans (a6 g hg)⟩
  · obtain ⟨c1, c2, c3, c4, c5, c6⟩ := a3 e he
    obtain ⟨d1, d2, d3, d4, d5, d6⟩ := b3 e (by omega)
    exact ⟨d1.trans c1, d2.trans c2, d3.trans c3, d4.trans c4, d5.trans c5, d6.trans c6⟩
  · obtain ⟨c1, c2⟩ := a4 g hg
    obtain ⟨d1, d2⟩ := b4 g (by omega)
    refine ⟨d1.trans c1, ?_⟩
    rw [c1] at d2
    exact d2.trans c2
theorem tel_oldR {x : X4} (hs : Sh s) : OldR s (tel s x).1 := by
  unfold tel
  cases lk4 s x with
  | some i => exact OldR.refl
  | none =>
    refine ⟨(nwx_old hs).1, fun g hg => ?_⟩
    show up (s 7) (mG s) (mG s) g = s 7 g
    exact up_n (by omega)
theorem mst_inr {L : Nat → Int32} {n : Nat} : ∀ (w : List Int32) (i j : Nat), i ≤ n → mst L n w i = Sum.inr j → j = i + w.length ∧ j ≤ n := by
  intro w
  induction w with
  | nil => intro i j hi h; cases h; exact ⟨rfl, hi⟩
  | cons c w ih =>
    intro i j hi h
    unfold mst at h
    by_cases q : i < n ∧ L i = c
    · rw [if_pos q] at h
      obtain ⟨a, b⟩ := ih (i + 1) j (by omega) h
      rw [List.length_cons]
      exact ⟨by omega, b⟩
    · rw [if_neg q] at h; cases h
theorem mst_inl {L : Nat → Int32} {n : Nat} : ∀ (w : List Int32) (i z : Nat), i ≤ n → mst L n w i = Sum.inl z → z ≤ n := by
  intro w
  induction w with
  | nil => intro i z hi h; cases h
  | cons c w ih =>
    intro i z hi h
    unfold mst at h
    by_cases q : i < n ∧ L i = c
    · rw [if_pos q] at h
      exact ih (i + 1) z (by omega) h
    · rw [if_neg q] at h; cases h; exact hi
theorem mst1 {L : Nat → Int32} {n i : Nat} {c : Int32} : mst L n [c] i = if i < n ∧ L i = c then Sum.inr (i + 1) else Sum.inl i := rfl
theorem dgt_some {L : Nat → Int32} {n u i p : Nat} (hu : u < 1000) (h : dgt L n u i = some p) : i < n ∧ p < u ∧ p = dgv L i ∧ L i - 48 = nI p ∧ ¬ L i < 48 ∧ L i < 48 + nI u := by
  unfold dgt at h
  by_cases q : i < n ∧ ¬ L i < 48 ∧ L i < 48 + nI u
  · rw [if_pos q] at h
    obtain ⟨q1, q2, q3⟩ := q
    cases h
    have h0 : ¬ L i < 0 := fun z => q2 (Int32.lt_trans z (by decide))
    obtain ⟨m, hm, em⟩ := nI_of h0
    rw [em] at q2 q3
    have m48 : 48 ≤ m := Nat.le_of_not_lt fun z => q2 (show nI m < (48 : Int32) from nI_lt (b := 48) z (by decide))
    rw [nIl_48, nI_add] at q3
    have mu : m < 48 + u := (nI_ltI hm (by omega)).mp q3
    have e : L i - 48 = nI (m - 48) := by rw [em, nIl_48, sub_I m48]
    refine ⟨q1, ?_, rfl, ?_, by rw [em]; exact q2, by rw [em, nIl_48, nI_add]; exact q3⟩
    · rw [e, nI_clamp (by omega)]; omega
    · rw [e, nI_clamp (by omega)]
  · rw [if_neg q] at h; cases h
theorem kdl_c (c : Int32) : kdl c = 0 ∨ kdl c = 1 ∨ kdl c = 3 ∨ kdl c = 4 ∨ kdl c = 5 ∨ kdl c = 6 := by
  unfold kdl
  split
  · omega
  · split
    · omega
    · split
      · omega
      · split
        · omega
        · split <;> omega
theorem psr_k {L : Nat → Int32} {n D i k : Nat} (hk : kdl (ltr L n i) = k) : psr s L n (D + 1) i = if k = 0 then Sum.inl i else match mst L n (WB (lix k)) i with
    | Sum.inl z => Sum.inl z
    | Sum.inr j => match dgt L n (und s k) j with
      | none => Sum.inl j
      | some p => if k = 1 then Sum.inr (j + 1, s 12 p) else match mst L n [40] (j + 1) with
        | Sum.inl z => Sum.inl z
        | Sum.inr j1 => match psr s L n D j1 with
          | Sum.inl z => Sum.inl z
          | Sum.inr x => if k < 5 then (match mst L n [41] x.1 with
              | Sum.inl z => Sum.inl z
              | Sum.inr j3 => if x.2.testBit (kcl k p) = true then Sum.inr (j3, if k = 4 then 2 ^ p else x.2) else Sum.inl i)
            else match mst L n [44] x.1 with
              | Sum.inl z => Sum.inl z
              | Sum.inr j3 => match psr s L n D j3 with
                | Sum.inl z => Sum.inl z
                | Sum.inr y => match mst L n [41] y.1 with
                  | Sum.inl z => Sum.inl z
                  | Sum.inr j5 => if (x.2.testBit p && y.2.testBit p) = true then Sum.inr (j5, if k = 5 then x.2 ||| y.2 else x.2) else Sum.inl i := by
  subst hk
  rfl
theorem tlr_k {L : Nat → Int32} {n D i k : Nat} {m : mS} (hk : kdl (ltr L n i) = k) : tlr s L n (D + 1) i m = if k = 1 then tel m (1, dgv L (i + 5), 0, 0)
    else if k < 5 then tel (tlr s L n D (i + (WB (lix k)).length + 2) m).1 (k, dgv L (i + (WB (lix k)).length), (tlr s L n D (i + (WB (lix k)).length + 2) m).2, (tlr s L n D (i + (WB (lix k)).length + 2) m).2)
    else tel (tlr s L n D (pse s L n D (i + 7) + 1) (tlr s L n D (i + 7) m).1).1 (k, dgv L (i + 5), (tlr s L n D (i + 7) m).2, (tlr s L n D (pse s L n D (i + 7) + 1) (tlr s L n D (i + 7) m).1).2) := by
  subst hk
  rfl
theorem lix_len {k : Nat} (hk : k = 1 ∨ k = 3 ∨ k = 4 ∨ k = 5 ∨ k = 6) : (WB (lix k)).length = (if k = 4 then 6 else 5) ∧ lix k < 13 := by
  rcases hk with rfl | rfl | rfl | rfl | rfl <;> exact ⟨rfl, by decide⟩
def TOK (s0 : mS) (L : Nat → Int32) (n D i : Nat) (s : mS) (j c : Nat) : Prop := (Sh (tlr s0 L n D i s).1 ∧ Lo (tlr s0 L n D i s).1 ∧ No (tlr s0 L n D i s).1) ∧ OldR s (tlr s0 L n D i s).1 ∧ (tlr s0 L n D i s).2 < mG (tlr s0 L n D i s).1 ∧ R (tlr s0 L n D i s).1 (tlr s0 L n D i s).2 = (tlr s0 L n D i s).2 ∧ (tlr s0 L n D i s).1 9 (tlr s0 L n D i s).2 = c ∧ 6 * mN (tlr s0 L n D i s).1 + i ≤ 6 * mN s + j ∧ i + 6 ≤ j ∧ j ≤ n
theorem tok_of {s0 : mS} {L : Nat → Int32} {n D i j c : Nat} {s a : mS} {x : X4} (e : tlr s0 L n D i s = tel a x) (ha : Sh a ∧ Lo a ∧ No a) (hO : OldR s a) (hsR : ∀ g, g < mG s → R s g < mG s) (hN : mN a < 144) (ho : ok4x a x) (hc : col4 a x = c) (h6 : 6 * mN a + 6 + i ≤ 6 * mN s + j) (h7 : i + 6 ≤ j) (h8 : j ≤ n) : TOK s0 L n D i s j c := by
  obtain ⟨t1, t2, t3, t4, t5, t6, t7, t8⟩ := tel_ok ha.1 ha.2.1 ha.2.2 hN ho
  unfold TOK
  rw [e]
  refine ⟨⟨t1, t2, t3⟩, hO.trans (tel_oldR ha.1) hsR, t4, t5, t6.trans hc, ?_, h7, h8⟩
  rw [t8]
  split <;> omega
end PM
section PM
variable {s s1 : mS}
theorem tlr_ok {s0 : mS} {L : Nat → Int32} {n : Nat} (hn : n ≤ 160) (hb : ∀ p, p < s0 10 0 → s0 12 p < 16) (h8 : s0 10 0 ≤ 8) : ∀ D i s j c, Sh s → Lo s → No s → (∀ k, 10 ≤ k → s k = s0 k) → 6 * mN s ≤ 384 + i → i ≤ n → psr s0 L n D i = Sum.inr (j, c) → TOK s0 L n D i s j c := by
  intro D
  induction D with
  | zero => intro i s j c _ _ _ _ _ _ h; cases h
  | succ D ih =>
    intro i s j c hs l no hk hN hi h
    rw [psr_k rfl] at h
    have hkd := kdl_c (ltr L n i)
    have etl := tlr_k (s := s0) (D := D) (m := s) (L := L) (n := n) (i := i) rfl
    generalize kdl (ltr L n i) = k at h hkd etl
    by_cases k0 : k = 0
    · rw [if_pos k0] at h; cases h
    rw [if_neg k0] at h
    obtain ⟨len, -⟩ := lix_len (k := k) (by omega)
    cases h1 : mst L n (WB (lix k)) i with
    | inl z => rw [h1] at h; cases h
    | inr j0 =>
      rw [h1] at h
      dsimp only at h
      obtain ⟨ej0, lj0⟩ := mst_inr _ _ _ hi h1
      have hu : und s0 k < 1000 := by unfold und; split; omega; split <;> omega
      cases h2 : dgt L n (und s0 k) j0 with
      | none => rw [h2] at h; cases h
      | some p =>
        rw [h2] at h
        dsimp only at h
        obtain ⟨d1, d2, d3, -⟩ := dgt_some hu h2
        by_cases k1 : k = 1
        · rw [if_pos k1] at h
          cases h
          rw [if_pos k1] at etl
          subst k1
          have l5 : (WB (lix 1)).length = 5 := len
          rw [l5] at ej0
          have hp : p < s0 10 0 := d2
          have e10 : s 10 = s0 10 := hk 10 (by decide)
          have e12 : s 12 = s0 12 := hk 12 (by decide)
          rw [← ej0, ← d3] at etl
          refine tok_of etl ⟨hs, l, no⟩ OldR.refl (fun g hg => sh_lt hs hg) (by omega) ⟨Or.inl rfl, fun _ => ⟨by show p < s 10 0; rw [e10]; exact hp, by show s 12 p < 16; rw [e12]; exact hb p hp⟩, fun z => absurd z (show ¬ 1 = 3 by decide), fun z => absurd z (show ¬ 4 ≤ 1 by decide), fun z => absurd rfl z, fun z => absurd z (show ¬ 5 ≤ 1 by decide), fun z => absurd z (show ¬ 1 = 4 by decide)⟩ ?_ (by omega) (by omega) (by omega)
          show s 12 p = s0 12 p
          rw [e12]
        rw [if_neg k1] at h etl
        cases h3 : mst L n [40] (j0 + 1) with
        | inl z => rw [h3] at h; cases h
        | inr j1 =>
          rw [h3] at h
          dsimp only at h
          obtain ⟨ej1, lj1⟩ := mst_inr _ _ _ (by omega) h3
          have ej1' : j1 = j0 + 2 := by rw [ej1]; rfl
          cases h4 : psr s0 L n D j1 with
          | inl z => rw [h4] at h; cases h
          | inr x =>
            obtain ⟨x1, x2⟩ := x
            rw [h4] at h
            dsimp only at h
            have t1 := ih j1 s x1 x2 hs l no hk (by omega) lj1 h4
            have hle : (WB (lix k)).length ≤ 6 ∧ 5 ≤ (WB (lix k)).length := by rw [len]; split <;> omega
            by_cases k5 : k < 5
            · rw [if_pos k5] at h etl
              cases h5 : mst L n [41] x1 with
              | inl z => rw [h5] at h; cases h
              | inr j3 =>
                rw [h5] at h
                dsimp only at h
                have t1' := t1
                obtain ⟨⟨a1, a2, a3⟩, aO, a4, a5, a6, a7, a8, a9⟩ := t1'
                obtain ⟨ej3, lj3⟩ := mst_inr _ _ _ a9 h5
                have ej3' : j3 = x1 + 1 := ej3
                by_cases hbit : x2.testBit (kcl k p) = true
                · rw [if_pos hbit] at h
                  cases h
                  have e1 : i + (WB (lix k)).length + 2 = j1 := by omega
                  have e2 : i + (WB (lix k)).length = j0 := by omega
                  rw [e1, e2, ← d3] at etl
                  generalize htl : tlr s0 L n D j1 s = r at etl a1 a2 a3 aO a4 a5 a6 a7
                  have hk3 : k = 3 ∨ k = 4 := by omega
                  have hpk : p < (if k = 3 then 8 else 4) := by
                    have : und s0 k = if k = 3 then 8 else 4 := by unfold und; rw [if_neg k1]
                    rw [← this]; exact d2
                  refine tok_of etl ⟨a1, a2, a3⟩ aO (fun g hg => sh_lt hs hg) (by omega) ⟨by omega, fun z => absurd z k1, fun z => ?_, fun z => ?_, fun _ => a4, fun _ => a4, fun z => ?_⟩ ?_ (by omega) (by omega) (by omega)
                  · have z' : k = 3 := z
                    rw [if_pos z'] at hpk; exact hpk
                  · have z' : 4 ≤ k := z
                    rw [if_neg (by omega)] at hpk; exact hpk
                  · have z' : k = 4 := z
                    show (r.1 9 (R r.1 r.2)).testBit p = true
                    rw [a5, a6]
                    unfold kcl at hbit
                    rw [if_neg (by omega)] at hbit
                    exact hbit
                  · show col r.1 k p r.2 r.2 = _
                    unfold col
                    rw [if_neg k1, a5, a6]
                    by_cases z4 : k = 4
                    · rw [if_pos z4, if_pos z4]
                    · rw [if_neg z4, if_neg z4, if_neg (by omega)]
                · rw [if_neg hbit] at h; cases h
            · rw [if_neg k5] at h etl
              cases h5 : mst L n [44] x1 with
              | inl z => rw [h5] at h; cases h
              | inr j3 =>
                rw [h5] at h
                dsimp only at h
                have t1' := t1
                obtain ⟨⟨a1, a2, a3⟩, aO, a4, a5, a6, a7, a8, a9⟩ := t1'
                obtain ⟨ej3, lj3⟩ := mst_inr _ _ _ a9 h5
                have ej3' : j3 = x1 + 1 := ej3
                cases h6 : psr s0 L n D j3 with
                | inl z => rw [h6] at h; cases h
                | inr y =>
                  obtain ⟨y1, y2⟩ := y
                  rw [h6] at h
                  dsimp only at h
                  have t2 := ih j3 (tlr s0 L n D j1 s).1 y1 y2 a1 a2 a3 (fun k hk' => (aO.1.2.2.2 k hk').trans (hk k hk')) (by omega) lj3 h6
                  have t2' := t2
                  obtain ⟨⟨b1, b2, b3⟩, bO, b4, b5, b6, b7, b8, b9⟩ := t2'
                  cases h7 : mst L n [41] y1 with
                  | inl z => rw [h7] at h; cases h
                  | inr j5 =>
                    rw [h7] at h
                    dsimp only at h
                    obtain ⟨ej5, lj5⟩ := mst_inr _ _ _ b9 h7
                    have ej5' : j5 = y1 + 1 := ej5
                    by_cases hbit : (x2.testBit p && y2.testBit p) = true
                    · rw [if_pos hbit] at h
                      cases h
                      have hk5 : (WB (lix k)).length = 5 := by rw [len, if_neg (by omega)]
                      have e1 : i + 7 = j1 := by omega
                      have e2 : i + 5 = j0 := by omega
                      have e3 : pse s0 L n D (i + 7) + 1 = j3 := by
                        unfold pse
                        rw [e1, h4]
                        exact ej3'.symm
                      rw [e3, e1, e2, ← d3] at etl
                      have hr1 : (tlr s0 L n D j1 s).2 < mG (tlr s0 L n D j3 (tlr s0 L n D j1 s).1).1 := Nat.lt_of_lt_of_le a4 bO.1.1.2
                      obtain ⟨c1, c2⟩ := bO.1.2.2.1 _ a4
                      have hpk : p < 4 := by
                        have : und s0 k = 4 := by unfold und; rw [if_neg k1, if_neg (by omega)]
                        rw [← this]; exact d2
                      refine tok_of etl ⟨b1, b2, b3⟩ (aO.trans bO (fun g hg => sh_lt hs hg)) (fun g hg => sh_lt hs hg) (by omega) ⟨by omega, fun z => absurd z k1, fun z => ?_, fun _ => hpk, fun _ => hr1, fun _ => b4, fun z => ?_⟩ ?_ (by omega) (by omega) (by omega)
                      · have z' : k = 3 := z
                        omega
                      · have z' : k = 4 := z
                        omega
                      · show col _ k p _ _ = _
                        unfold col
                        rw [a5] at c1 c2
                        rw [if_neg k1, if_neg (by omega), c1, c2, a6, b5, b6]
                    · rw [if_neg hbit] at h; cases h
end PM
