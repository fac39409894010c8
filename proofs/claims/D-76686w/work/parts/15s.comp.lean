set_option linter.unusedVariables false
set_option maxRecDepth 10000
/-! ===== component: prices ===== -/
section PC
variable {σ τ υ σ0 : wS} {x m F : Nat} {s : mS} {S : gS} {K K' : Nat → Nat} {P P' : Nat → Nat → Prop} {a b c d : Nat}
theorem shr_c2 : ∀ k, k < 32 → ((nI k).toUInt32 &&& Int32.toUInt32 31).toNat % 32 = k := by decide +kernel
theorem shrI {a k : Nat} (ha : a < 2 ^ 32) (hk : k < 32) : ((nI a).toUInt32 >>> ((nI k).toUInt32 &&& Int32.toUInt32 31)).toInt32 = nI (a / 2 ^ k) := by
  have hs : a / 2 ^ k ≤ a := Nat.div_le_self _ _
  have e2 : UInt32.ofNat a >>> ((nI k).toUInt32 &&& Int32.toUInt32 31) = UInt32.ofNat (a / 2 ^ k) := by
    apply UInt32.toNat_inj.1
    have h1 : (UInt32.ofNat a).toNat = a := Nat.mod_eq_of_lt ha
    have h2 : (UInt32.ofNat (a / 2 ^ k)).toNat = a / 2 ^ k := Nat.mod_eq_of_lt (by omega)
    rw [UInt32.toNat_shiftRight, shr_c2 k hk, h1, h2, Nat.shiftRight_eq_div_pow]
  show (UInt32.ofNat a >>> ((nI k).toUInt32 &&& Int32.toUInt32 31)).toInt32 = _
  rw [e2]
  rfl
theorem bl_k : ∀ k m v, 2 ^ k ≤ v → bl (m + k) v = bl m (v / 2 ^ k) + k := by
  intro k
  induction k with
  | zero => intro m v _; rw [Nat.pow_zero, Nat.div_one]; rfl
  | succ k ih =>
    intro m v h
    have hp : 0 < 2 ^ k := Nat.pow_pos (by decide)
    rw [Nat.pow_succ] at h
    show (if v = 0 then 0 else bl (m + k) (v / 2) + 1) = _
    rw [if_neg (by omega), ih m (v / 2) (by omega), Nat.div_div_eq_div_mul, Nat.pow_succ, Nat.mul_comm 2]
    omega
theorem bl_15 (m : Nat) : ∀ v, v < 16 → 1 ≤ v → bl (m + 4) v = if v < 4 then v / 2 + 1 else v / 8 + 3 := by
  intro v h1 h2
  have h : v = 1 ∨ v = 2 ∨ v = 3 ∨ v = 4 ∨ v = 5 ∨ v = 6 ∨ v = 7 ∨ v = 8 ∨ v = 9 ∨ v = 10 ∨ v = 11 ∨ v = 12 ∨ v = 13 ∨ v = 14 ∨ v = 15 := by omega
  have z : ∀ j, bl j 0 = 0 := fun j => by cases j <;> rfl
  rcases h with rfl | rfl | rfl | rfl | rfl | rfl | rfl | rfl | rfl | rfl | rfl | rfl | rfl | rfl | rfl <;> simp [bl, z]
theorem p_61 {Q : Int32 → wS → Prop} {m v c : Nat} (h1 : 1 ≤ v) (h2 : v < 16) (hc : 3 ≤ c) (h : Q (nI (c + 1 - bl (m + 4) v)) σ) : b_J16_numberOfLeadingZeros_61 Q σ (nI v) (nI c) := by
  rw [bl_15 m v h2 h1] at h
  unfold b_J16_numberOfLeadingZeros_61
  by_cases q : v < 4
  · rw [if_pos (show nI v < (4 : Int32) from nI_lt (b := 4) q (by decide)), show (1 : Int32) = nI 1 from rfl, shrI (by omega) (by decide), sub_I (by omega)]
    rw [if_pos q, show c + 1 - (v / 2 + 1) = c - v / 2 ^ 1 by omega] at h
    exact h
  · rw [if_neg (show ¬ nI v < (4 : Int32) from nI_nlt (b := 4) (by omega) (by omega)), show (2 : Int32) = nI 2 from rfl, shrI (by omega) (by decide)]
    intro u hu
    rw [hu, show (1 : Int32) = nI 1 from rfl, shrI (by omega) (by decide), ← Int32.sub_eq_add_neg, sub_I (by omega), sub_I (by omega)]
    rw [if_neg q, show c + 1 - (v / 8 + 3) = c - 2 - v / 2 ^ 2 / 2 ^ 1 by omega] at h
    exact h
theorem p_48 {Q : Int32 → wS → Prop} {m v c : Nat} (h1 : 1 ≤ v) (h2 : v < 256) (hc : 7 ≤ c) (h : Q (nI (c + 1 - bl (m + 8) v)) σ) : b_J16_numberOfLeadingZeros_48 Q σ (nI v) (nI c) := by
  unfold b_J16_numberOfLeadingZeros_48
  by_cases q : v < 16
  · rw [if_pos (show nI v < (16 : Int32) from nI_lt (b := 16) q (by decide))]
    exact p_61 (m := m + 4) h1 q (by omega) h
  · rw [if_neg (show ¬ nI v < (16 : Int32) from nI_nlt (b := 16) (by omega) (by omega)), show (4 : Int32) = nI 4 from rfl, shrI (by omega) (by decide)]
    intro u hu
    rw [hu, ← Int32.sub_eq_add_neg, sub_I (by omega)]
    refine p_61 (m := m) (by omega) (by omega) (by omega) ?_
    rw [show m + 8 = m + 4 + 4 by omega, bl_k 4 _ _ (by omega), show c + 1 - (bl (m + 4) (v / 2 ^ 4) + 4) = c - 4 + 1 - bl (m + 4) (v / 2 ^ 4) by omega] at h
    exact h
theorem p_33 {Q : Int32 → wS → Prop} {m v c : Nat} (h1 : 1 ≤ v) (h2 : v < 65536) (hc : 15 ≤ c) (h : Q (nI (c + 1 - bl (m + 16) v)) σ) : b_J16_numberOfLeadingZeros_33 Q σ (nI v) (nI c) := by
  unfold b_J16_numberOfLeadingZeros_33
  by_cases q : v < 256
  · rw [if_pos (show nI v < (256 : Int32) from nI_lt (b := 256) q (by decide))]
    exact p_48 (m := m + 8) h1 q (by omega) h
  · rw [if_neg (show ¬ nI v < (256 : Int32) from nI_nlt (b := 256) (by omega) (by omega)), show (8 : Int32) = nI 8 from rfl, shrI (by omega) (by decide)]
    intro u hu
    rw [hu, ← Int32.sub_eq_add_neg, sub_I (by omega)]
    refine p_48 (m := m) (by omega) (by omega) (by omega) ?_
    rw [show m + 16 = m + 8 + 8 by omega, bl_k 8 _ _ (by omega), show c + 1 - (bl (m + 8) (v / 2 ^ 8) + 8) = c - 8 + 1 - bl (m + 8) (v / 2 ^ 8) by omega] at h
    exact h
theorem c_nlz {Q : Int32 → wS → Prop} {v : Nat} (h2 : v < 2 ^ 31) (h : Q (nI (64 - bl 64 v)) σ) : w_J17_numberOfLeadingZeros σ (lN v) Q := by
  unfold w_J17_numberOfLeadingZeros
  rw [show ((32 : Int32)).toInt64 = (nI 32).toInt64 from rfl, shrL (by omega) (by decide), lN_i32, lN_i32, Nat.shiftRight_eq_div_pow, show v / 2 ^ 32 = 0 by omega]
  intro u hu
  rw [if_pos (show u = (0 : Int32) from hu)]
  unfold w_J16_numberOfLeadingZeros
  by_cases z : v = 0
  · rw [z] at h ⊢
    rw [if_neg (show ¬ (0 : Int32) < nI 0 by decide)]
    show Q ((32 : Int32) + (if nI 0 = (0 : Int32) then (32 : Int32) else 0)) σ
    rw [if_pos (show nI 0 = (0 : Int32) from rfl)]
    exact h
  have key : ∀ Q : Int32 → wS → Prop, Q (nI (32 - bl 64 v)) σ → w_J16_numberOfLeadingZeros σ (nI v) Q := fun Q h => by
    unfold w_J16_numberOfLeadingZeros
    rw [if_pos (show (0 : Int32) < nI v from nI_lt (a := 0) (by omega) (by omega))]
    by_cases q : v < 65536
    · rw [if_pos (show nI v < (65536 : Int32) from nI_lt (b := 65536) q (by decide))]
      exact p_33 (m := 48) (c := 31) (by omega) q (by decide) h
    · rw [if_neg (show ¬ nI v < (65536 : Int32) from nI_nlt (b := 65536) (by omega) (by omega)), show (16 : Int32) = nI 16 from rfl, shrI (by omega) (by decide)]
      intro u hu
      rw [hu]
      refine p_33 (m := 32) (c := 15) (by omega) (by omega) (by decide) ?_
      rw [show 64 = 32 + 16 + 16 from rfl, bl_k 16 _ _ (by omega), show 32 - (bl (32 + 16) (v / 2 ^ 16) + 16) = 15 + 1 - bl (32 + 16) (v / 2 ^ 16) by omega] at h
      exact h
  have b32 : bl 64 v ≤ 32 := by
    by_cases q : v < 65536
    · by_cases q2 : v < 256
      · by_cases q3 : v < 16
        · rw [show 64 = 60 + 4 from rfl, bl_15 60 v q3 (by omega)]; split <;> omega
        · have := bl_15 56 (v / 2 ^ 4) (by omega) (by omega)
          rw [show 64 = 60 + 4 from rfl, bl_k 4 _ _ (by omega), this]; split <;> omega
      · have := bl_le 8 (v / 2 ^ 8)
        have e : bl 64 v = bl 56 (v / 2 ^ 8) + 8 := bl_k 8 56 v (by omega)
        have e2 : bl 56 (v / 2 ^ 8) ≤ 8 + 4 := by
          by_cases q3 : v / 2 ^ 8 < 16
          · rw [show 56 = 52 + 4 from rfl, bl_15 52 _ q3 (by omega)]; split <;> omega
          · have := bl_15 48 (v / 2 ^ 8 / 2 ^ 4) (by omega) (by omega)
            rw [show 56 = 52 + 4 from rfl, bl_k 4 _ _ (by omega), this]; split <;> omega
        omega
    · have e : bl 64 v = bl 48 (v / 2 ^ 16) + 16 := bl_k 16 48 v (by omega)
      have e2 : bl 48 (v / 2 ^ 16) ≤ 16 := by
        generalize hw : v / 2 ^ 16 = w
        have w1 : w < 32768 := by omega
        have w0 : 1 ≤ w := by omega
        by_cases q2 : w < 16
        · rw [show 48 = 44 + 4 from rfl, bl_15 44 w q2 w0]; split <;> omega
        · have e4 : bl 48 w = bl 44 (w / 2 ^ 4) + 4 := bl_k 4 44 w (by omega)
          by_cases q3 : w / 2 ^ 4 < 16
          · rw [e4, show 44 = 40 + 4 from rfl, bl_15 40 _ q3 (by omega)]; split <;> omega
          · have e5 : bl 44 (w / 2 ^ 4) = bl 40 (w / 2 ^ 4 / 2 ^ 4) + 4 := bl_k 4 40 _ (by omega)
            by_cases q4 : w / 2 ^ 4 / 2 ^ 4 < 16
            · rw [e4, e5, show 40 = 36 + 4 from rfl, bl_15 36 _ q4 (by omega)]; split <;> omega
            · have e6 : bl 40 (w / 2 ^ 4 / 2 ^ 4) = bl 36 (w / 2 ^ 4 / 2 ^ 4 / 2 ^ 4) + 4 := bl_k 4 36 _ (by omega)
              have := bl_15 32 (w / 2 ^ 4 / 2 ^ 4 / 2 ^ 4) (by omega) (by omega)
              rw [e4, e5, e6, show 36 = 32 + 4 from rfl, this]; split <;> omega
      omega
  have h' := key (fun r7 σ8 => Q ((32 : Int32) + r7) σ8) (by rw [show (32 : Int32) = nI 32 from rfl, nI_add, show 32 + (32 - bl 64 v) = 64 - bl 64 v by omega]; exact h)
  unfold w_J16_numberOfLeadingZeros at h'
  exact h'
end PC
