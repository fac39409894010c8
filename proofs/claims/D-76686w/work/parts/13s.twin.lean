set_option linter.unusedVariables false
set_option maxRecDepth 10000
/-! ===== twin: the whole relation; shelves and tables ===== -/
section PT
variable {σ τ : wS} {t F : Nat} {s : mS} {S : gS}
def TR (σ : wS) (t : Nat) (A : mS) : Prop := ∀ i, i < 8 → aI σ 2509 t i = nI (A 0 i)
def TS (σ : wS) (t : Nat) (A : mS) : Prop := ∀ i, i < 8 → aI σ 2524 t i = nI (A 1 i) ∧ aI σ 2525 t i = nI (A 2 i) ∧ aI σ 2526 t i = nI (A 3 i) ∧ (A 1 i = 2 → aI σ 2527 t i = nI (A 4 i))
def TC (σ : wS) (t : Nat) (c : Nat → Int64) : Prop := ∀ i, i < 1280 → aJ σ 12528 t i = c i
def TZ (σ : wS) (t : Nat) (S : gS) : Prop := oI σ 2505 t = nI (S.1 20 0) ∧ oI σ 2506 t = eI (S.2.1 5 0) ∧ TB σ t S.2.2.2.2
def TP (σ : wS) (t : Nat) (A : mS) : Prop := oI σ 2508 t = nI (A 5 1) ∧ ∀ i, i < A 5 1 → (aI σ 2542 t i = nI (A 6 i) ∧ aI σ 2543 t i = nI (A 7 i) ∧ aI σ 2544 t i = nI (A 8 i) ∧ aI σ 2545 t i = eI (A 9 i)) ∧ (aI σ 2546 t i = eI (A 10 i) ∧ aI σ 2547 t i = eI (A 11 i) ∧ aI σ 2548 t i = nI (A 12 i) ∧ aI σ 2549 t i = nI (A 13 i)) ∧ aJ σ 12551 t i = lN (A 14 i)
def TK1 (f : Nat → Int32) (v : mS) : Prop := (f 0 = nI (v 10 0) ∧ f 1 = nI (mN v) ∧ f 2 = nI (mG v) ∧ f 3 = nI (v 18 0) ∧ f 4 = nI (v 19 0) ∧ f 5 = nI (v 20 0)) ∧ (∀ i, i < 4 → f (6 + i) = nI (v 15 i)) ∧ (∀ i, i < 7 → f (10 + i) = nI (v 17 i)) ∧
  (∀ i, i < v 10 0 → f (20 + i) = nI (v 11 i) ∧ f (30 + i) = nI (v 12 i) ∧ f (40 + i) = eI (v 13 i) ∧ f (50 + i) = nI (v 14 i)) ∧
  (∀ e, e < mN v → f (60 + e) = nI (v 2 e) ∧ f (130 + e) = nI (v 3 e) ∧ (v 2 e ≠ 1 → f (200 + e) = nI (v 4 e)) ∧ (5 ≤ v 2 e → f (270 + e) = nI (v 5 e)) ∧ f (340 + e) = nI (v 6 e)) ∧ (∀ g, g < mG v → f (410 + g) = nI (v 7 g))
def TI (σ : wS) (t : Nat) (A v : mS) : Prop := (oI σ 2571 t = nI (A 5 2) ∧ A 5 2 ≤ 1) ∧ (A 5 2 = 0 → aN σ 2572 t = none ∧ aN σ 22573 t = none ∧ aN σ 22574 t = none) ∧
  (A 5 2 = 1 → (aN σ 2572 t = some 600 ∧ aN σ 22573 t = some 64 ∧ aN σ 22574 t = some 29120) ∧ TK1 (aI σ 2572 t) v ∧ (∀ e, e < mN v → aI σ 22573 t e = nI (v 8 e)) ∧ (∀ i, i < 29120 → aI σ 22574 t i = nI (v 16 i)))
def TT (σ : wS) (t : Nat) (S : gS) : Prop := (TM σ t S.1 ∧ TXo σ t S.1 ∧ TF σ t S.1) ∧ (TR σ t S.2.1 ∧ TS σ t S.2.1 ∧ TC σ t S.2.2.2.1 ∧ TZ σ t S) ∧ (TP σ t S.2.1 ∧ TI σ t S.2.1 S.2.2.1)
theorem TR.tw {A : mS} {G : List Nat} (h : TR σ t A) (k : Tw G t σ τ) (d : ∀ g ∈ [2509], g ∉ G) : TR τ t A := by
  intro i hi
  rw [k.A (d _ (by decide))]; exact h i hi
theorem TS.tw {A : mS} {G : List Nat} (h : TS σ t A) (k : Tw G t σ τ) (d : ∀ g ∈ [2524, 2525, 2526, 2527], g ∉ G) : TS τ t A := by
  intro i hi
  rw [k.A (d 2524 (by decide)), k.A (d 2525 (by decide)), k.A (d 2526 (by decide)), k.A (d 2527 (by decide))]; exact h i hi
theorem TC.tw {c : Nat → Int64} {G : List Nat} (h : TC σ t c) (k : Tw G t σ τ) (d : ∀ g ∈ [12528], g ∉ G) : TC τ t c := by
  intro i hi
  rw [k.AJ (d _ (by decide))]; exact h i hi
theorem TZ.tw {G : List Nat} (h : TZ σ t S) (k : Tw G t σ τ) (d : ∀ g ∈ [2505, 2506, 2507, 2562], g ∉ G) : TZ τ t S := by
  refine ⟨?_, ?_, ?_, ?_⟩
  · rw [k.I (d _ (by decide))]; exact h.1
  · rw [k.I (d _ (by decide))]; exact h.2.1
  · rw [k.I (d _ (by decide))]; exact h.2.2.1
  · rw [k.A (d _ (by decide))]; exact h.2.2.2
theorem TP.tw {A : mS} {G : List Nat} (h : TP σ t A) (k : Tw G t σ τ) (d : ∀ g ∈ [2508, 2542, 2543, 2544, 2545, 2546, 2547, 2548, 2549, 12551], g ∉ G) : TP τ t A := by
  refine ⟨by rw [k.I (d _ (by decide))]; exact h.1, fun i hi => ?_⟩
  rw [k.A (d 2542 (by decide)), k.A (d 2543 (by decide)), k.A (d 2544 (by decide)), k.A (d 2545 (by decide)), k.A (d 2546 (by decide)), k.A (d 2547 (by decide)), k.A (d 2548 (by decide)), k.A (d 2549 (by decide)), k.AJ (d 12551 (by decide))]
  exact h.2 i hi
theorem TI.tw {A v : mS} {G : List Nat} (h : TI σ t A v) (k : Tw G t σ τ) (d : ∀ g ∈ [2571, 2572, 22573, 22574], g ∉ G) : TI τ t A v := by
  refine ⟨by rw [k.I (d _ (by decide))]; exact h.1, fun e => ?_, fun e => ?_⟩
  · rw [k.1.2.2.2.1]; exact h.2.1 e
  · rw [k.1.2.2.2.1, k.A (d 2572 (by decide)), k.A (d 22573 (by decide)), k.A (d 22574 (by decide))]; exact h.2.2 e
abbrev GT : List Nat := [2500, 2501, 2502, 2510, 2511, 2512, 2515, 2516, 2517, 2518, 2519, 2520, 22521, 2504, 2513, 2514, 22522, 2523, 2503, 2509, 2524, 2525, 2526, 2527, 12528, 2505, 2506, 2507, 2562, 2508, 2542, 2543, 2544, 2545, 2546, 2547, 2548, 2549, 12551, 2571, 2572, 22573, 22574]
theorem TT.tw {G : List Nat} (h : TT σ t S) (k : Tw G t σ τ) (d : ∀ g ∈ GT, g ∉ G) : TT τ t S :=
  ⟨⟨h.1.1.tw k (fun g hg => d g (by revert g; decide)), h.1.2.1.tw k (fun g hg => d g (by revert g; decide)), h.1.2.2.tw k (fun g hg => d g (by revert g; decide))⟩,
   ⟨h.2.1.1.tw k (fun g hg => d g (by revert g; decide)), h.2.1.2.1.tw k (fun g hg => d g (by revert g; decide)), h.2.1.2.2.1.tw k (fun g hg => d g (by revert g; decide)), h.2.1.2.2.2.tw k (fun g hg => d g (by revert g; decide))⟩,
   h.2.2.1.tw k (fun g hg => d g (by revert g; decide)), h.2.2.2.tw k (fun g hg => d g (by revert g; decide))⟩
theorem TT.ok (h : TT σ t S) : ok24 σ t := h.1.1.1.1
/-- what all calls leave: other objects; room -/
def Tu (t : Nat) (σ τ : wS) : Prop := (oC τ = oC σ ∧ oR τ = oR σ) ∧ (∀ g o, o ≠ t → o < nx σ → (oI τ g o = oI σ g o ∧ oJ τ g o = oJ σ g o ∧ aI τ g o = aI σ g o ∧ aJ τ g o = aJ σ g o) ∧ aN τ g o = aN σ g o ∧ aD τ g o = aD σ g o ∧ aR τ g o = aR σ g o) ∧ nx σ ≤ nx τ ∧ rC σ ≤ rC τ + 4 ∧ rS σ ≤ rS τ + 40000
theorem Tw.tu {G : List Nat} (h : Tw G t σ τ) : Tu t σ τ := by
  obtain ⟨⟨a1, a2, a3, a4, a5, a6, a7, a8⟩, a⟩ := h
  exact ⟨⟨a1, a2⟩, fun g o q _ => ⟨a g o (fun e => absurd e q), by rw [a4], by rw [a5], by rw [a3]⟩, Nat.le_of_eq a6.symm, by rw [a7]; omega, by rw [a8]; omega⟩
theorem Tu.refl : Tu t σ σ := (Tw.refl (G := [])).tu
theorem tt_ref {b : Nat} (h : TT σ t S) (hb : b < 8) (k : Tw [2509] t σ τ) (e : aI τ 2509 t = upd (aI σ 2509 t) b (aI σ 2509 t b + 1)) : TT τ t (rfu S b) := by
  refine ⟨⟨h.1.1.tw k (by decide), h.1.2.1.tw k (by decide), h.1.2.2.tw k (by decide)⟩, ⟨?_, h.2.1.2.1.tw k (by decide), h.2.1.2.2.1.tw k (by decide), h.2.1.2.2.2.tw k (by decide)⟩, h.2.2.1.tw k (by decide), h.2.2.2.tw k (by decide)⟩
  intro i hi
  rw [e]
  show _ = nI (up (S.2.1 0) b (S.2.1 0 b + 1) i)
  by_cases q : i = b
  · rw [q, upd_s, up_s, h.2.1.1 b hb, nI_succ]
  · rw [upd_n q, up_n q]; exact h.2.1.1 i hi
theorem t_no {Q : Int32 → wS → Prop} {a : Int32} (b : Nat) (hb : b < 8) (ha : a = -nI b) (h : TT σ t S) (hQ : ∀ τ, Tu t σ τ → TT τ t (rfu S b) → Q (noA S b).1 τ) : w_X24_no σ t a Q := by
  subst ha
  have e : - -nI b = nI b := Int32.neg_neg
  have c : (nI b).toNatClampNeg = b := nI_clamp (by omega)
  unfold w_X24_no
  rw [e, c]
  exact ⟨h.ok, vp_inN hb (by decide), bnd_sA fun τ w v _ _ => hQ τ w.tu (tt_ref h hb w v)⟩
theorem t_noTen {Q : Int32 → wS → Prop} {a : Int32} (b : Nat) (hb : b < 8) (ha : a = -nI b) (h : TT σ t S) (hQ : ∀ τ, Tu t σ τ → TT τ t (rfu S b) → Q (noI S b).1 τ) : w_X24_noTen σ t a Q := by
  subst ha
  have e : - -nI b = nI b := Int32.neg_neg
  have c : (nI b).toNatClampNeg = b := nI_clamp (by omega)
  unfold w_X24_noTen
  rw [e, c]
  exact ⟨h.ok, vp_inN hb (by decide), bnd_sA fun τ w v _ _ => hQ τ w.tu (tt_ref h hb w v)⟩
theorem t_isShelf {Q : Int32 → wS → Prop} {a : Int32} (h0 : num 8 a = none → Q 0 σ) (h1 : ∀ n, n < 8 → a = nI n → num 8 a = some n → Q 1 σ) : w_X24_isShelf σ t a Q := by
  unfold w_X24_isShelf
  rcases num_cs (N := 8) (by decide) a with ⟨n, hn, ha, e⟩ | ⟨e, h | ⟨h, h'⟩⟩
  · have := h1 n hn ha e
    rw [ha, if_neg (nI_pos (by omega)), if_neg (show ¬ (8 : Int32) ≤ nI n from nI_ge (b := 8) hn (by decide))]
    exact this
  · rw [if_pos h]; exact h0 e
  · rw [if_neg h, if_pos (show (8 : Int32) ≤ a from h')]; exact h0 e
theorem t_isFrom {Q : Int32 → wS → Prop} {a c : Int32} {N : Nat} (hN : N < 1000001) (hc : c = nI N) (h0 : num (N + 1) a = none → Q 0 σ) (h1 : ∀ n, n < N + 1 → a = nI n → num (N + 1) a = some n → Q 1 σ) : w_X24_isFrom σ t a 0 c Q := by
  unfold w_X24_isFrom
  subst hc
  rcases num_cs (N := N + 1) (by omega) a with ⟨n, hn, ha, e⟩ | ⟨e, h | ⟨h, h'⟩⟩
  · have := h1 n hn ha e
    rw [ha, if_neg (nI_pos (by omega)), if_neg (nI_nlt (by omega) (by omega))]
    exact this
  · rw [if_pos h]; exact h0 e
  · rw [if_neg h, if_pos (Int32.lt_of_lt_of_le (nI_lt (b := N + 1) (by omega) (by omega)) h')]; exact h0 e
theorem t_isGroup {Q : Int32 → wS → Prop} {a : Int32} (hT : TM σ t s) (hb : mG s < 1000) (h0 : num (mG s) a = none → Q 0 σ) (h1 : ∀ n, n < mG s → a = nI n → num (mG s) a = some n → Q 1 σ) : w_X24_isGroup σ t a Q := by
  unfold w_X24_isGroup
  rw [hT.1.2.2.2]
  rcases num_cs (N := mG s) (by omega) a with ⟨n, hn, ha, e⟩ | ⟨e, h | ⟨h, h'⟩⟩
  · have := h1 n hn ha e
    rw [ha, if_neg (nI_pos (by omega)), if_neg (nI_ge hn (by omega))]
    exact ⟨hT.1.1, this⟩
  · rw [if_pos h]; exact h0 e
  · rw [if_neg h, if_pos h']; exact ⟨hT.1.1, h0 e⟩
theorem t_isExpr {Q : Int32 → wS → Prop} {a : Int32} (hT : TM σ t s) (hb : mN s < 1000) (h0 : num (mN s) a = none → Q 0 σ) (h1 : ∀ n, n < mN s → a = nI n → num (mN s) a = some n → Q 1 σ) : w_X24_isExpression σ t a Q := by
  unfold w_X24_isExpression
  rw [hT.1.2.2.1]
  rcases num_cs (N := mN s) (by omega) a with ⟨n, hn, ha, e⟩ | ⟨e, h | ⟨h, h'⟩⟩
  · have := h1 n hn ha e
    rw [ha, if_neg (nI_pos (by omega)), if_neg (nI_ge hn (by omega))]
    exact ⟨hT.1.1, this⟩
  · rw [if_pos h]; exact h0 e
  · rw [if_neg h, if_pos h']; exact ⟨hT.1.1, h0 e⟩
/-- what holds of the shelves, the image, the plan -/
def AV (S : gS) : Prop := ∀ i, i < 8 → S.2.1 1 i < 3 ∧ S.2.1 2 i < 4 ∧ S.2.1 3 i ≤ 160 ∧ (S.2.1 1 i = 2 → S.2.1 4 i < mN S.1)
def MV (s : mS) : Prop := (Sh s ∧ Lo s ∧ No s) ∧ (Tb s ∧ Xo s ∧ Fb s) ∧ mN s ≤ 64
theorem nI_mul (a b : Nat) : nI a * nI b = nI (a * b) := (Int32.ofNat_mul a b).symm
theorem c_lt0 {a : Int32} (h : 0 ≤ a) : ¬ a < 0 := Int32.not_lt.mpr h
theorem c_le0 {a : Int32} (h : ¬ a < 0) : 0 ≤ a := Int32.not_lt.mp h
theorem c_nle {a : Int32} (h : a < 0) : ¬ 0 ≤ a := Int32.not_le.mpr h
theorem sub_lt {P n i : Nat} (hP : P < 1000) (hn : n < 2 ^ 31) (hi : i < 2 ^ 31) : nI P - nI n < nI i ↔ P < n + i := by
  rw [Int32.lt_iff_toInt_lt, Int32.toInt_sub, nI_toInt (show P < 2 ^ 31 by omega), nI_toInt hn, nI_toInt hi, Int.bmod_eq_of_le (by omega) (by omega)]
  omega
theorem t_isColA {Q : Int32 → wS → Prop} {C : Nat} {a : Int32} (hC : C < 2 ^ 31) (h0 : (∀ c, num 4 a = some c → C.testBit c = false) → Q 0 σ) (h1 : ∀ c, c < 4 → a = nI c → num 4 a = some c → C.testBit c = true → Q 1 σ) : w_X24_isColumn σ t (nI C) a Q := by
  rcases num_cs (N := 4) (by decide) a with ⟨n, hn, ha, e⟩ | ⟨e, h⟩
  · rw [ha]
    refine t_isColumn hC hn ?_
    by_cases q : C.testBit n = true
    · rw [if_pos q]; exact h1 n hn ha e q
    · rw [if_neg q]
      refine h0 (fun c hc => ?_)
      rw [e] at hc
      cases hc
      exact Bool.not_eq_true _ ▸ q
  · have hq := h0 (fun c hc => by rw [e] at hc; cases hc)
    unfold w_X24_isColumn
    rcases h with h | ⟨h, h'⟩
    · rw [if_pos h]; exact hq
    · rw [if_neg h, if_pos (show (4 : Int32) ≤ a from h')]; exact hq
end PT
