set_option linter.unusedVariables false
set_option maxRecDepth 10000
/-! ===== component: the memo; roots, alike ones, merging ===== -/
section PC
variable {σ τ υ : wS} {m F : Nat} {s : mS}
def tgK (k : Nat) : Nat := if k = 1 then 34 else if k = 3 then 36 else if k = 4 then 37 else if k = 5 then 38 else 39
/-- an expression's object -/
def XO (σ : wS) (o e k p : Nat) : Prop := oC σ o = tgK k ∧ oI σ 3300 o = nI e ∧ oI σ 3301 o = nI p
def TO (σ : wS) (o : Nat) (s : mS) (i : Nat) : Prop := oC σ o = 32 ∧ oI σ 3200 o = nI (s 11 i) ∧ oI σ 3201 o = nI (s 12 i) ∧ oI σ 3202 o = eI (s 13 i) ∧ oI σ 3203 o = nI (s 14 i)
def CE1 (σ : wS) (m : Nat) (s : mS) (e : Nat) : Prop := (∃ o, aR σ 102308 m e = some o ∧ XO σ o e (s 2 e) (s 3 e)) ∧ (s 2 e ≠ 1 → ∃ g, aI σ 2309 m e = nI g ∧ g < mG s ∧ R s g = R s (s 4 e)) ∧ (5 ≤ s 2 e → ∃ g, aI σ 2310 m e = nI g ∧ g < mG s ∧ R s g = R s (s 5 e)) ∧ aI σ 22311 m e = nI (s 8 e) ∧ aI σ 2315 m e = nI (s 6 e)
def CM (σ : wS) (m : Nat) (s : mS) : Prop := (ok22 σ m ∧ oI σ 2300 m = nI (s 10 0) ∧ oI σ 2301 m = nI (mN s) ∧ oI σ 2302 m = nI (mG s)) ∧ (∀ e, e < mN s → CE1 σ m s e) ∧ (∀ g, g < mG s → aI σ 2316 m g = nI (s 7 g) ∧ aI σ 2312 m g = nI (s 9 g)) ∧ (∀ i, i < s 10 0 → ∃ o, aR σ 92306 m i = some o ∧ TO σ o s i) ∧ (∀ i, i < 4 → aI σ 2307 m i = nI (s 15 i))
/-- rows that are counted -/
def CN (σ : wS) (m : Nat) (s : mS) : Prop := oI σ 2318 m = 0 ∨ (oI σ 2318 m = 1 ∧ ∀ g, g < mG s → R s g = g → aI σ 2317 m g = nI (rw' s g))
def CFd (σ : wS) (m : Nat) (s : mS) : Prop := (∀ e, e < mN s → ∀ r, r < 7 → ∃ n, n < 2 ^ 64 ∧ aJ σ 12313 m (e * 7 + r) = lN n ∧ (r = 0 → n = s 16 (wi e 0 64)) ∧ (r ≠ 0 → ∀ f, f < 64 → n.testBit f = decide (s 16 (wi e r f) = 1))) ∧ (∀ i, i < 7 → aI σ 2314 m i = nI (s 17 i)) ∧ oI σ 2303 m = nI (s 18 0) ∧ oI σ 2304 m = nI (s 19 0 &&& 3958) ∧ oI σ 2305 m = nI (s 20 0)
theorem Tw.ok22 {G : List Nat} (h : Tw G m σ τ) (k : ok22 σ m) : ok22 τ m := ok22.ext k h.ext
theorem Tw.any {G : List Nat} (h : Tw G m σ τ) {g o : Nat} (hg : g ∉ G) : oI τ g o = oI σ g o := (h.2 g o (fun _ => hg)).1
theorem XO.tw {G : List Nat} {o e k p : Nat} (h : XO σ o e k p) (w : Tw G m σ τ) (d : ∀ g ∈ [3300, 3301], g ∉ G) : XO τ o e k p := by
  unfold XO
  rw [w.1.1, w.any (d 3300 (by decide)), w.any (d 3301 (by decide))]
  exact h
theorem TO.tw {G : List Nat} {o i : Nat} (h : TO σ o s i) (w : Tw G m σ τ) (d : ∀ g ∈ [3200, 3201, 3202, 3203], g ∉ G) : TO τ o s i := by
  unfold TO
  rw [w.1.1, w.any (d 3200 (by decide)), w.any (d 3201 (by decide)), w.any (d 3202 (by decide)), w.any (d 3203 (by decide))]
  exact h
abbrev GMc : List Nat := [3300, 3301, 3200, 3201, 3202, 3203, 2300, 2301, 2302, 2309, 2310, 22311, 2315, 2316, 2312, 2307]
theorem CE1.tw {G : List Nat} {e : Nat} (h : CE1 σ m s e) (w : Tw G m σ τ) (d : ∀ g ∈ [3300, 3301, 2309, 2310, 22311, 2315], g ∉ G) : CE1 τ m s e := by
  obtain ⟨⟨o, h1, h2⟩, h3, h4, h5, h6⟩ := h
  refine ⟨⟨o, by rw [w.1.2.2.1]; exact h1, h2.tw w (fun g hg => d g (by revert g; decide))⟩, ?_, ?_, ?_, ?_⟩
  · rw [w.A (d 2309 (by decide))]; exact h3
  · rw [w.A (d 2310 (by decide))]; exact h4
  · rw [w.A (d 22311 (by decide))]; exact h5
  · rw [w.A (d 2315 (by decide))]; exact h6
theorem CM.tw {G : List Nat} (h : CM σ m s) (w : Tw G m σ τ) (d : ∀ g ∈ GMc, g ∉ G) : CM τ m s := by
  obtain ⟨⟨a1, a2, a3, a4⟩, b, c, e, f⟩ := h
  refine ⟨⟨w.ok22 a1, ?_, ?_, ?_⟩, fun x hx => (b x hx).tw w (fun g hg => d g (by revert g; decide)), fun g hg => ?_, fun i hi => ?_, fun i hi => ?_⟩
  · rw [w.I (d _ (by decide))]; exact a2
  · rw [w.I (d _ (by decide))]; exact a3
  · rw [w.I (d _ (by decide))]; exact a4
  · rw [w.A (d 2316 (by decide)), w.A (d 2312 (by decide))]; exact c g hg
  · obtain ⟨o, h1, h2⟩ := e i hi
    exact ⟨o, by rw [w.1.2.2.1]; exact h1, h2.tw w (fun g hg => d g (by revert g; decide))⟩
  · rw [w.A (d 2307 (by decide))]; exact f i hi
theorem CFd.tw {G : List Nat} (h : CFd σ m s) (w : Tw G m σ τ) (d : ∀ g ∈ [12313, 2314, 2303, 2304, 2305], g ∉ G) : CFd τ m s := by
  obtain ⟨a, b, c, e, f⟩ := h
  refine ⟨?_, ?_, ?_, ?_, ?_⟩
  · rw [w.AJ (d _ (by decide))]; exact a
  · rw [w.A (d _ (by decide))]; exact b
  · rw [w.I (d _ (by decide))]; exact c
  · rw [w.I (d _ (by decide))]; exact e
  · rw [w.I (d _ (by decide))]; exact f
theorem CN.tw {G : List Nat} (h : CN σ m s) (w : Tw G m σ τ) (d : ∀ g ∈ [2317, 2318], g ∉ G) : CN τ m s := by
  unfold CN
  rw [w.I (d 2318 (by decide)), w.A (d 2317 (by decide))]; exact h
theorem c_find {Q : Int32 → wS → Prop} {g : Nat} (hC : CM σ m s) (hs : Sh s) (hN : mN s ≤ 64) (hg : g < mG s) (hF : 150 ≤ F) (hQ : Q (nI (R s g)) σ) : w_X22_find F σ m (nI g) Q := by
  have hb2 := hs.2.1
  have key : ∀ n g, g < mG s → g < n → Q (nI (R s g)) σ → l_X22_find_2 F m Q n σ (nI g) := by
    intro n
    induction n with
    | zero => intro g _ h; omega
    | succ n ih =>
      intro g hg hn hQ
      refine ⟨hC.1.1, vp_in_nI (by omega) (by decide), ?_⟩
      have hd := sh_dn hs g hg
      rw [nI_clamp (by omega), (hC.2.2.1 g hg).1]
      by_cases e : s 7 g = g
      · rw [if_pos (by rw [e])]
        rw [show R s g = g from rt_self e] at hQ
        exact hQ
      · rw [if_neg (fun z => e ((nI_eq (by omega) (by omega)).mp z)), bnd_eq]
        rw [show R s g = R s (s 7 g) from rt_step (sh_dn hs) hg e] at hQ
        exact ih (s 7 g) (by omega) (by omega) hQ
  exact key F g hg (by omega) hQ
theorem c_home {Q : Int32 → wS → Prop} {e : Nat} (hC : CM σ m s) (hs : Sh s) (hN : mN s ≤ 64) (he : e < mN s) (hF : 150 ≤ F) (hQ : Q (nI (R s (s 6 e))) σ) : w_X22_home F σ m (nI e) Q := by
  unfold w_X22_home
  rw [nI_clamp (by omega), (hC.2.1 e he).2.2.2.2]
  exact ⟨hC.1.1, vp_inN (by omega) (by decide), c_find hC hs hN (sx_6 hs he) hF hQ⟩
theorem c_isGroup {Q : Int32 → wS → Prop} {a : Int32} (hC : CM σ m s) (hb : mG s < 1000) (h0 : num (mG s) a = none → Q 0 σ) (h1 : ∀ n, n < mG s → a = nI n → num (mG s) a = some n → Q 1 σ) : w_X22_isGroup σ m a Q := by
  unfold w_X22_isGroup
  rw [hC.1.2.2.2]
  rcases num_cs (N := mG s) (by omega) a with ⟨n, hn, ha, e⟩ | ⟨e, h | ⟨h, h'⟩⟩
  · have := h1 n hn ha e
    rw [ha, if_neg (nI_pos (by omega)), if_neg (nI_ge hn (by omega))]
    exact ⟨hC.1.1, this⟩
  · rw [if_pos h]; exact h0 e
  · rw [if_neg h, if_pos h']; exact ⟨hC.1.1, h0 e⟩
theorem c_isExpr {Q : Int32 → wS → Prop} {a : Int32} (hC : CM σ m s) (hb : mN s < 1000) (h0 : num (mN s) a = none → Q 0 σ) (h1 : ∀ n, n < mN s → a = nI n → num (mN s) a = some n → Q 1 σ) : w_X22_isExpression σ m a Q := by
  unfold w_X22_isExpression
  rw [hC.1.2.2.1]
  rcases num_cs (N := mN s) (by omega) a with ⟨n, hn, ha, e⟩ | ⟨e, h | ⟨h, h'⟩⟩
  · have := h1 n hn ha e
    rw [ha, if_neg (nI_pos (by omega)), if_neg (nI_ge hn (by omega))]
    exact ⟨hC.1.1, this⟩
  · rw [if_pos h]; exact h0 e
  · rw [if_neg h, if_pos h']; exact ⟨hC.1.1, h0 e⟩
theorem kd5 {k : Nat} (hk : k = 1 ∨ k = 3 ∨ k = 4 ∨ k = 5 ∨ k = 6) : tgK k = 34 ∧ k = 1 ∨ tgK k = 36 ∧ k = 3 ∨ tgK k = 37 ∧ k = 4 ∨ tgK k = 38 ∧ k = 5 ∨ tgK k = 39 ∧ k = 6 := by
  rcases hk with rfl | rfl | rfl | rfl | rfl
  · exact Or.inl ⟨rfl, rfl⟩
  · exact Or.inr (Or.inl ⟨rfl, rfl⟩)
  · exact Or.inr (Or.inr (Or.inl ⟨rfl, rfl⟩))
  · exact Or.inr (Or.inr (Or.inr (Or.inl ⟨rfl, rfl⟩)))
  · exact Or.inr (Or.inr (Or.inr (Or.inr ⟨rfl, rfl⟩)))
theorem v_kind {Q : Int32 → wS → Prop} {o e k p : Nat} (h : XO σ o e k p) (hk : k = 1 ∨ k = 3 ∨ k = 4 ∨ k = 5 ∨ k = 6) (hQ : Q (nI k) σ) : v_X32v_kind σ o Q := by
  unfold v_X32v_kind
  rw [h.1]
  rcases hk with rfl | rfl | rfl | rfl | rfl
  · exact hQ
  · exact hQ
  · exact hQ
  · exact hQ
  · exact hQ
def inp (k : Nat) : Nat := if k = 1 then 0 else if k < 5 then 1 else 2
theorem v_inputs {Q : Int32 → wS → Prop} {o e k p : Nat} (h : XO σ o e k p) (hk : k = 1 ∨ k = 3 ∨ k = 4 ∨ k = 5 ∨ k = 6) (hQ : Q (nI (inp k)) σ) : v_X32v_inputs σ o Q := by
  unfold v_X32v_inputs
  rw [h.1]
  rcases hk with rfl | rfl | rfl | rfl | rfl
  · exact hQ
  · exact hQ
  · exact hQ
  · exact hQ
  · exact hQ
theorem XO.oS {o e k p : Nat} (h : XO σ o e k p) (hk : k = 1 ∨ k = 3 ∨ k = 4 ∨ k = 5 ∨ k = 6) : oS32 σ o := by
  unfold oS32
  rw [h.1]
  rcases hk with rfl | rfl | rfl | rfl | rfl <;> decide
theorem c_isAlike {Q : Int32 → wS → Prop} {k p x y e : Nat} {X Y : Int32} (hC : CM σ m s) (hs : Sh s) (hN : mN s ≤ 64) (he : e < mN s) (hk : k < 7) (hp : p < 100) (hx : Im (k ≠ 1) (∃ g, X = nI g ∧ g < mG s ∧ R s g = R s x)) (hy : Im (5 ≤ k) (∃ g, Y = nI g ∧ g < mG s ∧ R s g = R s y)) (hF : 200 ≤ F) (hQ : Q (if alk s k p x y e = true then 1 else 0) σ) : w_X22_isAlike F σ m (nI e) (nI k) (nI p) X Y Q := by
  have hb2 := hs.2.1
  have c2 := sx_2 hs he
  obtain ⟨⟨o, a1, a2⟩, a3, a4, a5, a6⟩ := hC.2.1 e he
  obtain ⟨d2, d3, d6, d8⟩ := sh_bnd hs he
  have ve := vp_inN (show e < 64 by omega) (by decide)
  have ce : (nI e).toNatClampNeg = e := nI_clamp (by omega)
  have no : alk s k p x y e = false → Q 0 σ := fun z => by rw [z, if_neg (by decide)] at hQ; exact hQ
  have yes : alk s k p x y e = true → Q 1 σ := fun z => by rw [z, if_pos rfl] at hQ; exact hQ
  unfold w_X22_isAlike
  rw [ce, a1, a5]
  refine ⟨hC.1.1, ve, fun v hv => ?_⟩
  subst hv
  by_cases c8 : s 8 e = 0
  · rw [if_pos ((nI_n0 (by omega)).mpr c8)]
    refine ⟨o, rfl, v_kind a2 c2 ?_⟩
    by_cases ck : s 2 e = k
    · rw [if_pos (by rw [ck]), a2.2.2]
      refine ⟨a2.oS c2, ?_⟩
      by_cases c3 : s 3 e = p
      · rw [if_pos (by rw [c3])]
        refine v_inputs a2 c2 ?_
        have blk : (k = 1 ∨ R s (s 4 e) = R s x) → b_X22_isAlike_63 F m (nI e) Y Q σ (some o) := fun hk4 => by
          unfold b_X22_isAlike_63
          refine ⟨o, rfl, v_inputs a2 c2 ?_⟩
          by_cases k5 : 5 ≤ s 2 e
          · have i2 : inp (s 2 e) = 2 := by unfold inp; rw [if_neg (by omega), if_neg (by omega)]
            obtain ⟨g, b1, b2, b3⟩ := a4 k5
            obtain ⟨g', y1, y2, y3⟩ := hy (by omega)
            rw [i2, if_neg (by decide), ce, b1, y1]
            refine ⟨hC.1.1, ve, c_find hC hs hN b2 (by omega) (c_find hC hs hN y2 (by omega) ?_)⟩
            have q1 := sh_lt hs b2
            have q2 := sh_lt hs y2
            rw [b3] at q1
            rw [y3] at q2
            rw [b3, y3]
            by_cases cR : R s (s 5 e) = R s y
            · rw [if_pos (by rw [cR])]
              exact yes (alk_iff.mpr ⟨c8, ck, c3, hk4, Or.inr cR⟩)
            · rw [if_neg (nI_eqf (by omega) (by omega) cR)]
              exact no (Bool.eq_false_iff.mpr (fun z => cR ((alk_iff.mp z).2.2.2.2.resolve_left (by omega))))
          · have i2 : nI (inp (s 2 e)) < (2 : Int32) := by
              refine nI_lt (b := 2) ?_ (by decide)
              unfold inp
              split
              · decide
              · rw [if_pos (by omega)]; decide
            rw [if_pos i2]
            exact yes (alk_iff.mpr ⟨c8, ck, c3, hk4, Or.inl (by omega)⟩)
        by_cases k1 : s 2 e = 1
        · have i2 : inp (s 2 e) = 0 := by unfold inp; rw [if_pos k1]
          rw [i2, if_pos (by decide)]
          exact blk (Or.inl (by omega))
        · have i2 : ¬ nI (inp (s 2 e)) < (1 : Int32) := by
            refine nI_nlt (b := 1) ?_ ?_
            · unfold inp
              rw [if_neg k1]
              split <;> decide
            · unfold inp
              rw [if_neg k1]
              split <;> decide
          obtain ⟨g, b1, b2, b3⟩ := a3 k1
          obtain ⟨g', x1, x2, x3⟩ := hx (by omega)
          rw [if_neg i2, b1, x1]
          refine c_find hC hs hN b2 (by omega) (c_find hC hs hN x2 (by omega) ?_)
          have q1 := sh_lt hs b2
          have q2 := sh_lt hs x2
          rw [b3] at q1
          rw [x3] at q2
          rw [b3, x3]
          by_cases cR : R s (s 4 e) = R s x
          · rw [if_pos (by rw [cR])]
            exact blk (Or.inr cR)
          · rw [if_neg (nI_eqf (by omega) (by omega) cR)]
            exact no (Bool.eq_false_iff.mpr (fun z => cR ((alk_iff.mp z).2.2.2.1.resolve_left (by omega))))
      · rw [if_neg (nI_eqf (by omega) (by omega) c3)]
        exact no (Bool.eq_false_iff.mpr (fun z => c3 (alk_iff.mp z).2.2.1))
    · rw [if_neg (nI_eqf (by omega) (by omega) ck)]
      exact no (Bool.eq_false_iff.mpr (fun z => ck (alk_iff.mp z).2.1))
  · rw [if_neg (fun z => c8 ((nI_n0 (by omega)).mp z))]
    exact no (Bool.eq_false_iff.mpr (fun z => c8 (alk_iff.mp z).1))
theorem c_alike {Q : Int32 → wS → Prop} {k p x y : Nat} {X Y : Int32} (hC : CM σ m s) (hs : Sh s) (hN : mN s ≤ 64) (hk : k < 7) (hp : p < 100) (hx : Im (k ≠ 1) (∃ g, X = nI g ∧ g < mG s ∧ R s g = R s x)) (hy : Im (5 ≤ k) (∃ g, Y = nI g ∧ g < mG s ∧ R s g = R s y)) (hF : 200 ≤ F) (hQ : Q (oN (lik s k p x y)) σ) : w_X22_alike F σ m (nI k) (nI p) X Y Q := by
  have key : ∀ n i, i ≤ mN s → mN s - i < n → Q (oN (fnd (alk s k p x y) (mN s - i) i)) σ → l_X22_alike_3 F m (nI k) (nI p) X Y Q n σ (nI i) := by
    intro n
    induction n with
    | zero => intro i _ h; omega
    | succ n ih =>
      intro i hi hn hQ
      refine ⟨hC.1.1, ?_⟩
      rw [hC.1.2.2.1]
      by_cases c : mN s ≤ i
      · rw [if_pos (nI_le c (by omega))]
        rw [show mN s - i = 0 by omega] at hQ
        exact hQ
      · rw [if_neg (nI_ge (by omega) (by omega))]
        refine c_isAlike hC hs hN (by omega) hk hp hx hy hF ?_
        rw [show mN s - i = (mN s - (i + 1)) + 1 by omega] at hQ
        unfold fnd at hQ
        cases h : alk s k p x y i with
        | true =>
          rw [h, if_pos rfl] at hQ
          rw [if_pos rfl, if_neg (by decide)]
          exact hQ
        | false =>
          rw [h, if_neg (by decide)] at hQ
          rw [if_neg (show ¬ false = true by decide), if_pos rfl, ← nI_succ]
          exact ih (i + 1) (by omega) (by omega) hQ
  have h0 := key F 0 (Nat.zero_le _) (by omega) (by rw [Nat.sub_zero]; exact hQ)
  exact h0
/-! members, as bits -/
def mbs (s : mS) (g : Nat) : Nat → Nat
  | 0 => 0
  | e + 1 => if s 8 e = 0 ∧ R s (s 6 e) = g then mbs s g e + 2 ^ e else mbs s g e
theorem mbs_lt {g : Nat} : ∀ e, mbs s g e < 2 ^ e := by
  intro e
  induction e with
  | zero => exact Nat.one_pos
  | succ e ih =>
    unfold mbs
    rw [Nat.pow_succ]
    split <;> omega
theorem mbs_bit {g : Nat} : ∀ e f, (mbs s g e).testBit f = (decide (f < e) && (decide (s 8 f = 0) && decide (R s (s 6 f) = g))) := by
  intro e
  induction e with
  | zero => intro f; simp [mbs]
  | succ e ih =>
    intro f
    unfold mbs
    have hl := mbs_lt (s := s) (g := g) e
    by_cases q : s 8 e = 0 ∧ R s (s 6 e) = g
    · rw [if_pos q, Nat.add_comm]
      by_cases z : f = e
      · subst z
        rw [Nat.testBit_two_pow_add_eq, Nat.testBit_lt_two_pow hl]
        simp [q.1, q.2]
      · rcases Nat.lt_or_ge f e with y | y
        · rw [Nat.testBit_two_pow_add_gt y, ih f]
          simp [y, show f < e + 1 by omega]
        · have : 2 ^ e + mbs s g e < 2 ^ f := by
            have : 2 ^ (e + 1) ≤ 2 ^ f := Nat.pow_le_pow_right (by decide) (by omega)
            rw [Nat.pow_succ] at this
            omega
          rw [Nat.testBit_lt_two_pow this]
          simp [show ¬ f < e + 1 by omega]
    · rw [if_neg q, ih f]
      by_cases z : f = e
      · subst z
        have : ¬ (s 8 f = 0) ∨ ¬ R s (s 6 f) = g := by
          by_cases a : s 8 f = 0
          · exact Or.inr (fun b => q ⟨a, b⟩)
          · exact Or.inl a
        rcases this with a | a <;> simp [a]
      · have : decide (f < e) = decide (f < e + 1) := by
          by_cases y : f < e
          · simp [y, show f < e + 1 by omega]
          · simp [y, show ¬ f < e + 1 by omega]
        rw [this]
end PC
