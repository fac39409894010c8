set_option linter.unusedVariables false
set_option maxRecDepth 10000
/-! ===== component: the next firing ===== -/
section PC
variable {σ τ υ σ0 : wS} {x m F : Nat} {s : mS} {S : gS} {K K' : Nat → Nat} {P P' : Nat → Nat → Prop} {a b c d r : Nat}
abbrev GFi : List Nat := [303, 304, 305, 306, 400, 401, 402, 403]
def PFi (K : Nat → Nat) (g o : Nat) : Prop := g ∈ GFi ∧ (o = K 2 ∨ o = K 4 ∨ o = K 5)
theorem ck_fi (h : CK σ x K S) (hA : AV S) (f : Fr (PFi K) a b σ τ) : CK τ x K S := by
  have no : ∀ g, g ∉ GFi → ∀ o, ¬ PFi K g o := fun g hg o z => hg z.1
  exact h.fr hA f (fun g hg _ _ o => no g (by revert g; decide) o) ⟨no _ (by decide) _, no _ (by decide) _⟩
theorem pfi_P (h : CK σ x K S) : ∀ g o, PFi K g o → oC σ o ≠ 25 := fun g o z => by
  obtain ⟨b1, b2, b3, b4, b5, b6, b7⟩ := h.1.1.2.1
  rcases z.2 with e | e | e
  · rw [e, show oC σ (K 2) = 3 from b2.1]; decide
  · rw [e, show oC σ (K 4) = 4 from b4]; decide
  · rw [e, show oC σ (K 5) = 4 from b5]; decide
theorem Fr.fw {g : Nat} (h : Fr (PFi K) a b σ0 σ) (k : Wq [g] (K 2) σ τ) (hg : g ∈ GFi) : Fr (PFi K) a b σ0 τ := h.w k (Or.inr (fun g' hg' => ⟨by rw [List.mem_singleton.mp hg']; exact hg, Or.inl rfl⟩))
/-- what the rule asks of the first -/
def bgr (k r : Nat) : Bool := if r < 2 then decide (k = 5) else if r < 4 then decide (k = 3) else if r = 4 then decide (k = 3) || decide (k = 4) else if r = 5 then decide (k = 4) else decide (k = 6)
theorem fit_bg {e r f : Nat} (h1 : 1 ≤ r) (h7 : r < 7) (h : bgr (s 2 e) r = false) : fit s e r f = false := by
  unfold bgr at h
  unfold fit
  rcases (show r = 1 ∨ r = 2 ∨ r = 3 ∨ r = 4 ∨ r = 5 ∨ r = 6 by omega) with rfl | rfl | rfl | rfl | rfl | rfl <;> simp at h <;> simp [h]
theorem sec_bg {e r : Nat} (h7 : r < 7) (h : bgr (s 2 e) r = false) : sec s e r = none := by
  unfold sec
  by_cases r0 : r = 0
  · subst r0
    have : ¬ s 2 e = 5 := by unfold bgr at h; simpa using h
    rw [if_pos rfl, if_neg (fun z => this z.1)]
  · rw [if_neg r0]
    by_cases k1 : s 2 e = 1
    · rw [if_pos k1]
    · rw [if_neg k1]
      exact fnd_no _ _ (fun j _ _ => by unfold can; rw [fit_bg (by omega) h7 h]; simp)
theorem c_begins {Q : Int32 → wS → Prop} {o k r : Nat} (hr : r < 7) (ho : oC σ o = 5 + r) (hk : k = 1 ∨ k = 3 ∨ k = 4 ∨ k = 5 ∨ k = 6) (hQ : Q (if bgr k r = true then 1 else 0) σ) : v_X50v_begins σ o (nI k) Q := by
  unfold v_X50v_begins
  rw [ho]
  rcases (show r = 0 ∨ r = 1 ∨ r = 2 ∨ r = 3 ∨ r = 4 ∨ r = 5 ∨ r = 6 by omega) with rfl | rfl | rfl | rfl | rfl | rfl | rfl <;> rcases hk with rfl | rfl | rfl | rfl | rfl <;> exact hQ
theorem c_alone {Q : Int32 → wS → Prop} {o r : Nat} (hr : r < 7) (ho : oC σ o = 5 + r) (hQ : Q (if r = 0 then 1 else 0) σ) : v_X50v_alone σ o Q := by
  unfold v_X50v_alone
  rw [ho]
  rcases (show r = 0 ∨ r = 1 ∨ r = 2 ∨ r = 3 ∨ r = 4 ∨ r = 5 ∨ r = 6 by omega) with rfl | rfl | rfl | rfl | rfl | rfl | rfl <;> exact hQ
theorem c_fits {Q : Int32 → wS → Prop} {o oe of e r f : Nat} (hC : CM σ m s) (hs : Sh s) (l : Lo s) (hN : mN s ≤ 64) (he : e < mN s) (hf : f < mN s) (h1 : 1 ≤ r) (h7 : r < 7) (ho : oC σ o = 5 + r) (hb : bgr (s 2 e) r = true) (xe : XO σ oe e (s 2 e) (s 3 e)) (xf : XO σ of f (s 2 f) (s 3 f)) (hF : 1000 ≤ F) (hQ : Q (if fit s e r f = true then 1 else 0) σ) : v_X50v_fits F σ o (some m) (some oe) (some of) Q := by
  have hG := hs.2.1
  have ke := sx_2 hs he
  have kf := sx_2 hs hf
  have De := sh_bnd hs he
  have Df := sh_bnd hs hf
  have d2 := De.1
  have d3 := De.2.1
  have g2 := Df.1
  have g3 := Df.2.1
  have h16 := l.2.2.2
  obtain ⟨-, a3, a4, a5, a6⟩ := hC.2.1 f hf
  have oe2 := xe.oS ke
  have of2 := xf.oS kf
  have vf := vp_inN (show f < 64 by omega) (by decide)
  have cf : (nI f).toNatClampNeg = f := nI_clamp (by omega)
  have ne : ∀ a b : Nat, a < 8 → b < 8 → a ≠ b → ¬ nI a = nI b := fun a b h1 h2 h3 => nI_eqf (by omega) (by omega) h3
  unfold bgr at hb
  unfold v_X50v_fits
  rw [ho]
  rcases (show r = 1 ∨ r = 2 ∨ r = 3 ∨ r = 4 ∨ r = 5 ∨ r = 6 by omega) with rfl | rfl | rfl | rfl | rfl | rfl
  · have k5 : s 2 e = 5 := by simpa using hb
    have hQ : Q (if (decide (s 2 e = 5) && (decide (s 2 f = 5) && (s 9 (R s (s 5 f))).testBit (s 3 e))) = true then 1 else 0) σ := hQ
    refine vI (by decide) (vT ⟨of, rfl, v_kind xf kf ?_⟩)
    by_cases q2 : s 2 f = 5
    · rw [if_pos (by rw [q2]; rfl)]
      obtain ⟨g, b1, b2, b3⟩ := a4 (by omega)
      have r5 := sh_lt hs (sx_5 hs hf (by omega))
      have := h16 _ (sx_5 hs hf (by omega))
      have p4 := sx_p4 hs he (by omega)
      refine ⟨m, rfl, hC.1.1, of2, ?_⟩
      rw [xf.2.1, cf, b1]
      refine ⟨vf, c_find hC hs hN b2 (by omega) ⟨by rw [b3]; exact vp_inN (by omega) (by decide), oe, rfl, oe2, ?_⟩⟩
      rw [b3, nI_clamp (by omega), (hC.2.2.1 _ r5).2, xe.2.2]
      refine c_has (by omega) (by omega) (b01 ?_)
      simp only [k5, q2, decide_true, Bool.true_and] at hQ
      exact hQ
    · rw [if_neg (show ¬ nI (s 2 f) = (5 : Int32) from ne _ 5 (by omega) (by decide) q2)]
      simp only [q2, decide_false, Bool.false_and, Bool.and_false] at hQ
      exact hQ
  · have k3 : s 2 e = 3 := by simpa using hb
    have hQ : Q (if (decide (s 2 e = 3) && (decide (5 ≤ s 2 f) && (s 9 (R s (s 4 f))).testBit (s 3 e / 2))) = true then 1 else 0) σ := hQ
    refine vI (by decide) (vI (by decide) (vT ⟨of, rfl, v_inputs xf kf ?_⟩))
    by_cases q2 : 5 ≤ s 2 f
    · have i2 : inp (s 2 f) = 2 := by unfold inp; rw [if_neg (by omega), if_neg (by omega)]
      rw [i2, if_pos (show nI 2 = (2 : Int32) from rfl)]
      obtain ⟨g, b1, b2, b3⟩ := a3 (by omega)
      have r4 := sh_lt hs (sx_4 hs hf (by omega))
      have := h16 _ (sx_4 hs hf (by omega))
      refine ⟨m, rfl, hC.1.1, of2, ?_⟩
      rw [xf.2.1, cf, b1]
      refine ⟨vf, c_find hC hs hN b2 (by omega) ⟨by rw [b3]; exact vp_inN (by omega) (by decide), oe, rfl, oe2, ?_⟩⟩
      rw [b3, nI_clamp (by omega), (hC.2.2.1 _ r4).2, xe.2.2, div2_d _ d3]
      refine c_has (by omega) (by omega) (b01 ?_)
      simp only [k3, q2, decide_true, Bool.true_and] at hQ
      exact hQ
    · have i2 : ¬ nI (inp (s 2 f)) = (2 : Int32) := by
        have : inp (s 2 f) < 2 := by unfold inp; split; decide; rw [if_pos (by omega)]; decide
        exact nI_eqf (b := 2) (by omega) (by decide) (by omega)
      rw [if_neg i2]
      simp only [q2, decide_false, Bool.false_and, Bool.and_false] at hQ
      exact hQ
  · have k3 : s 2 e = 3 := by simpa using hb
    have hQ : Q (if (decide (s 2 e = 3) && (decide (s 2 f = 3) && decide (s 3 e ≠ s 3 f))) = true then 1 else 0) σ := hQ
    refine vI (by decide) (vI (by decide) (vI (by decide) (vT ⟨of, rfl, v_kind xf kf ?_⟩)))
    by_cases q2 : s 2 f = 3
    · rw [if_pos (by rw [q2]; rfl)]
      refine ⟨of2, oe, rfl, oe2, ?_⟩
      rw [xe.2.2, xf.2.2]
      by_cases z : s 3 f = s 3 e
      · rw [if_pos (by rw [z])]
        simp only [k3, q2, z, ne_eq, not_true, decide_true, decide_false, Bool.true_and] at hQ
        exact hQ
      · rw [if_neg (ne _ _ g3 d3 z)]
        simp only [k3, q2, decide_true, Bool.true_and, decide_eq_true (show s 3 e ≠ s 3 f from fun y => z y.symm)] at hQ
        exact hQ
    · rw [if_neg (show ¬ nI (s 2 f) = (3 : Int32) from ne _ 3 (by omega) (by decide) q2)]
      simp only [q2, decide_false, Bool.false_and, Bool.and_false] at hQ
      exact hQ
  · have k34 : s 2 e = 3 ∨ s 2 e = 4 := by simpa using hb
    have hQ : Q (if (decide (s 2 e = s 2 f) && (decide (s 2 e = 3 ∨ s 2 e = 4) && decide (s 3 e = s 3 f))) = true then 1 else 0) σ := hQ
    refine vI (by decide) (vI (by decide) (vI (by decide) (vI (by decide) (vT ⟨of, rfl, v_kind xf kf ⟨oe, rfl, v_kind xe ke ?_⟩⟩))))
    by_cases q2 : s 2 f = s 2 e
    · rw [if_pos (by rw [q2])]
      refine ⟨of2, oe2, ?_⟩
      rw [xe.2.2, xf.2.2]
      by_cases z : s 3 f = s 3 e
      · rw [if_pos (by rw [z])]
        rw [if_pos (by simp [q2, z, k34])] at hQ
        exact hQ
      · rw [if_neg (ne _ _ g3 d3 z)]
        rw [if_neg (by simp; intro _ _ y; exact z y.symm)] at hQ
        exact hQ
    · rw [if_neg (ne _ _ (by omega) (by omega) q2)]
      rw [if_neg (by simp; intro y; exact absurd y.symm q2)] at hQ
      exact hQ
  · have k4 : s 2 e = 4 := by simpa using hb
    have hQ : Q (if (decide (s 2 e = 4) && (decide (s 2 f = 3) && decide (s 3 f / 2 = s 3 e))) = true then 1 else 0) σ := hQ
    refine vI (by decide) (vI (by decide) (vI (by decide) (vI (by decide) (vI (by decide) (vT ⟨of, rfl, v_kind xf kf ?_⟩)))))
    by_cases q2 : s 2 f = 3
    · rw [if_pos (by rw [q2]; rfl)]
      refine ⟨of2, oe, rfl, oe2, ?_⟩
      rw [xe.2.2, xf.2.2, div2_d _ g3]
      by_cases z : s 3 f / 2 = s 3 e
      · rw [if_pos (by rw [z])]
        rw [if_pos (by simp [k4, q2, z])] at hQ
        exact hQ
      · rw [if_neg (ne _ _ (by omega) d3 z)]
        rw [if_neg (by simp [z])] at hQ
        exact hQ
    · rw [if_neg (show ¬ nI (s 2 f) = (3 : Int32) from ne _ 3 (by omega) (by decide) q2)]
      simp only [q2, decide_false, Bool.false_and, Bool.and_false] at hQ
      exact hQ
  · have k6 : s 2 e = 6 := by simpa using hb
    have hQ : Q (if (decide (s 2 e = 6) && decide (s 2 f = 6)) = true then 1 else 0) σ := hQ
    refine vI (by decide) (vI (by decide) (vI (by decide) (vI (by decide) (vI (by decide) (vI (by decide) (vT ⟨of, rfl, v_kind xf kf ?_⟩))))))
    by_cases q2 : s 2 f = 6
    · rw [if_pos (by rw [q2]; rfl)]
      rw [if_pos (by simp [k6, q2])] at hQ
      exact hQ
    · rw [if_neg (show ¬ nI (s 2 f) = (6 : Int32) from ne _ 6 (by omega) (by decide) q2)]
      rw [if_neg (by simp [q2])] at hQ
      exact hQ
/-! the lowest bit -/
theorem low_ex {w : Nat} (h0 : w ≠ 0) (hw : w < 2 ^ 64) : ∃ i, i < 64 ∧ w.testBit i = true ∧ ∀ j, j < i → w.testBit j = false := by
  cases h : fnd w.testBit 64 0 with
  | some i =>
    obtain ⟨-, h2, h3, h4⟩ := fnd_some _ _ h
    exact ⟨i, by omega, h3, fun j hj => h4 j (Nat.zero_le _) hj⟩
  | none =>
    exfalso
    apply h0
    apply Nat.eq_of_testBit_eq
    intro j
    rw [Nat.zero_testBit]
    by_cases q : j < 64
    · exact fnd_none _ _ h j (Nat.zero_le _) (by omega)
    · exact Nat.testBit_lt_two_pow (Nat.lt_of_lt_of_le hw (Nat.pow_le_pow_right (by decide) (by omega)))
theorem low_cl {w i : Nat} (h1 : w.testBit i = true) (h0 : ∀ j, j < i → w.testBit j = false) (j : Nat) : (w &&& (w - 1)).testBit j = (w.testBit j && decide (j ≠ i)) := by
  have hm := low_mod h1 h0
  have hp : 0 < 2 ^ i := Nat.pow_pos (by decide)
  have hlt : 2 ^ i < 2 ^ (i + 1) := Nat.pow_lt_pow_right (by decide) (by omega)
  have e : 2 ^ (i + 1) * (w / 2 ^ (i + 1)) + 2 ^ i = w := by rw [← hm]; exact Nat.div_add_mod _ _
  have e1 : w - 1 = 2 ^ (i + 1) * (w / 2 ^ (i + 1)) + (2 ^ i - 1) := by omega
  rw [Nat.testBit_and]
  rcases Nat.lt_trichotomy j i with q | q | q
  · rw [h0 j q]; rfl
  · subst q
    rw [e1, Nat.testBit_two_pow_mul_add _ (by omega), if_pos (by omega), Nat.testBit_lt_two_pow (show 2 ^ j - 1 < 2 ^ j by omega)]
    simp
  · have e2 : w.testBit j = (w / 2 ^ (i + 1)).testBit (j - (i + 1)) := by
      conv => lhs; rw [← e]
      rw [Nat.testBit_two_pow_mul_add _ hlt, if_neg (by omega)]
    have e3 : (w - 1).testBit j = (w / 2 ^ (i + 1)).testBit (j - (i + 1)) := by
      rw [e1, Nat.testBit_two_pow_mul_add _ (by omega), if_neg (by omega)]
    rw [e2, e3, decide_eq_true (show j ≠ i by omega)]
    simp
theorem xorL (a b : Nat) : lN a ^^^ lN b = lN (a ^^^ b) := by
  apply Int64.toBitVec_inj.mp
  show BitVec.ofNat 64 a ^^^ BitVec.ofNat 64 b = BitVec.ofNat 64 (a ^^^ b)
  exact (BitVec.ofNat_xor ..).symm
theorem lN_0 {n : Nat} (h : n < 2 ^ 64) : lN n = (0 : Int64) ↔ n = 0 := by
  constructor
  · intro z
    have e := congrArg (fun v => v.toBitVec.toNat) z
    have e2 : (lN n).toBitVec.toNat = n := by show (BitVec.ofNat 64 n).toNat = n; rw [BitVec.toNat_ofNat]; exact Nat.mod_eq_of_lt h
    have e3 : (0 : Int64).toBitVec.toNat = 0 := by decide
    rw [e2, e3] at e
    exact e
  · intro z; rw [z]; rfl
def fN (r f : Nat) : Int32 := if r = 0 then -1 else nI f
def FS (σ : wS) (K : Nat → Nat) (e r f : Nat) : Prop := oR σ 303 (K 2) = some (K 0) ∧ oI σ 304 (K 2) = nI e ∧ oI σ 305 (K 2) = nI r ∧ oI σ 306 (K 2) = fN r f
theorem c_second {Q : Int32 → wS → Prop} {e r w : Nat} (hK : CK σ x K S) (hI : IV S) (he : e < mN S.1) (h1 : 1 ≤ r) (h7 : r < 7) (hb : bgr (S.1 2 e) r = true) (hw : w < 2 ^ 64) (hwb : ∀ f, w.testBit f = true → f < mN S.1 ∧ S.1 8 f = 0 ∧ R S.1 (S.1 6 f) = R S.1 (S.1 4 e) ∧ S.1 16 (wi e r f) = 0) (hwc : ∀ f, f < mN S.1 → can S.1 e r f = true → w.testBit f = true) (hF : 1000 ≤ F) (fs : oR σ 303 (K 2) = some (K 0) ∧ oI σ 304 (K 2) = nI e ∧ oI σ 305 (K 2) = nI r)
    (h0 : fnd (can S.1 e r) (mN S.1) 0 = none → ∀ τ, Fr (PFi K) 0 0 σ τ → oR τ 303 (K 2) = some (K 0) ∧ oI τ 304 (K 2) = nI e ∧ oI τ 305 (K 2) = nI r → Q 0 τ) (hS : ∀ f, fnd (can S.1 e r) (mN S.1) 0 = some f → ∀ τ, Fr (PFi K) 0 0 σ τ → FS τ K e r f → Q 1 τ) : w_X2_findsSecond F σ (K 2) (lN w) Q := by
  have hs := hI.1.1.1.1.1
  have l := hI.1.1.1.1.2.1
  have hG := hs.2.1
  have hN := hI.1.1.1.2.2
  have key : ∀ n i y τ, i ≤ 64 → 64 - i < n → y < 2 ^ 64 → (∀ j, y.testBit j = true → w.testBit j = true) → (∀ j, j < mN S.1 → can S.1 e r j = true → y.testBit j = true) → (∀ j, j < i → y.testBit j = false) → Fr (PFi K) 0 0 σ τ → oR τ 303 (K 2) = some (K 0) ∧ oI τ 304 (K 2) = nI e ∧ oI τ 305 (K 2) = nI r → l_X2_findsSecond_2 F (K 2) Q n τ (lN y) := by
    intro n
    induction n with
    | zero => intro i _ _ _ h; omega
    | succ n ih =>
      intro i y τ hi hn hy hy1 hy2 hy3 fr fs
      unfold l_X2_findsSecond_2
      by_cases z : y = 0
      · rw [if_pos ((lN_0 hy).mpr z)]
        refine h0 (fnd_no _ _ (fun j _ hj => ?_)) τ fr fs
        cases hc : can S.1 e r j with
        | false => rfl
        | true =>
          have := hy2 j (by omega) hc
          rw [z, Nat.zero_testBit] at this
          cases this
      · rw [if_neg (fun q => z ((lN_0 hy).mp q))]
        obtain ⟨f, f1, f2, f3⟩ := low_ex z hy
        have fi : i ≤ f := by
          rcases Nat.lt_or_ge f i with q | q
          · rw [hy3 f q] at f2; cases f2
          · exact q
        obtain ⟨w1, w2, w3, w4⟩ := hwb f (hy1 f f2)
        refine c_ntz hy f1 f2 f3 ?_
        have hk := ck_fi hK hI.1.2 fr
        refine ⟨hk.1.1.2.1.2.1, bnd_I fun τ2 u2 v2 => ?_⟩
        have fr2 := fr.fw u2 (by decide)
        have hk2 := ck_fi hK hI.1.2 fr2
        have C := hk2.1.2.1.1
        have s3 : oR τ2 303 (K 2) = some (K 0) ∧ oI τ2 304 (K 2) = nI e ∧ oI τ2 305 (K 2) = nI r := by
          rw [((u2.sam (by decide)) _).1.2.2.1, ((u2.sam (by decide)) _).1.1, ((u2.sam (by decide)) _).1.1]
          exact fs
        obtain ⟨oe, e1, xe⟩ := (C.2.1 e he).1
        obtain ⟨of, e2, xf⟩ := (C.2.1 f w1).1
        obtain ⟨rr, rc⟩ := hk2.1.1.2.2.2.2.1 r h7
        rw [s3.1, s3.2.1, s3.2.2, v2, nI_clamp (by omega), nI_clamp (by omega), nI_clamp (by omega)]
        refine ⟨vp_inN h7 (by decide), K 0, rfl, C.1.1, vp_inN (by omega) (by decide), vp_inN (by omega) (by decide), K (20 + r), rr, ?_⟩
        rw [e1, e2]
        refine c_fits C hs l hN he w1 h1 h7 rc hb xe xf hF ?_
        cases hft : fit S.1 e r f with
        | true =>
          rw [if_pos rfl, if_neg (by decide)]
          have cf : can S.1 e r f = true := by unfold can; simp [w2, w3, w4, hft]
          refine hS f (fnd_of _ _ (Nat.zero_le _) (by omega) cf (fun j _ hj => ?_)) τ2 fr2 ⟨s3.1, s3.2.1, s3.2.2, by rw [v2]; unfold fN; rw [if_neg (by omega)]⟩
          cases hc : can S.1 e r j with
          | false => rfl
          | true => have := hy2 j (by omega) hc; rw [f3 j hj] at this; cases this
        | false =>
          rw [if_neg (show ¬ false = true by decide), if_pos rfl, show (1 : Int64) = lN 1 from rfl, subL (by omega), andL]
          intro v hv
          rw [hv]
          have hcl := low_cl f2 f3
          refine ih (f + 1) (y &&& (y - 1)) τ2 (by omega) (by omega) (Nat.lt_of_le_of_lt Nat.and_le_left hy) (fun j hj => ?_) (fun j hj hc => ?_) (fun j hj => ?_) fr2 s3
          · rw [hcl j] at hj
            exact hy1 j (by revert hj; cases y.testBit j <;> simp)
          · rw [hcl j, hy2 j hj hc]
            have : j ≠ f := fun q => by rw [q] at hc; unfold can at hc; rw [hft] at hc; simp at hc
            simp [this]
          · rw [hcl j]
            by_cases q : j = f
            · simp [q]
            · rw [f3 j (by omega)]; rfl
  exact key F 0 w σ (Nat.zero_le _) (by omega) hw (fun _ h => h) hwc (fun j hj => absurd hj (by omega)) (fr0.mono (fun _ _ z => z.elim) (by decide) (by decide)) fs
end PC
