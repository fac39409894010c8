set_option linter.unusedVariables false
set_option maxRecDepth 10000
/-! ===== component: trees ===== -/
section PC
variable {σ τ υ σ0 : wS} {x m F : Nat} {s : mS} {S : gS} {K K' : Nat → Nat} {P P' : Nat → Nat → Prop} {a b c d r : Nat}
theorem xorI (a b : Nat) : nI a ^^^ nI b = nI (a ^^^ b) := by
  apply Int32.toBitVec_inj.mp
  show BitVec.ofNat 32 a ^^^ BitVec.ofNat 32 b = BitVec.ofNat 32 (a ^^^ b)
  exact (BitVec.ofNat_xor ..).symm
theorem andI (a b : Nat) : nI a &&& nI b = nI (a &&& b) := by
  apply Int32.toBitVec_inj.mp
  show BitVec.ofNat 32 a &&& BitVec.ofNat 32 b = BitVec.ofNat 32 (a &&& b)
  exact (BitVec.ofNat_and ..).symm
theorem capI {a : Nat} (h : a < 2 ^ 31) : (if nI a < (1000000000 : Int32) then nI a else (1000000000 : Int32)) = nI (min TRS a) := by
  by_cases q : a < 1000000000
  · rw [if_pos (show nI a < (1000000000 : Int32) from nI_lt (b := 1000000000) q (by decide)), Nat.min_eq_right (by show a ≤ 1000000000; omega)]
  · rw [if_neg (show ¬ nI a < (1000000000 : Int32) from nI_nlt (b := 1000000000) (by omega) h), Nat.min_eq_left (by show 1000000000 ≤ a; omega)]; rfl
theorem c_plus {Q : Int32 → wS → Prop} (ha : a ≤ TRS) (hb : b ≤ TRS) (hQ : Q (nI (min TRS (a + b))) σ) : w_X0_plus σ (nI a) (nI b) Q := by
  have ha' : a ≤ 1000000000 := ha
  have hb' : b ≤ 1000000000 := hb
  unfold w_X0_plus w_J13_addExact
  rw [nI_add, xorI, xorI, andI]
  have h1 : a ^^^ (a + b) < 2 ^ 31 := Nat.xor_lt_two_pow (by omega) (by omega)
  have h2 : (a ^^^ (a + b)) &&& (b ^^^ (a + b)) < 2 ^ 31 := Nat.lt_of_le_of_lt Nat.and_le_left h1
  rw [if_pos (show (0 : Int32) ≤ nI ((a ^^^ (a + b)) &&& (b ^^^ (a + b))) from nI_le (a := 0) (Nat.zero_le _) h2)]
  dsimp only
  rw [capI (by omega)]
  exact hQ
theorem c_times {Q : Int32 → wS → Prop} (ha : a ≤ TRS) (hb : b ≤ TRS) (hr : 1 ≤ rC σ ∧ 6 ≤ rS σ) (hQ : ∀ τ, Fr (fun _ _ => False) 1 6 σ τ → Q (nI (min TRS (a * b))) τ) : w_X0_times σ (nI a) (nI b) Q := by
  have ha' : a ≤ 1000000000 := ha
  have hb' : b ≤ 1000000000 := hb
  have hab : a * b ≤ 1000000000 * 1000000000 := Nat.mul_le_mul ha' hb'
  unfold w_X0_times w_J13_multiplyExact
  rw [nI_l (by omega), nI_l (by omega), lN_mul, lN_i32]
  by_cases q : a * b < 2 ^ 31
  · rw [if_pos (nI_l q)]
    dsimp only
    rw [capI q]
    exact hQ σ (fr0.mono (fun _ _ z => z) (by decide) (by decide))
  · have ne : ¬ (nI (a * b)).toInt64 = lN (a * b) := fun z => by
      have e := congrArg Int64.toInt z
      have e2 : (lN (a * b)).toInt = (a * b : Nat) := Int64.toInt_ofNat_of_lt (by omega)
      rw [Int32.toInt_toInt64, e2] at e
      have := Int32.toInt_lt (nI (a * b))
      omega
    rw [if_neg ne]
    refine c_vmx hr (fun q9 τ f => ⟨rfl, ?_⟩)
    have := hQ τ f
    rw [Nat.min_eq_left (show TRS ≤ a * b by show 1000000000 ≤ a * b; omega)] at this
    exact this
theorem c_treesBy {Q : Int32 → wS → Prop} {e : Nat} {f : Nat → Nat} (hK : CK σ x K S) (hI : IV S) (he : e < mN S.1) (hf : ∀ g, f g ≤ TRS) (h5 : ∀ g, g < mG S.1 → aI σ 105 x g = nI (f g)) (hr : 1 ≤ rC σ ∧ 6 ≤ rS σ) (hF : 1000 ≤ F) (hQ : ∀ τ, Fr (fun _ _ => False) 1 6 σ τ → Q (nI (xtr S.1 f e)) τ) : w_X0_treesBy F σ x (nI e) Q := by
  have hs := hI.1.1.1.1.1
  have hG := hs.2.1
  have hN := hI.1.1.1.2.2
  have C := hK.1.2.1.1
  have km := ck_m hK
  have c2 := sx_2 hs he
  obtain ⟨⟨o, a1, a2⟩, a3, a4, a5, a6⟩ := C.2.1 e he
  have ve := vp_inN (show e < 64 by omega) (by decide)
  have ce : (nI e).toNatClampNeg = e := nI_clamp (by omega)
  have f0 : Fr (fun _ _ => False) 1 6 σ σ := fr0.mono (fun _ _ z => z) (by decide) (by decide)
  unfold w_X0_treesBy
  rw [ce]
  refine ⟨hK.1.1.1.1, K 0, km.1, km.2, ve, o, a1, v_inputs a2 c2 ?_⟩
  unfold xtr at hQ
  by_cases k1 : S.1 2 e = 1
  · rw [k1, if_pos (show nI (inp 1) = (0 : Int32) from rfl)]
    rw [if_pos k1] at hQ
    exact hQ σ f0
  rw [if_neg k1] at hQ
  obtain ⟨g, b1, b2, b3⟩ := a3 k1
  have r4 := sh_lt hs (sx_4 hs he k1)
  by_cases k5 : S.1 2 e < 5
  · have i2 : inp (S.1 2 e) = 1 := by unfold inp; rw [if_neg k1, if_pos k5]
    rw [i2, if_neg (show ¬ nI 1 = (0 : Int32) by decide), if_pos (show nI 1 = (1 : Int32) from rfl)]
    rw [if_pos k5] at hQ
    refine ⟨K 0, km.1, km.2, ?_⟩
    rw [b1]
    refine c_find C hs hN b2 (by omega) ⟨vp_inN (by rw [b3]; omega) (by decide), ?_⟩
    rw [b3, nI_clamp (by omega), h5 _ r4]
    exact hQ σ f0
  · have i2 : inp (S.1 2 e) = 2 := by unfold inp; rw [if_neg k1, if_neg k5]
    rw [i2, if_neg (show ¬ nI 2 = (0 : Int32) by decide), if_neg (show ¬ nI 2 = (1 : Int32) by decide)]
    rw [if_neg k5] at hQ
    obtain ⟨g', y1, y2, y3⟩ := a4 (by omega)
    have r5 := sh_lt hs (sx_5 hs he (by omega))
    refine ⟨K 0, km.1, km.2, ?_⟩
    rw [b1]
    refine c_find C hs hN b2 (by omega) ⟨vp_inN (by rw [b3]; omega) (by decide), K 0, km.1, km.2, ?_⟩
    rw [y1]
    refine c_find C hs hN y2 (by omega) ⟨vp_inN (by rw [y3]; omega) (by decide), ?_⟩
    rw [b3, y3, nI_clamp (by omega), nI_clamp (by omega), h5 _ r4, h5 _ r5]
    exact c_times (hf _) (hf _) hr hQ
abbrev GLv : List Nat := [105, 106]
def Plv (x g o : Nat) : Prop := o = x ∧ g ∈ GLv
theorem ck_lv (h : CK σ x K S) (hA : AV S) (f : Fr (Plv x) a b σ τ) : CK τ x K S := by
  have no : ∀ g, g ∉ GLv → ∀ o, ¬ Plv x g o := fun g hg o z => hg z.2
  exact h.fr hA f (fun g hg _ _ o => no g (by revert g; decide) o) ⟨no _ (by decide) _, no _ (by decide) _⟩
theorem c_level {Q : wS → Prop} {f : Nat → Nat} (hK : CK σ x K S) (hI : IV S) (hf : ∀ g, f g ≤ TRS) (h5 : ∀ g, g < mG S.1 → aI σ 105 x g = nI (f g)) (hr : 64 ≤ rC σ ∧ 384 ≤ rS σ) (hF : 1000 ≤ F) (hQ : ∀ τ, Fr (Plv x) 64 384 σ τ → (∀ g, g < mG S.1 → aI τ 105 x g = nI (hgs S.1 f (mN S.1) g)) → Q τ) : w_X0_level F σ x Q := by
  have hs := hI.1.1.1.1.1
  have hG := hs.2.1
  have hN := hI.1.1.1.2.2
  have hA := hI.1.2
  unfold w_X0_level
  refine ⟨hK.1.1.1.1, bnd_A fun σ1 w1 v1 => ?_⟩
  have hx : oC σ x = 1 := hK.1.1.1.1.1
  have key : ∀ n e τ, e ≤ mN S.1 → mN S.1 - e < n → Fr (Plv x) e (6 * e) σ τ → aI τ 105 x = aI σ 105 x → (∀ g, g < mG S.1 → aI τ 106 x g = nI (hgs S.1 f e g)) → l_X0_level_10 F x Q (fun σ34 => ok0 σ34 x ∧ (¬ (0 : Int32) < 0 ∧ ¬ (0 : Int32) < 0 ∧ ¬ (64 : Int32) < 0 ∧ (0 : Int32).toNatClampNeg + (64 : Int32).toNatClampNeg ≤ 64 ∧ (0 : Int32).toNatClampNeg + (64 : Int32).toNatClampNeg ≤ 64) ∧ bnd (sA σ34 105 x (va_cpy (aI σ34 106 x) (aI σ34 105 x) (0 : Int32).toNatClampNeg (0 : Int32).toNatClampNeg (64 : Int32).toNatClampNeg)) fun σ37 => Q σ37) n τ (nI e) := by
    intro n
    induction n with
    | zero => intro e _ _ h; omega
    | succ n ih =>
      intro e τ he hn fr e5 e6
      have hk := ck_lv hK hA fr
      have C := hk.1.2.1.1
      have km := ck_m hk
      refine ⟨hk.1.1.1.1, K 0, km.1, km.2, ?_⟩
      rw [C.1.2.2.1]
      by_cases c : mN S.1 ≤ e
      · rw [if_pos (nI_le c (by omega))]
        refine ⟨hk.1.1.1.1, by decide, bnd_A fun τ2 w2 v2 => ?_⟩
        have f2 : Fr (Plv x) 64 384 σ τ2 := (fr.w w2 (Or.inr (fun g hg => ⟨rfl, by rw [List.mem_singleton.mp hg]; decide⟩))).mono (fun _ _ z => z) (by omega) (by omega)
        refine hQ τ2 f2 (fun g hg => ?_)
        rw [v2]
        unfold va_cpy
        rw [if_pos (show (0 : Int32).toNatClampNeg ≤ g ∧ g < (0 : Int32).toNatClampNeg + (64 : Int32).toNatClampNeg from ⟨Nat.zero_le _, by show g < 0 + 64; omega⟩)]
        show aI τ 106 x (0 + (g - 0)) = _
        rw [Nat.zero_add, Nat.sub_zero, e6 g hg, show e = mN S.1 by omega]
      rw [if_neg (nI_ge (by omega) (by omega))]
      have he' : e < mN S.1 := by omega
      have ve := vp_inN (show e < 64 by omega) (by decide)
      have ce : (nI e).toNatClampNeg = e := nI_clamp (by omega)
      have eh : ∀ g, hgs S.1 f (e + 1) g = if S.1 8 e = 0 ∧ R S.1 (S.1 6 e) = g then min TRS (hgs S.1 f e g + xtr S.1 f e) else hgs S.1 f e g := fun g => rfl
      refine ⟨ve, ?_⟩
      rw [ce, (C.2.1 e he').2.2.2.1]
      have d8 := (sh_bnd hs he').2.2.2
      by_cases c8 : S.1 8 e = 0
      · rw [if_pos ((nI_n0 (by omega)).mpr c8)]
        have r6 := sh_lt hs (sx_6 hs he')
        refine c_home C hs hN he' (by omega) ⟨K 0, km.1, km.2, c_home C hs hN he' (by omega) ⟨vp_inN (by omega) (by decide), ?_⟩⟩
        obtain ⟨g1, g2⟩ := fr.2.2.1
        refine c_treesBy hk hI he' hf (fun g hg => by rw [e5]; exact h5 g hg) (by omega) hF (fun τ2 f2 => ?_)
        rw [nI_clamp (by omega), e6 _ r6]
        refine c_plus (hgs_le _) (xtr_le hf) ⟨vp_inN (by omega) (by decide), bnd_A fun τ3 w3 v3 => ?_⟩
        have hx2 : oC τ x = 0 + 1 := hk.1.1.1.1.1
        have q2 : aI τ2 106 x = aI τ 106 x := f2.A hx2 (fun z => z)
        have q25 : aI τ2 105 x = aI τ 105 x := f2.A hx2 (fun z => z)
        have f3 : Fr (Plv x) (e + 1) (6 * e + 6) σ τ3 := (fr.trans (f2.mono (fun _ _ z => z.elim) (Nat.le_refl _) (Nat.le_refl _))).w w3 (Or.inr (fun g hg => ⟨rfl, by rw [List.mem_singleton.mp hg]; decide⟩))
        rw [nIl_1, nI_add]
        refine ih (e + 1) τ3 (by omega) (by omega) f3 ?_ (fun g hg => ?_)
        · rw [((w3.sam (by decide)) x).1.2.2.2, q25, e5]
        · rw [v3, q2, eh]
          by_cases z : R S.1 (S.1 6 e) = g
          · rw [if_pos ⟨c8, z⟩, ← z, upd_s]
          · rw [if_neg (fun y => z y.2), upd_n (fun y => z y.symm)]
            exact e6 g hg
      · rw [if_neg (fun z => c8 ((nI_n0 (by omega)).mp z))]
        rw [nIl_1, nI_add]
        refine ih (e + 1) τ (by omega) (by omega) (fr.mono (fun _ _ z => z) (by omega) (by omega)) e5 (fun g hg => ?_)
        rw [eh, if_neg (fun y => c8 y.1)]
        exact e6 g hg
  refine key F 0 σ1 (Nat.zero_le _) (by omega) (w1.fr (fun g hg => ⟨rfl, by rw [List.mem_singleton.mp hg]; decide⟩)) ((w1.sam (by decide)) x).1.2.2.2 (fun g hg => ?_)
  rw [v1]
  show fil 0 64 (0 : Int32) _ g = nI 0
  unfold fil
  rw [if_pos ⟨Nat.zero_le _, by omega⟩]; rfl
theorem c_trees {Q : Int32 → wS → Prop} {v w : Int32} (hK : CK σ x K S) (hI : IV S) (hr : RM σ) (hF : 1000 ≤ F) (hQ : ∀ τ, Cf σ τ → CC τ x (o_trees S v w).2 → Q (o_trees S v w).1 τ) : w_X0_trees F σ x v w Q := by
  have hs := hI.1.1.1.1.1
  have hG := hs.2.1
  have hN := hI.1.1.1.2.2
  have hA := hI.1.2
  unfold w_X0_trees
  refine ⟨hK.1.1.1.1, c_mustG hK hI (fr0 (σ := σ)) noP hr (by decide) (by decide) (fun _ _ => rfl) (fun g hg ev eg => ?_) (fun e => ?_)⟩
  rotate_left
  · have eo : o_trees S v w = noA S 1 := by unfold o_trees; rw [e]
    rw [eo] at hQ; exact hQ
  refine c_in0 (N := 13) (by decide) (by decide) (fun ew => ?_) (fun d hd hw ew => ?_)
  · have eo : o_trees S v w = noA S 6 := by unfold o_trees; rw [eg]; dsimp only; rw [ew]
    rw [eo] at hQ
    exact c_needX (n := 6) (Q := Q) hK hA (by decide) (fr0 (σ := σ)) noP hr (by decide) (by decide) (fun _ _ => rfl) (fun z => absurd rfl z) (fun _ => hQ)
  refine c_needX (n := 6) (Q := Q) hK hA (by decide) (fr0 (σ := σ)) noP hr (by decide) (by decide) (fun _ _ => rfl) (fun _ => ?_) (fun z => absurd z (by decide))
  have eo : o_trees S v w = (nI (tre S.1 d (R S.1 g)), S) := by unfold o_trees; rw [eg]; dsimp only; rw [ew]
  rw [eo] at hQ
  obtain ⟨r1, r2⟩ := hr
  rw [ev, hw]
  refine bnd_A fun σ1 w1 v1 => ?_
  have key : ∀ n i τ, i ≤ d → d - i < n → Fr (Plv x) (64 * i) (384 * i) σ τ → (∀ g, g < mG S.1 → aI τ 105 x g = nI (tre S.1 i g)) → l_X0_trees_29 F x (nI g) (nI d) Q (fun σ23 => ok0 σ23 x ∧ nn (oR σ23 107 x) fun b25 => ok22 σ23 b25 ∧ w_X22_find F σ23 b25 (nI g) (fun r28 σ29 => vp_in r28 64 ∧ Q (aI σ29 105 x r28.toNatClampNeg) σ29)) n τ (nI i) := by
    intro n
    induction n with
    | zero => intro i _ _ h; omega
    | succ n ih =>
      intro i τ hi hn fr e5
      have hk := ck_lv hK hA fr
      have C := hk.1.2.1.1
      have km := ck_m hk
      unfold l_X0_trees_29
      by_cases c : d ≤ i
      · rw [if_pos (nI_le c (by omega))]
        have rg := sh_lt hs hg
        refine ⟨hk.1.1.1.1, K 0, km.1, km.2, c_find C hs hN hg (by omega) ⟨vp_inN (by omega) (by decide), ?_⟩⟩
        rw [nI_clamp (by omega), e5 _ rg, show i = d by omega]
        refine hQ τ (fr.cf (fun g o z => ?_) (by omega) (by omega)) ⟨K, hk⟩
        rw [z.1, show oC σ x = 1 from hK.1.1.1.1.1]; decide
      · rw [if_neg (nI_ge (by omega) (by omega))]
        obtain ⟨g1, g2⟩ := fr.2.2.1
        refine ⟨hk.1.1.1.1, c_level hk hI (f := tre S.1 i) (tre_le i) e5 (by omega) hF (fun τ2 f2 h2 => ?_)⟩
        rw [nIl_1, nI_add]
        exact ih (i + 1) τ2 (by omega) (by omega) ((fr.trans f2).mono (fun _ _ z => z) (by omega) (by omega)) h2
  refine key F 0 σ1 (Nat.zero_le _) (by omega) (w1.fr (fun g hg => ⟨rfl, by rw [List.mem_singleton.mp hg]; decide⟩)) (fun g hg => ?_)
  rw [v1]
  show fil 0 64 (0 : Int32) _ g = nI 0
  unfold fil
  rw [if_pos ⟨Nat.zero_le _, by omega⟩]; rfl
end PC
