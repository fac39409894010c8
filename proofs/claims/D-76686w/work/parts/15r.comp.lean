set_option linter.unusedVariables false
set_option maxRecDepth 10000
/-! ===== component: says ===== -/
section PC
variable {σ τ υ σ0 : wS} {x m F : Nat} {s : mS} {S : gS} {K K' : Nat → Nat} {P P' : Nat → Nat → Prop} {a b c d : Nat}
def sayX (S : gS) (i : Nat) (bad : Prop) (n : Nat) : Prop := (S.2.1 1 i = 1 ∨ S.2.1 1 i = 2 ∧ bad) ∧ n = 2 ∨ S.2.1 1 i = 0 ∧ n = 3
theorem c_217 {Q : Int32 → wS → Prop} {Xh : Nat → Nat → wS → Prop} {i o : Nat} {v : Int32} (hK : CK σ x K S) (hi : i < 8) (hr : 1 ≤ rC σ ∧ 7 ≤ rS σ) (e : oR σ 2400 (K (10 + i)) = some o) (h : Q v σ) : b_X23_says_217 F (K (10 + i)) Q Xh σ v := by
  unfold b_X23_says_217
  refine ⟨(hK.1.1.2.2.2.2.2.2.1 i hi).2, ?_⟩
  rw [e]
  unfold mt b_X23_says_229
  exact c_need (b := 3) hr (fun _ => h) (fun z => absurd z (by decide))
theorem c_sayK {Q : Int32 → wS → Prop} {Xh : Nat → Nat → wS → Prop} {i : Nat} {bad : Prop} {CP BODY : Nat → Prop} (hK : CK σ x K S) (hA : AV S) (hi : i < 8) (hr : 4 ≤ rC σ ∧ 977 ≤ rS σ) (hrow : ∀ o, oS26 σ o → ¬ CP o) (hx : S.2.1 1 i = 2 → ∀ o, oR σ 2400 (K (10 + i)) = some o → XO σ o (S.2.1 4 i) (S.1 2 (S.2.1 4 i)) (S.1 3 (S.2.1 4 i)) → (CP o ∧ BODY o) ∨ (¬ CP o ∧ bad)) (hX : ∀ n, n < 8 → sayX S i bad n → ∀ σ' q τ, Fr (fun _ _ => False) 3 970 σ σ' → Fr (fun _ _ => False) 1 7 σ' τ → RfX n σ' τ q → Xh 25 q τ) : ok23 σ (K (10 + i)) ∧ mt (oR σ 2400 (K (10 + i))) (b_X23_says_217 F (K (10 + i)) Q Xh σ (-1)) (fun b3 => (∀ b, oR σ 2400 (K (10 + i)) = some b → oS32 σ b ∨ oS26 σ b) ∧ ((∀ b, oR σ 2400 (K (10 + i)) = some b → CP b) → BODY b3) ∧ (¬ (∀ b, oR σ 2400 (K (10 + i)) = some b → CP b) → vmx σ 3 970 (fun q9 τ9 => (fun c9 q9 τ9 => (c9 = 103 ∧ b_X23_says_236 F Q Xh τ9 q9)) 103 q9 τ9))) := by
  have k10 := (hK.1.1.2.2.2.2.2.2.1 i hi).2
  have hA2 := (hA i hi).2.1
  have bad2 : sayX S i bad 2 → vmx σ 3 970 (fun q9 τ9 => (fun c9 q9 τ9 => (c9 = 103 ∧ b_X23_says_236 F Q Xh τ9 q9)) 103 q9 τ9) := fun z => by
    refine c_vmx (by omega) (fun q τ f => ⟨rfl, ?_⟩)
    obtain ⟨g1, g2⟩ := f.2.2.1
    unfold b_X23_says_236
    exact c_nwo (by omega) (fun τ2 f2 no _ => c_exc (b := 2) (σ0 := τ) (q := nx τ) f2 no.1 no.2.1 (fun τ3 f3 r3 => hX 2 (by decide) z τ _ τ3 f f3 r3))
  refine ⟨k10, ?_⟩
  rcases sh_c hK hA hi with ⟨z, e⟩ | ⟨z, e, R1⟩ | ⟨z, o, e, X1⟩
  · rw [e]
    unfold mt b_X23_says_217
    refine ⟨k10, ?_⟩
    rw [e]
    unfold mt b_X23_says_229
    exact c_need (b := 3) (by omega) (fun y => absurd rfl y) (fun _ q τ f r => ⟨rfl, hX 3 (by decide) (Or.inr ⟨z, rfl⟩) σ q τ (fr0.mono (fun _ _ z => z) (by decide) (by decide)) f r⟩)
  · rw [e]
    refine ⟨fun b y => by cases y; exact Or.inr (R1.o26 hA2), fun y => absurd (y _ rfl) (hrow _ (R1.o26 hA2)), fun _ => bad2 (Or.inl ⟨Or.inl z, rfl⟩)⟩
  · rcases hx z o e X1 with ⟨c1, c2⟩ | ⟨c1, c2⟩
    · rw [e]
      exact ⟨fun b y => by cases y; exact Or.inl X1.o32, fun _ => c2, fun y => absurd (fun b w => by cases w; exact c1) y⟩
    · rw [e]
      exact ⟨fun b y => by cases y; exact Or.inl X1.o32, fun y => absurd (y _ rfl) c1, fun _ => bad2 (Or.inl ⟨Or.inr ⟨z, c2⟩, rfl⟩)⟩
theorem c_says {Q : Int32 → wS → Prop} {v w : Int32} (hK : CK σ x K S) (hI : IV S) (hr : RM σ) (hF : 1000 ≤ F) (hQ : ∀ τ, Cf σ τ → CC τ x (o_says S v w).2 → Q (o_says S v w).1 τ) : w_X0_says F σ x v w Q := by
  have hA := hI.1.2
  have hs := hI.1.1.1.1.1
  have hG := hs.2.1
  have hN := hI.1.1.1.2.2
  have C := hK.1.2.1.1
  have km := ck_m hK
  obtain ⟨r1, r2⟩ := id hr
  unfold w_X0_says
  refine ⟨hK.1.1.1.1, c_shelf hK hA hr (fun _ _ => rfl) (fun i hi ha ea => ?_) (fun ea => ?_)⟩
  rotate_left
  · have eo : o_says S v w = noA S 1 := by unfold o_says; rw [ea] <;> cases num 7 w <;> rfl
    rw [eo] at hQ; exact hQ
  refine c_in0 (N := 7) (by decide) (by decide) (fun ew => ?_) (fun k hk hw ew => ?_)
  · have eo : o_says S v w = noA S 1 := by unfold o_says; rw [ea, ew]
    rw [eo] at hQ
    exact c_needX (n := 1) (Q := Q) hK hA (by decide) (fr0 (σ := σ)) noP hr (by decide) (by decide) (fun _ _ => rfl) (fun z => absurd rfl z) (fun _ => hQ)
  refine c_needX (n := 1) (Q := Q) hK hA (by decide) (fr0 (σ := σ)) noP hr (by decide) (by decide) (fun _ _ => rfl) (fun _ => ⟨K (10 + i), rfl, (hK.1.1.2.2.2.2.2.2.1 i hi).2, ?_⟩) (fun z => absurd z (by decide))
  have eo : o_says S v w = if S.2.1 1 i = 1 ∨ S.2.1 1 i = 2 ∧ isOf (S.1 2 (S.2.1 4 i)) k = false then noA S 2
    else if S.2.1 1 i = 0 then noA S 3
    else (if k = 0 then (if S.1 8 (S.2.1 4 i) = 0 then nI (R S.1 (S.1 6 (S.2.1 4 i))) else 99)
      else if k = 2 then (if S.1 8 (S.2.1 4 i) = 0 then nI (R S.1 (S.1 4 (S.2.1 4 i))) else 99)
      else if k = 6 then nI (10 + S.1 3 (S.2.1 4 i)) else nI (S.1 3 (S.2.1 4 i)), S) := by unfold o_says; rw [ea, ew]
  rw [eo] at hQ
  have hX : ∀ n, n < 8 → sayX S i (isOf (S.1 2 (S.2.1 4 i)) k = false) n → ∀ σ' q τ, Fr (fun _ _ => False) 3 970 σ σ' → Fr (fun _ _ => False) 1 7 σ' τ → RfX n σ' τ q → (25 = 25 ∧ b_X0_says_29 F x Q τ q) := fun n hn hz σ' q τ f f2 r => by
    refine ⟨rfl, ?_⟩
    unfold b_X0_says_29
    refine c_thr (hK.no hA f) hA hn f noP (by decide) (by decide) f2 r ?_
    rcases hz with ⟨z, rfl⟩ | ⟨z, rfl⟩
    · rw [if_pos z] at hQ; exact hQ
    · rw [if_neg (by omega), if_pos z] at hQ; exact hQ
  have good : ∀ o, S.2.1 1 i = 2 → oR σ 2400 (K (10 + i)) = some o → isOf (S.1 2 (S.2.1 4 i)) k = true → ∀ val, (if k = 0 then (if S.1 8 (S.2.1 4 i) = 0 then nI (R S.1 (S.1 6 (S.2.1 4 i))) else 99)
      else if k = 2 then (if S.1 8 (S.2.1 4 i) = 0 then nI (R S.1 (S.1 4 (S.2.1 4 i))) else 99)
      else if k = 6 then nI (10 + S.1 3 (S.2.1 4 i)) else nI (S.1 3 (S.2.1 4 i))) = val → b_X23_says_217 F (K (10 + i)) (fun r18 σ19 => Q r18 σ19) (fun c9 q9 τ9 => (c9 = 25 ∧ b_X0_says_29 F x Q τ9 q9)) σ val := fun o z e g val hv => by
    refine c_217 hK hi (by omega) e ?_
    rw [if_neg (by rw [g]; simp; omega), if_neg (by omega), hv] at hQ
    exact hQ σ cf_0 ⟨K, hK⟩
  have kd : S.2.1 1 i = 2 → S.2.1 4 i < mN S.1 ∧ (S.1 2 (S.2.1 4 i) = 1 ∨ S.1 2 (S.2.1 4 i) = 3 ∨ S.1 2 (S.2.1 4 i) = 4 ∨ S.1 2 (S.2.1 4 i) = 5 ∨ S.1 2 (S.2.1 4 i) = 6) := fun z => ⟨(hA i hi).2.2.2 z, (hs.2.2.2.2 _ ((hA i hi).2.2.2 z)).2.2.1⟩
  have isf : ∀ P : Prop, ∀ [Decidable P], (isOf (S.1 2 (S.2.1 4 i)) k = decide P) → ∀ A : Prop, (P → A) → (¬ P → ¬ A) → (A ∧ isOf (S.1 2 (S.2.1 4 i)) k = true) ∨ (¬ A ∧ isOf (S.1 2 (S.2.1 4 i)) k = false) := fun P _ e A h1 h2 => by
    by_cases z : P
    · exact Or.inl ⟨h1 z, by rw [e]; exact decide_eq_true z⟩
    · exact Or.inr ⟨h2 z, by rw [e]; exact decide_eq_false z⟩
  have r8 : rC σ ≥ 4 ∧ rS σ ≥ 977 := by omega
  unfold w_X23_says
  by_cases c1 : w = 1
  · have k1 : k = 1 := by
      rw [c1] at hw
      exact ((nI_eq (a := 1) (b := k) (by decide) (by omega)).mp hw).symm
    rw [if_pos c1]
    refine c_sayK hK hA hi r8 (fun o h z => by unfold oS26 at h; omega) (fun z o e X1 => ?_) hX
    obtain ⟨he, hk5⟩ := kd z
    rcases isf (S.1 2 (S.2.1 4 i) = 1) (by rw [k1]; unfold isOf; simp) (oC σ o = 34) (fun y => by rw [X1.1, y]; rfl) (fun y w => by rw [X1.1] at w; rcases kd5 hk5 with h | h | h | h | h <;> omega) with ⟨a1, a2⟩ | h
    · refine Or.inl ⟨a1, a1, ?_⟩
      rw [X1.2.2]
      exact good o z e a2 _ (by rw [k1]; rfl)
    · exact Or.inr h
  rw [if_neg c1]
  by_cases c2 : w = 2
  · have k2 : k = 2 := by
      rw [c2] at hw
      exact ((nI_eq (a := 2) (b := k) (by decide) (by omega)).mp hw).symm
    rw [if_pos c2]
    refine c_sayK hK hA hi r8 (fun o h z => by unfold oS34 at z; unfold oS26 at h; omega) (fun z o e X1 => ?_) hX
    obtain ⟨he, hk5⟩ := kd z
    rcases isf (S.1 2 (S.2.1 4 i) = 3 ∨ S.1 2 (S.2.1 4 i) = 4) (by rw [k2]; unfold isOf; rcases hk5 with h | h | h | h | h <;> rw [h] <;> decide) (oS34 σ o) (fun y => by unfold oS34; rw [X1.1]; rcases y with y | y <;> rw [y] <;> decide) (fun y w => by unfold oS34 at w; rw [X1.1] at w; rcases kd5 hk5 with h | h | h | h | h <;> omega) with ⟨a1, a2⟩ | h
    · refine Or.inl ⟨a1, ?_⟩
      have g := good o z e a2 (if S.1 8 (S.2.1 4 i) = 0 then nI (R S.1 (S.1 4 (S.2.1 4 i))) else 99) (by subst k2; rfl)
      obtain ⟨-, x3, -, x5, -⟩ := C.2.1 _ he
      have k34 : S.1 2 (S.2.1 4 i) = 3 ∨ S.1 2 (S.2.1 4 i) = 4 := by
        rw [k2] at a2; unfold isOf at a2; rcases hk5 with h | h | h | h | h <;> rw [h] at a2 ⊢ <;> simp at a2 ⊢
      obtain ⟨gg, g1, g2, g3⟩ := x3 (by omega)
      have body : w_X34_inputSaid F σ o (oR σ 107 x) (fun r30 σ31 => b_X23_says_217 F (K (10 + i)) (fun r18 σ19 => Q r18 σ19) (fun c9 q9 τ9 => (c9 = 25 ∧ b_X0_says_29 F x Q τ9 q9)) σ31 r30) := by
        unfold w_X34_inputSaid
        refine ⟨K 0, km.1, km.2, a1, ?_⟩
        rw [X1.2.1, nI_clamp (by omega), x5]
        refine ⟨vp_inN (by omega) (by decide), ?_⟩
        by_cases y : S.1 8 (S.2.1 4 i) = 0
        · rw [if_pos (by rw [y]; rfl), g1]
          refine c_find C hs hN g2 (by omega) ?_
          rw [if_pos y] at g
          rw [g3]; exact g
        · have := (sh_bnd hs he)
          rw [if_neg (show ¬ nI (S.1 8 (S.2.1 4 i)) = (0 : Int32) from nI_eqf (b := 0) (by omega) (by decide) y)]
          rw [if_neg y] at g
          exact g
      unfold v_X34v_inputSaid
      rcases a1 with a1 | a1
      · rw [if_pos a1]; exact body
      · rw [if_neg (by rw [a1]; decide), if_pos a1]; exact body
    · exact Or.inr h
  rw [if_neg c2]
  by_cases c3 : w = 3
  · have k1 : k = 3 := by
      rw [c3] at hw
      exact ((nI_eq (a := 3) (b := k) (by decide) (by omega)).mp hw).symm
    rw [if_pos c3]
    refine c_sayK hK hA hi r8 (fun o h z => by unfold oS26 at h; omega) (fun z o e X1 => ?_) hX
    obtain ⟨he, hk5⟩ := kd z
    rcases isf (S.1 2 (S.2.1 4 i) = 3) (by rw [k1]; unfold isOf; simp) (oC σ o = 36) (fun y => by rw [X1.1, y]; rfl) (fun y w => by rw [X1.1] at w; rcases kd5 hk5 with h | h | h | h | h <;> omega) with ⟨a1, a2⟩ | h
    · refine Or.inl ⟨a1, a1, ?_⟩
      rw [X1.2.2]
      exact good o z e a2 _ (by rw [k1]; rfl)
    · exact Or.inr h
  rw [if_neg c3]
  by_cases c4 : w = 4
  · have k1 : k = 4 := by
      rw [c4] at hw
      exact ((nI_eq (a := 4) (b := k) (by decide) (by omega)).mp hw).symm
    rw [if_pos c4]
    refine c_sayK hK hA hi r8 (fun o h z => by unfold oS26 at h; omega) (fun z o e X1 => ?_) hX
    obtain ⟨he, hk5⟩ := kd z
    rcases isf (S.1 2 (S.2.1 4 i) = 4) (by rw [k1]; unfold isOf; simp) (oC σ o = 37) (fun y => by rw [X1.1, y]; rfl) (fun y w => by rw [X1.1] at w; rcases kd5 hk5 with h | h | h | h | h <;> omega) with ⟨a1, a2⟩ | h
    · refine Or.inl ⟨a1, a1, ?_⟩
      rw [X1.2.2]
      exact good o z e a2 _ (by rw [k1]; rfl)
    · exact Or.inr h
  rw [if_neg c4]
  by_cases c5 : w = 5
  · have k1 : k = 5 := by
      rw [c5] at hw
      exact ((nI_eq (a := 5) (b := k) (by decide) (by omega)).mp hw).symm
    rw [if_pos c5]
    refine c_sayK hK hA hi r8 (fun o h z => by unfold oS137 at z; unfold oS26 at h; omega) (fun z o e X1 => ?_) hX
    obtain ⟨he, hk5⟩ := kd z
    rcases isf (S.1 2 (S.2.1 4 i) = 5 ∨ S.1 2 (S.2.1 4 i) = 6) (by rw [k1]; unfold isOf; rcases hk5 with h | h | h | h | h <;> rw [h] <;> decide) (oS137 σ o) (fun y => by unfold oS137; rw [X1.1]; rcases y with y | y <;> rw [y] <;> decide) (fun y w => by unfold oS137 at w; rw [X1.1] at w; rcases kd5 hk5 with h | h | h | h | h <;> omega) with ⟨a1, a2⟩ | h
    · refine Or.inl ⟨a1, a1, ?_⟩
      rw [X1.2.2]
      exact good o z e a2 _ (by rw [k1]; rfl)
    · exact Or.inr h
  rw [if_neg c5]
  by_cases c6 : w = 6
  · have k1 : k = 6 := by
      rw [c6] at hw
      exact ((nI_eq (a := 6) (b := k) (by decide) (by omega)).mp hw).symm
    rw [if_pos c6]
    refine c_sayK hK hA hi r8 (fun o h z => by unfold oS26 at h; omega) (fun z o e X1 => ?_) hX
    obtain ⟨he, hk5⟩ := kd z
    rcases isf (S.1 2 (S.2.1 4 i) = 6) (by rw [k1]; unfold isOf; simp) (oC σ o = 39) (fun y => by rw [X1.1, y]; rfl) (fun y w => by rw [X1.1] at w; rcases kd5 hk5 with h | h | h | h | h <;> omega) with ⟨a1, a2⟩ | h
    · refine Or.inl ⟨a1, a1, ?_⟩
      rw [X1.2.2, nIl_10, nI_add]
      exact good o z e a2 _ (by rw [k1]; rfl)
    · exact Or.inr h
  rw [if_neg c6]
  have k0 : k = 0 := by
    have h7 : k = 0 ∨ k = 1 ∨ k = 2 ∨ k = 3 ∨ k = 4 ∨ k = 5 ∨ k = 6 := by omega
    rcases h7 with rfl | rfl | rfl | rfl | rfl | rfl | rfl
    · rfl
    · exact absurd hw c1
    · exact absurd hw c2
    · exact absurd hw c3
    · exact absurd hw c4
    · exact absurd hw c5
    · exact absurd hw c6
  refine c_sayK hK hA hi r8 (fun o h z => S32_26 z h) (fun z o e X1 => ?_) hX
  obtain ⟨he, hk5⟩ := kd z
  have a2 : isOf (S.1 2 (S.2.1 4 i)) k = true := by rw [k0]; unfold isOf; simp
  have a1 := X1.o32
  refine Or.inl ⟨a1, ?_⟩
  have g := good o z e a2 (if S.1 8 (S.2.1 4 i) = 0 then nI (R S.1 (S.1 6 (S.2.1 4 i))) else 99) (by subst k0; rfl)
  obtain ⟨-, -, -, x5, -⟩ := C.2.1 _ he
  have body : w_X32_says F σ o (oR σ 107 x) (fun r30 σ31 => b_X23_says_217 F (K (10 + i)) (fun r18 σ19 => Q r18 σ19) (fun c9 q9 τ9 => (c9 = 25 ∧ b_X0_says_29 F x Q τ9 q9)) σ31 r30) := by
    unfold w_X32_says
    refine ⟨K 0, km.1, km.2, a1, ?_⟩
    rw [X1.2.1, nI_clamp (by omega), x5]
    refine ⟨vp_inN (by omega) (by decide), ?_⟩
    by_cases y : S.1 8 (S.2.1 4 i) = 0
    · rw [if_pos (by rw [y]; rfl)]
      refine c_home C hs hN he (by omega) ?_
      rw [if_pos y] at g
      exact g
    · have := (sh_bnd hs he)
      rw [if_neg (show ¬ nI (S.1 8 (S.2.1 4 i)) = (0 : Int32) from nI_eqf (b := 0) (by omega) (by decide) y)]
      rw [if_neg y] at g
      exact g
  unfold v_X32v_says
  rcases a1 with a1 | a1 | a1 | a1 | a1
  · rw [if_pos a1]; exact body
  · rw [if_neg (by rw [a1]; decide), if_pos a1]; exact body
  · rw [if_neg (by rw [a1]; decide), if_neg (by rw [a1]; decide), if_pos a1]; exact body
  · rw [if_neg (by rw [a1]; decide), if_neg (by rw [a1]; decide), if_neg (by rw [a1]; decide), if_pos a1]; exact body
  · rw [if_neg (by rw [a1]; decide), if_neg (by rw [a1]; decide), if_neg (by rw [a1]; decide), if_neg (by rw [a1]; decide), if_pos a1]; exact body
end PC
