set_option linter.unusedVariables false
set_option maxRecDepth 10000
/-! ===== component: image, restore ===== -/
section PC
variable {σ τ υ σ0 : wS} {x m F : Nat} {s : mS} {S : gS} {K K' : Nat → Nat} {P P' : Nat → Nat → Prop} {a b c d : Nat}
theorem c_image {Q : Int32 → wS → Prop} (hK : CK σ x K S) (hI : IV S) (hr : RM σ) (hQ : ∀ τ, Cf σ τ → CC τ x (o_image S).2 → Q (o_image S).1 τ) : w_X0_image σ x Q := by
  have hA := hI.1.2
  have hs := hI.1.1.1.1.1
  have hN := hI.1.1.1.2.2
  obtain ⟨r1, r2⟩ := hr
  have km := ck_m hK
  have hx : oC σ x = 0 + 1 := hK.1.1.1.1.1
  unfold w_X0_image
  refine c_nwo (by omega) (fun τ1 f1 no _ => ?_)
  obtain ⟨g1, g2⟩ := f1.2.2.1
  refine c_nmemo (P := fun _ _ => False) f1 no.2.1 no.1 no.2.2 (by omega) (fun τ2 f2 nm => ?_)
  have k2 := hK.no hA f2
  refine ⟨k2.1.1.1.1, ?_⟩
  rw [(ck_m k2).1]
  obtain ⟨C, D, -⟩ := k2.1.2.1
  have hne : K 0 ≠ nx σ := fun z => by
    have := km.2.1
    rw [z, no.2.1] at this
    cases this
  refine c_take C D hs hN hs.2.2.2.1 nm.1 hne (fun τ3 w3 C3 D3 _ => ?_)
  refine bnd_R fun τ4 w4 v4 => ?_
  have f3 : Fr (fun g o => o = x ∧ g = 108) 13 998 σ τ3 := (f2.mono (P' := fun g o => o = x ∧ g = 108) (fun _ _ z => z.elim) (by decide) (by decide)).w w3 (Or.inl no.2.1)
  have f4 : Fr (fun g o => o = x ∧ g = 108) 13 998 σ τ4 := f3.w w4 (Or.inr (fun g hg => ⟨rfl, List.mem_singleton.mp hg⟩))
  have n108 : ∀ g, g ≠ 108 → ∀ o, ¬ (o = x ∧ g = 108) := fun g hg o z => hg z.2
  have w4' : Fr (fun g o => o = x ∧ g = 108) 0 0 τ3 τ4 := w4.fr (fun g hg => ⟨rfl, List.mem_singleton.mp hg⟩)
  have C4 : CM τ4 (nx σ) S.1 := C3.fr w4' (fun g hg => n108 g (by revert g; decide) _) (fun g hg => n108 g (by revert g; decide))
  have D4 : CFd τ4 (nx σ) S.1 := D3.fr (by rw [C3.1.1.1]; decide) w4' (fun g hg => n108 g (by revert g; decide) _)
  have ck : CK τ4 x K (sKp S) := by
    obtain ⟨⟨k1, k2, k3⟩, ⟨k4, k5, k6⟩, k7, k8⟩ := hK
    have h1 := k1.2.1.1.1
    refine ⟨⟨k1.fr f4 (fun g hg => n108 g (by revert g; decide)), k2.fr f4 (fun g hg => n108 g (by revert g; decide) _) (fun g hg => n108 g (by revert g; decide)), fun i hi => ?_⟩, ⟨k4.fr k1 hA f4 (fun g hg => n108 g (by revert g; decide)), ⟨?_, ?_⟩, ?_⟩, ⟨fun z => ?_, fun _ => ⟨nx σ, v4, fun z => hne z.symm, C4, D4⟩⟩, ?_⟩
    · rw [f4.A hx (n108 _ (by decide) _)]; exact k3 i hi
    · rw [f4.I h1 (n108 _ (by decide) _)]; exact k5.1
    · rw [f4.A h1 (n108 _ (by decide) _)]; exact k5.2
    · rw [f4.I hx (n108 _ (by decide) _)]; exact k6
    · exact absurd (show (1 : Nat) = 0 from z) (by decide)
    · exact k8.fr hx f4 (fun g hg => n108 g (by revert g; decide))
  refine ⟨K 0, (ck_m ck).1, (ck_m ck).2, ?_⟩
  rw [ck.1.2.1.1.1.2.2.1]
  exact hQ τ4 (f4.cf (fun g o z => by rw [z.1, hx]; decide) (by omega) (by omega)) ⟨K, ck⟩
def Psf (K : Nat → Nat) (g o : Nat) : Prop := g = 2400 ∧ ∃ j, j < 8 ∧ o = K (10 + j)
theorem c_follow {Q : wS → Prop} {v : mS} (hk : Sk σ x K) (hC : CM σ (K 0) v) (hN : mN v ≤ 64) (hA : AV S) (hM : mN S.1 ≤ 64) (hS : Shv σ K S) (hF : 1000 ≤ F) (hQ : ∀ τ, Fr (Psf K) 0 0 σ τ → Shv τ K (v, flw S.2.1 (mN v), S.2.2) → Q τ) : w_X0_shelvesFollow F σ x Q := by
  unfold w_X0_shelvesFollow
  refine ⟨hk.1.1, ?_⟩
  have no : ∀ g, g ≠ 2400 → ∀ o, ¬ Psf K g o := fun g hg o z => hg z.1
  have e1 : ∀ i, (flw S.2.1 (mN v)) 1 i = if S.2.1 1 i = 2 ∧ mN v ≤ S.2.1 4 i then 0 else S.2.1 1 i := fun i => rfl
  have key : ∀ n i τ, i ≤ 8 → 8 - i < n → Fr (Psf K) 0 0 σ τ → (∀ j, j < i → SH τ K (v, flw S.2.1 (mN v), S.2.2) j) → (∀ j, i ≤ j → j < 8 → SH τ K S j) → l_X0_shelvesFollow_10 F x Q n τ (8 : Int32) (nI i) := by
    intro n
    induction n with
    | zero => intro i _ _ h; omega
    | succ n ih =>
      intro i τ hi hn fr sd so
      have hk' := hk.fr fr (fun g hg => no g (by revert g; decide))
      have C := hC.fr fr (fun g hg => no g (by revert g; decide) _) (fun g hg => no g (by revert g; decide))
      unfold l_X0_shelvesFollow_10
      refine ⟨hk'.1.1, ?_⟩
      by_cases q : i = 8
      · rw [if_pos (show (8 : Int32) ≤ nI i from nI_le (a := 8) (by omega) (by omega))]
        refine hQ τ fr ⟨fun j hj => sd j (by omega), fun j j' h1 h2 h3 h4 h5 => hS.2 j j' h1 h2 h3 ?_ ?_⟩
        · have h4' : (if S.2.1 1 j = 2 ∧ mN v ≤ S.2.1 4 j then 0 else S.2.1 1 j) = 1 := h4
          split at h4'
          · cases h4'
          · exact h4'
        · have h5' : (if S.2.1 1 j' = 2 ∧ mN v ≤ S.2.1 4 j' then 0 else S.2.1 1 j') = 1 := h5
          split at h5'
          · cases h5'
          · exact h5'
      rw [if_neg (show ¬ (8 : Int32) ≤ nI i from nI_ge (b := 8) (by omega) (by decide))]
      have hi8 : i < 8 := by omega
      obtain ⟨s1, s2⟩ := hk'.2.2.2.2.2.2.1 i hi8
      have hA2 := (hA i hi8).2.1
      obtain ⟨y1, y2, y3⟩ := so i (Nat.le_refl _) hi8
      have c10 : oC τ (K (10 + i)) = 23 + 1 := s2
      rw [nI_clamp (by omega), s1]
      refine ⟨vp_inN hi8 (by decide), ?_⟩
      intro v8 hv8
      refine ⟨K (10 + i), hv8, s2, ?_⟩
      have nxt : ∀ τ', Wq [2400] (K (10 + i)) τ τ' → SH τ' K (v, flw S.2.1 (mN v), S.2.2) i → l_X0_shelvesFollow_10 F x Q n τ' (8 : Int32) (nI i + (1 : Int32)) := fun τ' w sh => by
        have f' : Fr (Psf K) 0 0 τ τ' := w.fr (fun g hg => ⟨List.mem_singleton.mp hg, i, hi8, rfl⟩)
        have fo : Fr (fun g o => o = K (10 + i) ∧ g = 2400) 0 0 τ τ' := w.fr (fun g hg => ⟨rfl, List.mem_singleton.mp hg⟩)
        rw [nIl_1, nI_add]
        have keepS : ∀ (S' : gS) j, j < 8 → j ≠ i → S'.2.1 2 j < 4 → SH τ K S' j → SH τ' K S' j := fun S' j hj hji h4 h => by
          obtain ⟨x1, x2, x3⟩ := h
          have cj : oC τ (K (10 + j)) = 23 + 1 := (hk'.2.2.2.2.2.2.1 j hj).2
          unfold SH
          rw [fo.R cj (fun z => hk'.2.2.2.2.2.2.2 j i hj hi8 hji z.1)]
          refine ⟨x1, fun z => ⟨(x2 z).1, (x2 z).2.fr h4 fo (fun g hg z => absurd z.2 ((by decide : ∀ g ∈ [32800, 52900, 3000, 13100], g ≠ 2400) g hg))⟩, fun z => ?_⟩
          obtain ⟨o, o1, o2⟩ := x3 z
          exact ⟨o, o1, o2.fr fo (fun g hg z => absurd z.2 ((by decide : ∀ g ∈ [3300, 3301], g ≠ 2400) g hg))⟩
        refine ih (i + 1) τ' (by omega) (by omega) (fr.trans f') (fun j hj => ?_) (fun j hj hj8 => keepS S j hj8 (by omega) (hA j hj8).2.1 (so j (by omega) hj8))
        by_cases z : j = i
        · rw [z]; exact sh
        · exact keepS _ j (by omega) z (hA j (by omega)).2.1 (sd j (by omega))
      have nxt0 : S.2.1 1 i ≠ 2 → l_X0_shelvesFollow_10 F x Q n τ (8 : Int32) (nI i + (1 : Int32)) := fun z => by
        have ei : (flw S.2.1 (mN v)) 1 i = S.2.1 1 i := by rw [e1, if_neg (fun y => z y.1)]
        exact nxt τ Wq.refl ⟨fun y => y1 (ei.symm.trans y), fun y => y2 (ei.symm.trans y), fun y => absurd (ei.symm.trans y) z⟩
      have h3 : S.2.1 1 i = 0 ∨ S.2.1 1 i = 1 ∨ S.2.1 1 i = 2 := by have := (hA i hi8).1; omega
      unfold w_X23_holdsExpression
      rcases h3 with h | h | h
      · rw [y1 h]
        refine ⟨s2, (fun b y => nomatch y), fun v h0 _ => ?_⟩
        rw [h0 rfl]
        exact ⟨Or.inl rfl, by dsimp only; rw [if_pos rfl]; exact nxt0 (by omega)⟩
      · obtain ⟨z1, z2⟩ := y2 h
        rw [z1]
        refine ⟨s2, fun b y => by cases y; exact Or.inr (z2.o26 hA2), fun v _ h1 => ?_⟩
        rw [(h1 _ rfl).2 (z2.o26 hA2)]
        exact ⟨Or.inl rfl, by dsimp only; rw [if_pos rfl]; exact nxt0 (by omega)⟩
      · obtain ⟨o, z1, X1⟩ := y3 h
        have h4 := (hA i hi8).2.2.2 h
        have o32 : oS32 τ o := X1.o32
        rw [z1]
        refine ⟨s2, fun b y => by cases y; exact Or.inl o32, fun v' _ h1 => ?_⟩
        rw [(h1 _ rfl).1 o32]
        refine ⟨Or.inr rfl, ?_⟩
        dsimp only
        rw [if_neg (by decide), z1]
        refine ⟨fun b y => by cases y; exact o32, o, rfl, o32, K 0, hk'.1.2.1, C.1.1, ?_⟩
        rw [X1.2.1]
        unfold w_X22_isExpression
        rw [if_neg (nI_pos (by omega)), C.1.2.2.1]
        refine ⟨C.1.1, ?_⟩
        by_cases g : mN v ≤ S.2.1 4 i
        · rw [if_pos (nI_le g (by omega))]
          dsimp only
          rw [if_pos rfl]
          have ei : (flw S.2.1 (mN v)) 1 i = 0 := by rw [e1, if_pos ⟨h, g⟩]
          exact bnd_R fun τ' w v' => nxt τ' w ⟨fun _ => v', fun y => absurd (ei.symm.trans y) (by decide), fun y => absurd (ei.symm.trans y) (by decide)⟩
        · rw [if_neg (nI_ge (by omega) (by omega))]
          dsimp only
          rw [if_neg (by decide)]
          have ei : (flw S.2.1 (mN v)) 1 i = 2 := by rw [e1, if_neg (fun y => g y.2)]; exact h
          obtain ⟨⟨o', p1, p2⟩, -⟩ := C.2.1 (S.2.1 4 i) (by omega)
          rw [nI_clamp (by omega)]
          refine ⟨K 0, hk'.1.2.1, C.1.1, vp_inN (by omega) (by decide), ?_⟩
          rw [p1]
          exact bnd_R fun τ' w v' => nxt τ' w ⟨fun y => absurd (ei.symm.trans y) (by decide), fun y => absurd (ei.symm.trans y) (by decide), fun _ => ⟨o', v', w.xo p2 (by decide)⟩⟩
  exact key F 0 σ (by decide) (by omega) (fr0.mono (fun _ _ z => z.elim) (by decide) (by decide)) (fun j hj => absurd hj (by omega)) (fun j _ hj => hS.1 j hj)
theorem c_restore {Q : Int32 → wS → Prop} (hK : CK σ x K S) (hI : IV S) (hr : RM σ) (hF : 1000 ≤ F) (hQ : ∀ τ, Cf σ τ → CC τ x (o_restore S).2 → Q (o_restore S).1 τ) : w_X0_restore F σ x Q := by
  have hA := hI.1.2
  have hM := hI.1.1.1.2.2
  obtain ⟨im0, im1⟩ := hK.2.2.1
  have hx : oC σ x = 0 + 1 := hK.1.1.1.1.1
  unfold w_X0_restore
  refine ⟨hK.1.1.1.1, ?_⟩
  by_cases z : S.2.1 5 2 = 0
  · have eo : o_restore S = noA S 6 := by unfold o_restore; rw [if_pos z]
    rw [eo] at hQ
    rw [im0 z]
    unfold mt b_X0_restore_12
    exact c_needX (n := 6) (Q := Q) hK hA (by decide) (fr0 (σ := σ)) noP hr (by decide) (by decide) (fun _ _ => rfl) (fun z => absurd rfl z) (fun _ => hQ)
  have z1 : S.2.1 5 2 = 1 := by have := hI.2.1.2.1; omega
  have eo : o_restore S = (nI (mN S.2.2.1), (S.2.2.1, flw S.2.1 (mN S.2.2.1), S.2.2)) := by unfold o_restore; rw [if_neg z]
  rw [eo] at hQ
  obtain ⟨m2, p1, p2, C, D⟩ := im1 z1
  have hV := hI.2.1.2.2 z1
  have hsV := hV.1.1.1
  have hNV := hV.1.2.2
  rw [p1]
  unfold mt b_X0_restore_12
  refine c_needX (n := 6) (Q := Q) hK hA (by decide) (fr0 (σ := σ)) noP hr (by decide) (by decide) (fun _ _ => rfl) (fun _ => ?_) (fun z => absurd z (by decide))
  obtain ⟨r1, r2⟩ := hr
  refine c_nwo (by omega) (fun τ1 f1 no _ => ?_)
  obtain ⟨g1, g2⟩ := f1.2.2.1
  refine c_nmemo (P := fun _ _ => False) f1 no.2.1 no.1 no.2.2 (by omega) (fun τ2 f2 nm => ?_)
  have k2 := hK.no hA f2
  obtain ⟨-, im2⟩ := k2.2.2.1
  obtain ⟨m3, q1, q2, C2, D2⟩ := im2 z1
  refine ⟨k2.1.1.1.1, ?_⟩
  rw [q1]
  have hne : m3 ≠ nx σ := fun y => by
    have h0 := im1 z1
    obtain ⟨m4, e1, -, C4, -⟩ := h0
    have e3 : oR τ2 108 x = oR σ 108 x := f2.R hx (fun z => z)
    rw [q1, e1] at e3
    cases e3
    have := C4.1.1.1
    rw [y, no.2.1] at this
    cases this
  refine c_take C2 D2 hsV hNV hsV.2.2.2.1 nm.1 hne (fun τ3 w3 C3 D3 n0 => ?_)
  refine bnd_R fun τ4 w4 v4 => ?_
  have f3 : Fr (fun g o => o = x ∧ g = 107) 13 998 σ τ3 := (f2.mono (P' := fun g o => o = x ∧ g = 107) (fun _ _ z => z.elim) (by decide) (by decide)).w w3 (Or.inl no.2.1)
  have f4 : Fr (fun g o => o = x ∧ g = 107) 13 998 σ τ4 := f3.w w4 (Or.inr (fun g hg => ⟨rfl, List.mem_singleton.mp hg⟩))
  have n107 : ∀ g, g ≠ 107 → ∀ o, ¬ (o = x ∧ g = 107) := fun g hg o z => hg z.2
  have w4' : Fr (fun g o => o = x ∧ g = 107) 0 0 τ3 τ4 := w4.fr (fun g hg => ⟨rfl, List.mem_singleton.mp hg⟩)
  have C4 : CM τ4 (nx σ) S.2.2.1 := C3.fr w4' (fun g hg => n107 g (by revert g; decide) _) (fun g hg => n107 g (by revert g; decide))
  have D4 : CFd τ4 (nx σ) S.2.2.1 := D3.fr (by rw [C3.1.1.1]; decide) w4' (fun g hg => n107 g (by revert g; decide) _)
  have n4 : oI τ4 2318 (nx σ) = 0 := by rw [((w4.sam (by decide)) _).1.1]; exact n0
  obtain ⟨K2, hK2⟩ : ∃ K2 : Nat → Nat, K2 = fun j => if j = 0 then nx σ else K j := ⟨_, rfl⟩
  have K0 : K2 0 = nx σ := by rw [hK2]; rfl
  have Kj : ∀ j, j ≠ 0 → K2 j = K j := fun j hj => by rw [hK2]; exact if_neg hj
  have sk : Sk τ4 x K2 := by
    obtain ⟨⟨a1, a2, a3, a4, a5⟩, ⟨b1, b2, b3, b4, b5, b6, b7⟩, h2, ⟨c1, c2, c3, c4⟩, r, w, sh, di⟩ := hK.1.1
    have fR : ∀ g o c, oC σ o = c + 1 → g ≠ 107 → oR τ4 g o = oR σ g o := fun g o c hc hg => f4.R hc (n107 g hg _)
    have fAR : ∀ g o c, oC σ o = c + 1 → g ≠ 107 → aR τ4 g o = aR σ g o := fun g o c hc hg => f4.AR hc (n107 g hg _)
    unfold Sk
    rw [K0, Kj 1 (by decide), Kj 2 (by decide), Kj 3 (by decide), Kj 4 (by decide), Kj 5 (by decide), Kj 6 (by decide), Kj 7 (by decide)]
    refine ⟨⟨ok0.ext a1 f4.1, v4, ?_, ?_, ?_⟩, ⟨ok1.ext b1 f4.1, ok2.ext b2 f4.1, ok11.ext b3 f4.1, ok3.ext b4 f4.1, ok3.ext b5 f4.1, ok12.ext b6 f4.1, ok1.ext b7 f4.1⟩, h2, ⟨?_, ?_, ?_, ?_⟩, fun i hi => ?_, fun i hi => ?_, fun i hi => ?_, fun i j hi hj hij => ?_⟩
    · rw [fR _ _ _ a1.1 (by decide)]; exact a3
    · rw [fR _ _ _ a1.1 (by decide)]; exact a4
    · rw [fR _ _ _ a1.1 (by decide)]; exact a5
    · rw [fR _ _ _ b2.1 (by decide)]; exact c1
    · rw [fR _ _ _ b2.1 (by decide)]; exact c2
    · rw [fR _ _ _ b3.1 (by decide)]; exact c3
    · rw [fR _ _ _ b6.1 (by decide)]; exact c4
    · rw [Kj (20 + i) (by omega), fAR _ _ _ b2.1 (by decide)]
      exact ⟨(r i hi).1, by rw [f4.C (c := 4 + i) (by rw [(r i hi).2]; omega)]; omega⟩
    · rw [Kj (30 + i) (by omega), fAR _ _ _ b6.1 (by decide)]
      have hw : 13 < wyT i := by
        unfold wyT
        repeat' split
        all_goals decide
      obtain ⟨c, hc⟩ : ∃ c, wyT i = c + 1 := ⟨wyT i - 1, by omega⟩
      exact ⟨(w i hi).1, by rw [f4.C (c := c) (by rw [(w i hi).2, hc]), hc]⟩
    · rw [Kj (10 + i) (by omega), fAR _ _ _ a1.1 (by decide)]
      exact ⟨(sh i hi).1, f4.C (sh i hi).2⟩
    · rw [Kj (10 + i) (by omega), Kj (10 + j) (by omega)]; exact di i j hi hj hij
  have shv : Shv τ4 K2 S := by
    have h := hK.2.1.1.fr hK.1.1 hA f4 (fun g hg => n107 g (by revert g; decide))
    refine ⟨fun i hi => ?_, fun i j hi hj hij => ?_⟩
    · have := h.1 i hi
      unfold SH at this ⊢
      rw [Kj (10 + i) (by omega), Kj (50 + i) (by omega)]
      exact this
    · rw [Kj (50 + i) (by omega), Kj (50 + j) (by omega)]; exact h.2 i j hi hj hij
  refine c_follow (S := S) (v := S.2.2.1) sk (by rw [K0]; exact C4) hNV hA hM shv hF (fun τ5 f5 sh5 => ?_)
  have n5 : ∀ g, g ≠ 2400 → ∀ o, ¬ Psf K2 g o := fun g hg o z => hg z.1
  have sk5 := sk.fr f5 (fun g hg => n5 g (by revert g; decide))
  have hc4 : oC τ4 (nx σ) ≠ 0 := by rw [C4.1.1.1]; decide
  have C5 := C4.fr f5 (fun g hg => n5 g (by revert g; decide) _) (fun g hg => n5 g (by revert g; decide))
  have D5 := D4.fr hc4 f5 (fun g hg => n5 g (by revert g; decide) _)
  have hx4 : oC τ4 x = 0 + 1 := f4.C hx
  have h1 := hK.1.1.2.1.1.1
  have h14 : oC τ4 (K 1) = 1 + 1 := f4.C h1
  have nq : m3 ≠ nx σ := hne
  have ck : CK τ5 x K2 (S.2.2.1, flw S.2.1 (mN S.2.2.1), S.2.2) := by
    refine ⟨⟨sk5, ⟨by rw [K0]; exact C5, by rw [K0]; exact D5, Or.inl ?_⟩, fun i hi => ?_⟩, ⟨sh5, ⟨?_, ?_⟩, ?_⟩, ⟨fun y => absurd (show S.2.1 5 2 = 0 from y) z, fun _ => ?_⟩, ?_⟩
    · rw [K0, f5.I (c := 22) C4.1.1.1 (n5 _ (by decide) _)]; exact n4
    · rw [f5.A hx4 (n5 _ (by decide) _), f4.A hx (n107 _ (by decide) _)]; exact hK.1.2.2 i hi
    · rw [Kj 1 (by decide), f5.I h14 (n5 _ (by decide) _), f4.I h1 (n107 _ (by decide) _)]; exact hK.2.1.2.1.1
    · rw [Kj 1 (by decide), f5.A h14 (n5 _ (by decide) _), f4.A h1 (n107 _ (by decide) _)]; exact hK.2.1.2.1.2
    · rw [f5.I hx4 (n5 _ (by decide) _), f4.I hx (n107 _ (by decide) _)]; exact hK.2.1.2.2
    · have cm2 : oC σ m2 ≠ 0 := by rw [C.1.1.1]; decide
      have em : oC τ4 m2 ≠ 0 := by
        have := f4.1.1 m2 cm2
        rw [this]; exact cm2
      refine ⟨m2, ?_, ?_, ?_, ?_⟩
      · rw [f5.R hx4 (n5 _ (by decide) _), f4.R hx (n107 _ (by decide) _)]; exact p1
      · rw [K0]
        intro y
        rw [y, no.2.1] at cm2
        exact cm2 rfl
      · exact (C.fr f4 (fun g hg => n107 g (by revert g; decide) _) (fun g hg => n107 g (by revert g; decide))).fr f5 (fun g hg => n5 g (by revert g; decide) _) (fun g hg => n5 g (by revert g; decide))
      · exact (D.fr cm2 f4 (fun g hg => n107 g (by revert g; decide) _)).fr em f5 (fun g hg => n5 g (by revert g; decide) _)
    · exact (hK.2.2.2.fr hx f4 (fun g hg => n107 g (by revert g; decide))).fr hx4 f5 (fun g hg => n5 g (by revert g; decide))
  refine ⟨K2 0, (ck_m ck).1, (ck_m ck).2, ?_⟩
  rw [ck.1.2.1.1.1.2.2.1]
  have fall : Fr (fun g o => (o = x ∧ g = 107) ∨ Psf K2 g o) 13 998 σ τ5 := (f4.mono (fun _ _ z => Or.inl z) (Nat.le_refl _) (Nat.le_refl _)).trans (f5.mono (fun _ _ z => Or.inr z) (Nat.le_refl _) (Nat.le_refl _))
  refine hQ τ5 (fall.cf (fun g o y => ?_) (by omega) (by omega)) ⟨K2, ck⟩
  rcases y with y | ⟨y1, j, hj, y2⟩
  · rw [y.1, hx]; decide
  · rw [y2, Kj (10 + j) (by omega), (hK.1.1.2.2.2.2.2.2.1 j hj).2]; decide
end PC
