set_option linter.unusedVariables false
set_option maxRecDepth 10000
/-! ===== component: elements, shows ===== -/
section PC
variable {σ τ υ σ0 : wS} {x m F : Nat} {s : mS} {S : gS} {K K' : Nat → Nat} {P P' : Nat → Nat → Prop} {a b c d : Nat}
theorem XO.o32 {o e k p : Nat} (h : XO σ o e k p) : oS32 σ o := by
  unfold oS32
  rw [h.1]; unfold tgK
  split
  · exact Or.inl rfl
  · split
    · exact Or.inr (Or.inl rfl)
    · split
      · exact Or.inr (Or.inr (Or.inl rfl))
      · split
        · exact Or.inr (Or.inr (Or.inr (Or.inl rfl)))
        · exact Or.inr (Or.inr (Or.inr (Or.inr rfl)))
theorem RW.o26 {o k n : Nat} {f : Nat → Int64} (h : RW σ o k n f) (hk : k < 4) : oS26 σ o := by
  unfold oS26
  rw [h.1]; omega
theorem S32_26 {o : Nat} (h : oS32 σ o) : ¬ oS26 σ o := by
  unfold oS32 at h
  unfold oS26
  omega
/-- what a shelf holds -/
theorem sh_c {i : Nat} (hK : CK σ x K S) (hA : AV S) (hi : i < 8) : (S.2.1 1 i = 0 ∧ oR σ 2400 (K (10 + i)) = none) ∨ (S.2.1 1 i = 1 ∧ oR σ 2400 (K (10 + i)) = some (K (50 + i)) ∧ RW σ (K (50 + i)) (S.2.1 2 i) (S.2.1 3 i) (fun j => S.2.2.2.1 (160 * i + j))) ∨ (S.2.1 1 i = 2 ∧ ∃ o, oR σ 2400 (K (10 + i)) = some o ∧ XO σ o (S.2.1 4 i) (S.1 2 (S.2.1 4 i)) (S.1 3 (S.2.1 4 i))) := by
  obtain ⟨y1, y2, y3⟩ := hK.2.1.1.1 i hi
  have := (hA i hi).1
  have h3 : S.2.1 1 i = 0 ∨ S.2.1 1 i = 1 ∨ S.2.1 1 i = 2 := by omega
  rcases h3 with h | h | h
  · exact Or.inl ⟨h, y1 h⟩
  · exact Or.inr (Or.inl ⟨h, y2 h⟩)
  · exact Or.inr (Or.inr ⟨h, y3 h⟩)
theorem c_row23 {Q1 : Option Nat → wS → Prop} {Xh : Nat → Nat → wS → Prop} {i : Nat} (hK : CK σ x K S) (hA : AV S) (hi : i < 8) (hr : 4 ≤ rC σ ∧ 977 ≤ rS σ) (h1 : S.2.1 1 i = 1 → Q1 (some (K (50 + i))) σ) (hX : ∀ n, n < 8 → (S.2.1 1 i = 2 ∧ n = 2 ∨ S.2.1 1 i = 0 ∧ n = 3) → ∀ σ' q τ, Fr (fun _ _ => False) 3 970 σ σ' → Fr (fun _ _ => False) 1 7 σ' τ → RfX n σ' τ q → Xh 25 q τ) : w_X23_row σ (K (10 + i)) Q1 Xh := by
  have k10 := (hK.1.1.2.2.2.2.2.2.1 i hi).2
  have hA2 := (hA i hi).2.1
  unfold w_X23_row
  rcases sh_c hK hA hi with ⟨z, e⟩ | ⟨z, e, R1⟩ | ⟨z, o, e, X1⟩
  · refine ⟨k10, ?_, ?_, ?_⟩
    · rw [e]; exact fun b y => nomatch y
    · intro _ v hv
      rw [hv, e]
      unfold mt b_X23_row_17
      exact c_need (b := 3) (by omega) (fun y => absurd rfl y) (fun _ q τ f r => ⟨rfl, hX 3 (by decide) (Or.inr ⟨z, rfl⟩) σ q τ (fr0.mono (fun _ _ z => z) (by decide) (by decide)) f r⟩)
    · intro y
      exact absurd (by rw [e]; exact fun b y => nomatch y) y
  · refine ⟨k10, ?_, ?_, ?_⟩
    · rw [e]; intro b y; cases y; exact Or.inr (R1.o26 hA2)
    · intro _ v hv
      rw [hv, e]
      unfold mt b_X23_row_17
      exact c_need (b := 3) (by omega) (fun _ => h1 z) (fun y => absurd y (by decide))
    · intro y
      exact absurd (by rw [e]; intro b y; cases y; exact R1.o26 hA2) y
  · refine ⟨k10, ?_, ?_, ?_⟩
    · rw [e]; intro b y; cases y; exact Or.inl X1.o32
    · intro y
      exact absurd (y o e) (S32_26 X1.o32)
    · intro _
      refine c_vmx (by omega) (fun q τ f => ⟨rfl, ?_⟩)
      obtain ⟨g1, g2⟩ := f.2.2.1
      unfold b_X23_row_24
      exact c_nwo (by omega) (fun τ2 f2 no _ => c_exc (b := 2) (σ0 := τ) (q := nx τ) f2 no.1 no.2.1 (fun τ3 f3 r3 => hX 2 (by decide) (Or.inl ⟨z, rfl⟩) τ _ τ3 f f3 r3))
/-- the same, refused -/
theorem c_rowX {Q : Int32 → wS → Prop} {Q1 : Option Nat → wS → Prop} {i : Nat} {B : wS → Nat → Prop} (hK : CK σ x K S) (hA : AV S) (hr : RM σ) (hi : i < 8) (hB : ∀ τ q, B τ q = (ok0 τ x ∧ w_X0_refused τ x (some q) (fun r σ => Q r σ))) (h1 : S.2.1 1 i = 1 → Q1 (some (K (50 + i))) σ) (h2 : S.2.1 1 i = 2 → ∀ υ, Cf σ υ → CC υ x (rfu S 2) → Q (-nI 2) υ) (h0 : S.2.1 1 i = 0 → ∀ υ, Cf σ υ → CC υ x (rfu S 3) → Q (-nI 3) υ) : w_X23_row σ (K (10 + i)) Q1 (fun c9 q9 τ9 => c9 = 25 ∧ B τ9 q9) := by
  obtain ⟨r1, r2⟩ := hr
  refine c_row23 hK hA hi (by omega) h1 (fun n hn hz σ' q τ f f2 r => ⟨rfl, ?_⟩)
  rw [hB]
  refine c_thr (hK.no hA f) hA hn f noP (by decide) (by decide) f2 r ?_
  rcases hz with ⟨z, rfl⟩ | ⟨z, rfl⟩
  · exact h2 z
  · exact h0 z
theorem c_element {Q : Int64 → wS → Prop} {v w : Int32} (hK : CK σ x K S) (hI : IV S) (hr : RM σ) (hQ : ∀ τ, Cf σ τ → CC τ x (o_element S v w).2 → Q (o_element S v w).1 τ) : w_X0_element σ x v w Q := by
  have hA := hI.1.2
  obtain ⟨r1, r2⟩ := hr
  have nil : o_element S v w = (0, S) → ∀ τ, Fr (fun _ _ => False) 4 977 σ τ → Q 0 τ := fun e τ f => by
    rw [e] at hQ
    exact hQ τ (f.cf noP (by decide) (by decide)) ⟨K, hK.no hA f⟩
  unfold w_X0_element
  refine ⟨hK.1.1.1.1, ?_⟩
  unfold w_X0_shelf
  refine ⟨hK.1.1.1.1, fun hv => ?_, fun hv => ?_⟩
  · rcases num_cs (N := 8) (by decide) v with ⟨i, hi, ha, e⟩ | ⟨e, -⟩
    · rw [ha, nI_clamp (by omega), (hK.1.1.2.2.2.2.2.2.1 i hi).1]
      refine ⟨K (10 + i), rfl, (hK.1.1.2.2.2.2.2.2.1 i hi).2, c_row23 hK hA hi (by omega) (fun z => ?_) (fun n hn hz σ' q τ f f2 r => ⟨rfl, ?_⟩)⟩
      · obtain ⟨n4, n160⟩ := iv_nl hA hi
        refine ⟨K (50 + i), rfl, c_get ((hK.2.1.1.1 i hi).2.1 z).2 n4 n160 (fun j hj e2 hw => ?_) (fun e2 => ?_)⟩
        · have eo : o_element S v w = (S.2.2.2.1 (160 * i + j), S) := by unfold o_element; rw [e]; simp only [if_pos z, e2]
          rw [eo] at hQ
          exact hQ σ cf_0 ⟨K, hK⟩
        · have eo : o_element S v w = (0, S) := by unfold o_element; rw [e]; simp only [if_pos z, e2]
          exact c_vmx (by omega) (fun q τ f => ⟨rfl, nil eo τ (f.mono (fun _ _ z => z) (by decide) (by decide))⟩)
      · have eo : o_element S v w = (0, S) := by
          unfold o_element; rw [e]
          exact if_neg (by omega)
        exact nil eo τ (f.trans f2)
    · exact absurd hv (nvp (by decide) e)
  · have e : num 8 v = none := by
      rcases num_cs (N := 8) (by decide) v with ⟨n, hn, ha, e⟩ | ⟨e, -⟩
      · rw [ha] at hv; exact absurd (vp_inN hn (by decide)) hv
      · exact e
    have eo : o_element S v w = (0, S) := by unfold o_element; rw [e]
    refine c_vmx (by omega) (fun q τ f => ⟨rfl, ?_⟩)
    obtain ⟨g1, g2⟩ := f.2.2.1
    unfold b_X0_shelf_7
    refine c_nwo (by omega) (fun τ2 f2 no _ => c_exc (b := 1) (σ0 := τ) (q := nx τ) f2 no.1 no.2.1 (fun τ3 f3 r3 => ⟨rfl, nil eo τ3 ((f.trans f3).mono (fun _ _ z => z) (by decide) (by decide))⟩))
/-- writing a row's element -/
theorem c_put {Q : wS → Prop} {Xh : Nat → Nat → wS → Prop} {o k n : Nat} {f : Nat → Int64} {v : Int32} {u : Int64} (hR : RW σ o k n f) (hk : k < 4) (hn : n ≤ 160) (h1 : ∀ j, j < n → num n v = some j → v = nI j → ∀ τ, Wq GRow o σ τ → RW τ o k n (fun i => if i = j then nrw k u else f i) → Q τ) (h0 : num n v = none → vmx σ 3 222 (fun q9 τ9 => Xh 101 q9 τ9)) : v_X26v_put σ o v u Q Xh := by
  obtain ⟨r1, r2, r3, r4, r5⟩ := hR
  have nv : ¬ vp_in v n → num n v = none := fun hv => by
    rcases num_cs (N := n) (by omega) v with ⟨i, hi, ha, e⟩ | ⟨e, -⟩
    · rw [ha] at hv; exact absurd (vp_inN hi (by omega)) hv
    · exact e
  have yv : vp_in v n → ∃ j, j < n ∧ num n v = some j ∧ v = nI j ∧ v.toNatClampNeg = j := fun hv => by
    rcases num_cs (N := n) (by omega) v with ⟨i, hi, ha, e⟩ | ⟨e, -⟩
    · exact ⟨i, hi, e, ha, by rw [ha]; exact nI_clamp (by omega)⟩
    · exact absurd hv (nvp (by omega) e)
  have n5 : ∀ j i, i < n → nrw k (if i = j then nrw k u else f i) = if i = j then nrw k u else f i := fun j i hi => by
    by_cases y : i = j
    · rw [if_pos y, nrw_2]
    · rw [if_neg y, r5 i hi]
  have n8 : ∀ y : Int32, (vp_nar .byte y.toInt8.toInt32) = y.toInt8.toInt32 := fun y => by
    show y.toInt8.toInt32.toInt8.toInt32 = y.toInt8.toInt32
    simp
  have n16 : ∀ y : Int32, (vp_nar .short y.toInt16.toInt32) = y.toInt16.toInt32 := fun y => by
    show y.toInt16.toInt32.toInt16.toInt32 = y.toInt16.toInt32
    simp
  unfold v_X26v_put
  have h4 : k = 0 ∨ k = 1 ∨ k = 2 ∨ k = 3 := by omega
  rcases h4 with rfl | rfl | rfl | rfl
  · rw [if_pos r1]
    refine ⟨r1, n, r2, by omega, fun hv => ?_, fun hv => h0 (nv hv)⟩
    obtain ⟨j, j1, j2, j3, j4⟩ := yv hv
    rw [j4, n8]
    refine bnd_A fun τ w e => h1 j j1 j2 j3 τ (w.mono (by decide)) ⟨by rw [w.1.1]; exact r1, by rw [w.1.2.1]; exact r2, fun _ i hi => ?_, fun z => absurd z (by decide), n5 j⟩
    rw [show aI τ (rwG 0) o i = aI τ 32800 o i from rfl, e]
    dsimp only
    by_cases y : i = j
    · rw [y, upd_s, if_pos rfl]; rfl
    · rw [upd_n y, if_neg y]; exact r3 (by decide) i hi
  · rw [if_neg (by rw [r1]; decide), if_pos r1]
    refine ⟨r1, n, r2, by omega, fun hv => ?_, fun hv => h0 (nv hv)⟩
    obtain ⟨j, j1, j2, j3, j4⟩ := yv hv
    rw [j4, n16]
    refine bnd_A fun τ w e => h1 j j1 j2 j3 τ (w.mono (by decide)) ⟨by rw [w.1.1]; exact r1, by rw [w.1.2.1]; exact r2, fun _ i hi => ?_, fun z => absurd z (by decide), n5 j⟩
    rw [show aI τ (rwG 1) o i = aI τ 52900 o i from rfl, e]
    dsimp only
    by_cases y : i = j
    · rw [y, upd_s, if_pos rfl]; rfl
    · rw [upd_n y, if_neg y]; exact r3 (by decide) i hi
  · rw [if_neg (by rw [r1]; decide), if_neg (by rw [r1]; decide), if_pos r1]
    refine ⟨r1, n, r2, by omega, fun hv => ?_, fun hv => h0 (nv hv)⟩
    obtain ⟨j, j1, j2, j3, j4⟩ := yv hv
    rw [j4]
    refine bnd_A fun τ w e => h1 j j1 j2 j3 τ (w.mono (by decide)) ⟨by rw [w.1.1]; exact r1, by rw [w.1.2.1]; exact r2, fun _ i hi => ?_, fun z => absurd z (by decide), n5 j⟩
    rw [show aI τ (rwG 2) o i = aI τ 3000 o i from rfl, e]
    dsimp only
    by_cases y : i = j
    · rw [y, upd_s, if_pos rfl]; rfl
    · rw [upd_n y, if_neg y]; exact r3 (by decide) i hi
  · rw [if_neg (by rw [r1]; decide), if_neg (by rw [r1]; decide), if_neg (by rw [r1]; decide), if_pos r1]
    refine ⟨r1, n, r2, by omega, fun hv => ?_, fun hv => h0 (nv hv)⟩
    obtain ⟨j, j1, j2, j3, j4⟩ := yv hv
    rw [j4]
    refine bnd_AJ fun τ w e => h1 j j1 j2 j3 τ (w.mono (by decide)) ⟨by rw [w.1.1]; exact r1, by rw [w.1.2.1]; exact r2, fun z => absurd z (by decide), fun _ i hi => ?_, n5 j⟩
    rw [e]
    dsimp only
    by_cases y : i = j
    · rw [y, updL_s, if_pos rfl]; rfl
    · rw [updL_n y, if_neg y]; exact r4 rfl i hi
/-- cells of a shelf's row changed -/
theorem ck_row {i : Nat} {c' : Nat → Int64} (hK : CK σ x K S) (hA : AV S) (hi : i < 8) (z : S.2.1 1 i = 1) (f : Fr (Psh K i (K (50 + i))) a b σ τ) (hc : ∀ j, j < 8 → j ≠ i → ∀ m, m < 160 → c' (160 * j + m) = S.2.2.2.1 (160 * j + m)) (hR : RW τ (K (50 + i)) (S.2.1 2 i) (S.2.1 3 i) (fun j => c' (160 * i + j))) (hn : ¬ Psh K i (K (50 + i)) 2400 (K (10 + i)) ∨ oR τ 2400 (K (10 + i)) = oR σ 2400 (K (10 + i))) : CK τ x K (sCl S c') := by
  have ci := (hK.1.1.2.2.2.2.2.2.1 i hi).2
  refine ck_sh (S := S) (A' := S.2.1) (c' := c') hK hA hi f (Or.inr (Or.inl ⟨z, rfl⟩)) (fun _ _ => rfl) (fun _ _ => rfl) (fun _ _ _ _ _ _ => rfl) hc ⟨fun y => ?_, fun _ => ⟨?_, hR⟩, fun y => ?_⟩ (fun _ j hj hji z1 => hK.2.1.1.2 i j hi hj (Ne.symm hji) z z1)
  · rw [show S.2.1 1 i = 0 from y] at z; exact absurd z (by decide)
  · rw [← ((hK.2.1.1.1 i hi).2.1 z).1]
    rcases hn with h | h
    · exact f.R ci h
    · exact h
  · rw [show S.2.1 1 i = 2 from y] at z; exact absurd z (by decide)
theorem c_set {Q : Int32 → wS → Prop} {v w : Int32} {u : Int64} (hK : CK σ x K S) (hI : IV S) (hr : RM σ) (hQ : ∀ τ, Cf σ τ → CC τ x (o_set S v w u).2 → Q (o_set S v w u).1 τ) : w_X0_set σ x v w u Q := by
  have hA := hI.1.2
  unfold w_X0_set
  refine ⟨hK.1.1.1.1, c_shelf hK hA hr (fun _ _ => rfl) (fun i hi ha e => ?_) (fun e => ?_)⟩
  rotate_left
  · have eo : o_set S v w u = noA S 1 := by unfold o_set; rw [e]
    rw [eo] at hQ; exact hQ
  obtain ⟨n4, n160⟩ := iv_nl hA hi
  have ci := (hK.1.1.2.2.2.2.2.2.1 i hi).2
  refine ⟨K (10 + i), rfl, ci, c_rowX (Q := Q) hK hA hr hi (fun _ _ => rfl) (fun z => ?_) (fun z => ?_) (fun z => ?_)⟩
  · refine ⟨K (50 + i), rfl, c_put ((hK.2.1.1.1 i hi).2.1 z).2 n4 n160 (fun j hj e2 hw τ wq R1 => ?_) (fun e2 => ?_)⟩
    · have eo : o_set S v w u = (1, sCl S (vp_updL S.2.2.2.1 (160 * i + j) (nrw (S.2.1 2 i) u))) := by
        unfold o_set; rw [e]; simp only [if_neg (show ¬ S.2.1 1 i = 2 by omega), if_neg (show ¬ S.2.1 1 i = 0 by omega), e2]
      rw [eo] at hQ
      have f : Fr (Psh K i (K (50 + i))) 0 0 σ τ := wq.fr (fun g hg => Or.inr ⟨rfl, hg⟩)
      refine hQ τ (f.cf (psh_P hK hA hi (Or.inr (Or.inl ⟨z, rfl⟩))) (by decide) (by decide)) ⟨K, ck_row hK hA hi z f (fun j' hj' hji m hm => ?_) (R1.k (fun m hm => ?_)) (Or.inr ?_)⟩
      · exact updL_n (by omega)
      · by_cases y : m = j
        · rw [if_pos y, y, updL_s]
        · rw [if_neg y, updL_n (by omega)]
      · exact (wq.sam (by decide) _).1.2.2.1
    · have eo : o_set S v w u = noA S 5 := by
        unfold o_set; rw [e]; simp only [if_neg (show ¬ S.2.1 1 i = 2 by omega), if_neg (show ¬ S.2.1 1 i = 0 by omega), e2]
      rw [eo] at hQ
      obtain ⟨r1, r2⟩ := hr
      refine c_vmx (by omega) (fun q τ f => ⟨rfl, ?_⟩)
      obtain ⟨g1, g2⟩ := f.2.2.1
      unfold b_X0_set_20 b_X0_set_34
      exact c_nwo (by omega) (fun τ2 f2 no _ => c_exc (b := 5) (σ0 := τ) (q := nx τ) f2 no.1 no.2.1 (fun τ3 f3 r3 => c_thr (hK.no hA f) hA (by decide) f noP (by decide) (by decide) f3 r3 hQ))
  · have eo : o_set S v w u = noA S 2 := by unfold o_set; rw [e]; exact if_pos z
    rw [eo] at hQ; exact hQ
  · have eo : o_set S v w u = noA S 3 := by unfold o_set; rw [e]; simp only [if_neg (show ¬ S.2.1 1 i = 2 by omega), if_pos z]
    rw [eo] at hQ; exact hQ
end PC
