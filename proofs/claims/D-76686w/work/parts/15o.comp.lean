set_option linter.unusedVariables false
set_option maxRecDepth 10000
/-! ===== component: shelves, the calls ===== -/
section PC
variable {σ τ υ σ0 : wS} {x m F : Nat} {s : mS} {S : gS} {K K' : Nat → Nat} {P P' : Nat → Nat → Prop} {a b c d : Nat}
theorem c_mkmv {g f n q c : Nat} {k : wS → Prop} (hf : f % 10000 = 0) (hgf : g ≠ f) (h0 : Fr P a b σ0 σ) (hq0 : oC σ0 q = 0) (hc : oC σ q = c + 1) (hN : aN σ g q = none) (hr : 1 ≤ rC σ ∧ n ≤ rS σ) (hk : ∀ τ, Fr P (a + 1) (b + n) σ0 τ → oC τ q = c + 1 → aN τ g q = some n → (∀ j, aI τ g q j = 0 ∧ aJ τ g q j = 0 ∧ aR τ g q j = none) → k τ) : nwo σ n (bnd (mkA σ f n) fun σ8 => oC σ8 q = c + 1 ∧ aN σ8 g q = none ∧ bnd (mvA σ8 g q f (nx σ)) k) := by
  refine ⟨hr, fun hc0 _ σ8 e8 => ?_⟩
  subst e8
  have hN8 : aN (mkA σ f n) g q = none := (u2_g hgf).trans hN
  refine ⟨hc, hN8, fun τ e => ?_⟩
  subst e
  obtain ⟨f1, f2, ⟨f3, f4⟩, f5⟩ := h0
  have hoo : ∀ o, oC σ0 o ≠ 0 → o ≠ nx σ ∧ o ≠ q := fun o ho => ⟨fun z => ho (by have := f1.1 o ho; rw [z, hc0] at this; rw [z]; exact this.symm), fun z => ho (by rw [z]; exact hq0)⟩
  refine hk _ ⟨(f1.trans (Ext.mkA hf)).trans (Ext.mvA hf hN8), fun g' o ho hp => ?_, ⟨?_, ?_⟩, ?_⟩ hc ?_ (fun j => ⟨?_, ?_, ?_⟩)
  · obtain ⟨⟨⟨x1, x2, x3, x4⟩, x5, x6⟩, x7, x8⟩ := f2 g' o ho hp
    obtain ⟨n1, n2⟩ := hoo o ho
    refine ⟨⟨⟨x1, x2, x3, ?_⟩, ?_, ?_⟩, ?_, ?_⟩
    · exact ((u2_a n2).trans (u2_a n1)).trans x4
    · exact ((u2_a n2).trans (u2_a n1)).trans x5
    · exact ((u2_a n2).trans (u2_a n1)).trans x6
    · exact (((u2_a n2).trans (u2_a n1)).trans (u2_a n1)).trans x7
    · exact ((u2_a n2).trans (u2_a n1)).trans x8
  · show rC σ0 ≤ rC σ - 1 + (a + 1); omega
  · show rS σ0 ≤ rS σ - n + (b + n); omega
  · show nx σ0 ≤ nx σ + 1; omega
  · exact u2_s.trans u2_s
  · exact congrFun (u2_s.trans u2_s) j
  · exact congrFun (u2_s.trans u2_s) j
  · exact congrFun (u2_s.trans u2_s) j
theorem nrw_2 (k : Nat) (v : Int64) : nrw k (nrw k v) = nrw k v := by
  unfold nrw
  by_cases q0 : k = 0
  · rw [if_pos q0, if_pos q0]; simp
  rw [if_neg q0, if_neg q0]
  by_cases q1 : k = 1
  · rw [if_pos q1, if_pos q1]; simp
  rw [if_neg q1, if_neg q1]
  by_cases q2 : k = 2
  · rw [if_pos q2, if_pos q2]; simp
  rw [if_neg q2, if_neg q2]
theorem nrw_0 (k : Nat) : nrw k 0 = 0 := by
  unfold nrw
  split
  · decide
  · split
    · decide
    · split <;> decide
theorem c_newRow {Q : Option Nat → wS → Prop} {Xh : Nat → Nat → wS → Prop} {k n : Nat} (hk : k < 4) (hn : n ≤ 160) (hr : 2 ≤ rC σ ∧ 161 ≤ rS σ) (hQ : ∀ q τ, Fr (fun _ _ => False) 2 161 σ τ → oC σ q = 0 → RW τ q k n (fun _ => 0) → Q (some q) τ) : w_X0_newRow σ (nI k) (nI n) Q Xh := by
  have cn : (¬ nI n < 0 ∧ (nI n).toNatClampNeg ≤ 1000) := ⟨nI_pos (by omega), by rw [nI_clamp (by omega)]; omega⟩
  have z64 : (0 : Int32).toInt64 = 0 := by decide
  unfold w_X0_newRow
  have h4 : k = 0 ∨ k = 1 ∨ k = 2 ∨ k = 3 := by omega
  rcases h4 with rfl | rfl | rfl | rfl
  · rw [if_pos (by decide)]
    refine c_nwo (by omega) (fun τ f no _ => ?_)
    obtain ⟨g1, g2⟩ := f.2.2.1
    unfold w_X27_init w_X26_init
    refine ⟨cn, ?_⟩
    rw [nI_clamp (show n < 2 ^ 31 by omega)]
    refine c_mkmv (by decide) (by decide) f no.2.1 no.1 (no.2.2 _).2.2.2 (by omega) (fun υ f2 e1 e2 e3 => hQ _ υ (f2.mono (fun _ _ z => z) (by omega) (by omega)) no.2.1 ⟨e1, e2, fun _ j hj => ?_, fun z => absurd z (by decide), fun j _ => nrw_0 _⟩)
    rw [show aI υ (rwG 0) (nx σ) j = aI υ 32800 (nx σ) j from rfl, (e3 j).1, z64]
  · rw [if_neg (by decide), if_pos (by decide)]
    refine c_nwo (by omega) (fun τ f no _ => ?_)
    obtain ⟨g1, g2⟩ := f.2.2.1
    unfold w_X28_init w_X26_init
    refine ⟨cn, ?_⟩
    rw [nI_clamp (show n < 2 ^ 31 by omega)]
    refine c_mkmv (by decide) (by decide) f no.2.1 no.1 (no.2.2 _).2.2.2 (by omega) (fun υ f2 e1 e2 e3 => hQ _ υ (f2.mono (fun _ _ z => z) (by omega) (by omega)) no.2.1 ⟨e1, e2, fun _ j hj => ?_, fun z => absurd z (by decide), fun j _ => nrw_0 _⟩)
    rw [show aI υ (rwG 1) (nx σ) j = aI υ 52900 (nx σ) j from rfl, (e3 j).1, z64]
  · rw [if_neg (by decide), if_neg (by decide), if_pos (by decide)]
    refine c_nwo (by omega) (fun τ f no _ => ?_)
    obtain ⟨g1, g2⟩ := f.2.2.1
    unfold w_X29_init w_X26_init
    refine ⟨cn, ?_⟩
    rw [nI_clamp (show n < 2 ^ 31 by omega)]
    refine c_mkmv (by decide) (by decide) f no.2.1 no.1 (no.2.2 _).2.2.2 (by omega) (fun υ f2 e1 e2 e3 => hQ _ υ (f2.mono (fun _ _ z => z) (by omega) (by omega)) no.2.1 ⟨e1, e2, fun _ j hj => ?_, fun z => absurd z (by decide), fun j _ => nrw_0 _⟩)
    rw [show aI υ (rwG 2) (nx σ) j = aI υ 3000 (nx σ) j from rfl, (e3 j).1, z64]
  · rw [if_neg (by decide), if_neg (by decide), if_neg (by decide), if_pos (by decide)]
    refine c_nwo (by omega) (fun τ f no _ => ?_)
    obtain ⟨g1, g2⟩ := f.2.2.1
    unfold w_X30_init w_X26_init
    refine ⟨cn, ?_⟩
    rw [nI_clamp (show n < 2 ^ 31 by omega)]
    refine c_mkmv (by decide) (by decide) f no.2.1 no.1 (no.2.2 _).2.2.2 (by omega) (fun υ f2 e1 e2 e3 => hQ _ υ (f2.mono (fun _ _ z => z) (by omega) (by omega)) no.2.1 ⟨e1, e2, fun z => absurd z (by decide), fun _ j hj => (e3 j).2.1, fun j _ => nrw_0 _⟩)
theorem iv_nl {i : Nat} (hA : AV S) (hi : i < 8) : S.2.1 2 i < 4 ∧ S.2.1 3 i ≤ 160 := ⟨(hA i hi).2.1, (hA i hi).2.2.1⟩
theorem c_rowA {Q : Int32 → wS → Prop} {v w n : Int32} (hK : CK σ x K S) (hI : IV S) (hr : RM σ) (hQ : ∀ τ, Cf σ τ → CC τ x (o_row S v w n).2 → Q (o_row S v w n).1 τ) : w_X0_row σ x v w n Q := by
  have hA := hI.1.2
  unfold w_X0_row
  refine ⟨hK.1.1.1.1, c_shelf hK hA hr (fun _ _ => rfl) (fun i hi ha e => ?_) (fun e => ?_)⟩
  rotate_left
  · have eo : o_row S v w n = noA S 1 := by unfold o_row; rw [e]
    rw [eo] at hQ; exact hQ
  refine c_needX (n := 4) hK hA (by decide) (fr0 (σ := σ)) noP hr (by decide) (by decide) (fun _ _ => rfl) (fun z => ?_) (fun z => ?_)
  rotate_left
  · have hn : n < 0 := by
      by_cases y : n < 0
      · exact y
      · rw [if_neg y] at z; exact absurd z (by decide)
    have eo : o_row S v w n = noA S 4 := by unfold o_row; rw [e]; exact if_pos hn
    rw [eo] at hQ; exact hQ
  have hn : ¬ n < 0 := fun y => z (if_pos y)
  refine c_in0 (N := 4) (by decide) (by decide) (fun e2 => ?_) (fun k hk hw e2 => ?_)
  · have eo : o_row S v w n = noA S 6 := by unfold o_row; rw [e]; simp only [if_neg hn, e2]
    rw [eo] at hQ
    exact c_needX (n := 6) (Q := Q) hK hA (by decide) (fr0 (σ := σ)) noP hr (by decide) (by decide) (fun _ _ => rfl) (fun z => absurd rfl z) (fun _ => hQ)
  refine c_needX (n := 6) (Q := Q) hK hA (by decide) (fr0 (σ := σ)) noP hr (by decide) (by decide) (fun _ _ => rfl) (fun _ => ?_) (fun z => absurd z (by decide))
  obtain ⟨l, hl, rfl⟩ := nI_of hn
  refine c_needX (n := 7) hK hA (by decide) (fr0 (σ := σ)) noP hr (by decide) (by decide) (fun _ _ => rfl) (fun z => ?_) (fun z => ?_)
  rotate_left
  · have hl2 : 160 < l := by
      rcases Nat.lt_or_ge 160 l with y | y
      · exact y
      · rw [if_neg (show ¬ (160 : Int32) < nI l from nI_nlt (a := 160) y (by decide))] at z; exact absurd z (by decide)
    have eo : o_row S v w (nI l) = noA S 7 := by
      unfold o_row; rw [e]; simp only [if_neg hn, e2, num_hi (N := 161) (nI_le (show 161 ≤ l by omega) hl)]
    rw [eo] at hQ; exact hQ
  have hl2 : l ≤ 160 := Nat.le_of_not_lt fun y => z (if_pos (show (160 : Int32) < nI l from nI_lt (a := 160) y hl))
  have eo : o_row S v w (nI l) = (1, sCl (sAp (sAp (sAp S 1 (up (S.2.1 1) i 1)) 2 (up (S.2.1 2) i k)) 3 (up (S.2.1 3) i l)) (zer S.2.2.2.1 (160 * i) 160)) := by unfold o_row; rw [e]; simp only [if_neg hn, e2, num_some (N := 161) (by decide) (show l < 161 by omega)]
  rw [eo] at hQ
  obtain ⟨r1, r2⟩ := hr
  rw [hw]
  refine c_newRow hk hl2 (by omega) (fun q τ f hq R1 => ?_)
  have ci := (hK.1.1.2.2.2.2.2.2.1 i hi).2
  have k10 : oC τ (K (10 + i)) = 24 := f.C ci
  refine ⟨K (10 + i), rfl, k10, bnd_R fun υ w1 v1 => ?_⟩
  have f2 : Fr (Psh K i q) 2 161 σ υ := (f.no (P := Psh K i q)).w w1 (Or.inr fun g hg => Or.inl ⟨rfl, List.mem_singleton.mp hg⟩)
  have nq : q ≠ K (10 + i) := fun y => by rw [y, ci] at hq; exact absurd hq (by decide)
  have R2 : RW υ q k l (fun _ => 0) := R1.fr hk (w1.fr (P := fun g o => o = K (10 + i) ∧ g = 2400) (fun g hg => ⟨rfl, List.mem_singleton.mp hg⟩)) (fun g hg y => nq y.1)
  let K2 : Nat → Nat := fun j => if j = 50 + i then q else K j
  have K2n : ∀ j, j ≠ 50 + i → K2 j = K j := fun j hj => if_neg hj
  have K2s : K2 (50 + i) = q := if_pos rfl
  refine hQ υ (f2.cf (psh_P hK hA hi (Or.inl hq)) (by decide) (by decide)) ⟨K2, ck_sh (S := S) (A' := st (st (st S.2.1 1 (up (S.2.1 1) i 1)) 2 (up (S.2.1 2) i k)) 3 (up (S.2.1 3) i l)) (c' := zer S.2.2.2.1 (160 * i) 160) hK hA hi f2 (Or.inl hq) K2n (fun k' hk' => ?_) (fun j k' hj hji h1 h4 => ?_) (fun j hj hji m hm => ?_) ⟨fun y => ?_, fun y => ?_, fun y => ?_⟩ (fun _ j hj hji z1 => ?_)⟩
  · rw [st_n (by omega), st_n (by omega), st_n (by omega)]
  · by_cases y3 : k' = 3
    · rw [y3, st_s, up_n hji]
    rw [st_n y3]
    by_cases y2 : k' = 2
    · rw [y2, st_s, up_n hji]
    rw [st_n y2]
    by_cases y1 : k' = 1
    · rw [y1, st_s, up_n hji]
    rw [st_n y1]
  · unfold zer
    rw [if_neg (by omega)]
  · have y' : up (S.2.1 1) i 1 i = 0 := y
    rw [up_s] at y'; exact absurd y' (by decide)
  · refine ⟨?_, ?_⟩
    · rw [K2n _ (by omega), v1, K2s]
    · rw [K2s]
      show RW υ q (up (S.2.1 2) i k i) (up (S.2.1 3) i l i) (fun j => zer S.2.2.2.1 (160 * i) 160 (160 * i + j))
      rw [up_s, up_s]
      refine R2.k (fun j hj => ?_)
      unfold zer
      rw [if_pos (by omega)]
  · have y' : up (S.2.1 1) i 1 i = 2 := y
    rw [up_s] at y'; exact absurd y' (by decide)
  · rw [K2s]
    intro y
    rw [y, ((hK.2.1.1.1 j hj).2.1 z1).2.1] at hq
    omega
end PC
