set_option linter.unusedVariables false
set_option maxRecDepth 10000
/-! ===== component: the plan's nodes are told ===== -/
section PC
variable {σ τ υ σ0 : wS} {x m F : Nat} {s : mS} {S : gS} {K K' : Nat → Nat} {P P' : Nat → Nat → Prop} {a b c d : Nat}
theorem plo_in {R m : Nat} {o : Option Nat} {L : List (Nat → Nat)} (h : plo s R o m = some L) : L = [] ∨ ∃ d, pl s R d m = some L := by
  cases o with
  | none => exact Or.inl (Option.some.inj h).symm
  | some d => exact Or.inr ⟨d, h⟩
theorem pl_13 (hs : Sh s) : ∀ R d m L, pl s R d m = some L → ∀ f ∈ L, f 13 ≤ 1 := by
  intro R
  induction R with
  | zero => intro d m L h; exact nomatch h
  | succ R ih =>
    intro d m L h f hf
    obtain ⟨w, L1, L2, -, -, h1, h2, e⟩ := pl_some hs h
    rw [e] at hf
    rcases List.mem_cons.mp hf with z | z
    · rw [z]; exact nod_13
    · rcases List.mem_append.mp z with z | z
      · rcases plo_in h1 with y | ⟨d', y⟩
        · rw [y] at z; exact nomatch z
        · exact ih _ _ _ y f z
      · rcases plo_in h2 with y | ⟨d', y⟩
        · rw [y] at z; exact nomatch z
        · exact ih _ _ _ y f z
theorem pv_13 (h : PV S) {i : Nat} (hi : i < S.2.1 5 1) : S.2.1 13 i ≤ 1 := by
  obtain ⟨s, d, L, h1, h2, h3, h4⟩ := h.2 (by omega)
  have hL : i < L.length := by omega
  have := h4 i hL 13 (by decide) (by decide)
  rw [Nat.zero_add] at this
  rw [this]
  exact pl_13 h1.1.1.1 _ _ _ _ h2 _ (List.getElem_mem hL)
theorem c_told {Q : Int32 → wS → Prop} {o i w : Nat} {A : mS} (h : ND σ o A i) (hw : w < 8) (h13 : A 13 i ≤ 1) (hQ : Q (if w = 3 ∨ w = 4 ∨ w = 5 then eI (A (6 + w) i) else nI (A (6 + w) i)) σ) : w_X47_told σ o (nI w) Q := by
  obtain ⟨h1, ⟨h2, h3, ⟨d, d1, d2, d3, d4, d5⟩, h4⟩, h5, h6, h7⟩ := h
  have ok : ok47 σ o := h1
  unfold w_X47_told
  rw [h2, h3, d1, h4, h5, h6]
  rcases (show w = 0 ∨ w = 1 ∨ w = 2 ∨ w = 3 ∨ w = 4 ∨ w = 5 ∨ w = 6 ∨ w = 7 by omega) with rfl | rfl | rfl | rfl | rfl | rfl | rfl | rfl
  · rw [if_pos (show nI 0 = (0 : Int32) from rfl)]; exact ⟨ok, hQ⟩
  · rw [if_neg (show ¬ nI 1 = (0 : Int32) by decide), if_pos (show nI 1 = (1 : Int32) from rfl)]; exact ⟨ok, hQ⟩
  · rw [if_neg (show ¬ nI 2 = (0 : Int32) by decide), if_neg (show ¬ nI 2 = (1 : Int32) by decide), if_pos (show nI 2 = (2 : Int32) from rfl)]
    refine ⟨ok, ?_⟩
    unfold w_X0_groupIn
    rw [show (30 : Int32) = nI 30 from rfl, div_I (by omega) (by decide) (by decide), d3]
    exact hQ
  · rw [if_neg (show ¬ nI 3 = (0 : Int32) by decide), if_neg (show ¬ nI 3 = (1 : Int32) by decide), if_neg (show ¬ nI 3 = (2 : Int32) by decide), if_pos (show nI 3 = (3 : Int32) from rfl)]
    refine ⟨ok, ?_⟩
    unfold w_X0_orderIn
    rw [show (6 : Int32) = nI 6 from rfl, show (5 : Int32) = nI 5 from rfl, show (1 : Int32) = nI 1 from rfl, div_I (by omega) (by decide) (by decide), mod_I (by omega) (by decide) (by decide), eI_sb1, show d / 6 % 5 = A 9 i by omega]
    exact hQ
  · rw [if_neg (show ¬ nI 4 = (0 : Int32) by decide), if_neg (show ¬ nI 4 = (1 : Int32) by decide), if_neg (show ¬ nI 4 = (2 : Int32) by decide), if_neg (show ¬ nI 4 = (3 : Int32) by decide), if_pos (show nI 4 = (4 : Int32) from rfl)]
    refine ⟨ok, ?_⟩
    unfold w_X0_placeIn
    rw [show (6 : Int32) = nI 6 from rfl, show (1 : Int32) = nI 1 from rfl, mod_I (by omega) (by decide) (by decide), eI_sb1, d5]
    exact hQ
  · rw [if_neg (show ¬ nI 5 = (0 : Int32) by decide), if_neg (show ¬ nI 5 = (1 : Int32) by decide), if_neg (show ¬ nI 5 = (2 : Int32) by decide), if_neg (show ¬ nI 5 = (3 : Int32) by decide), if_neg (show ¬ nI 5 = (4 : Int32) by decide), if_pos (show nI 5 = (5 : Int32) from rfl)]
    exact ⟨ok, hQ⟩
  · rw [if_neg (show ¬ nI 6 = (0 : Int32) by decide), if_neg (show ¬ nI 6 = (1 : Int32) by decide), if_neg (show ¬ nI 6 = (2 : Int32) by decide), if_neg (show ¬ nI 6 = (3 : Int32) by decide), if_neg (show ¬ nI 6 = (4 : Int32) by decide), if_neg (show ¬ nI 6 = (5 : Int32) by decide), if_pos (show nI 6 = (6 : Int32) from rfl)]
    exact ⟨ok, hQ⟩
  · rw [if_neg (show ¬ nI 7 = (0 : Int32) by decide), if_neg (show ¬ nI 7 = (1 : Int32) by decide), if_neg (show ¬ nI 7 = (2 : Int32) by decide), if_neg (show ¬ nI 7 = (3 : Int32) by decide), if_neg (show ¬ nI 7 = (4 : Int32) by decide), if_neg (show ¬ nI 7 = (5 : Int32) by decide), if_neg (show ¬ nI 7 = (6 : Int32) by decide)]
    refine ⟨ok, ?_⟩
    have hQ' : Q (nI (A 13 i)) σ := hQ
    rcases (show A 13 i = 0 ∨ A 13 i = 1 by omega) with z | z
    · rw [z] at hQ' ⊢; exact hQ'
    · rw [z] at hQ' ⊢; exact hQ'
theorem c_planAt {Q : Int32 → wS → Prop} {Xh : Nat → Nat → wS → Prop} {v w : Int32} (hK : CK σ x K S) (hI : IV S) (hr : RM σ) (hQ : ∀ τ, Cf σ τ → CC τ x (o_planAt S v w).2 → Q (o_planAt S v w).1 τ) : w_X0_planAt σ x v w Q Xh := by
  have hA := hI.1.2
  have hP := hI.2.1.1
  have h120 := hP.1
  obtain ⟨r1, r2⟩ := id hr
  unfold w_X0_planAt
  refine c_in0 (N := 8) (by decide) (by decide) (fun e => ?_) (fun k hk hw ek => ?_)
  · have eo : o_planAt S v w = noA S 5 := by unfold o_planAt; rw [e]; cases num (S.2.1 5 1) v <;> rfl
    rw [eo] at hQ
    exact c_needX (n := 5) (Q := Q) hK hA (by decide) (fr0 (σ := σ)) noP hr (by decide) (by decide) (fun _ _ => rfl) (fun z => absurd rfl z) (fun _ => hQ)
  refine c_needX (n := 5) (Q := Q) hK hA (by decide) (fr0 (σ := σ)) noP hr (by decide) (by decide) (fun _ _ => rfl) (fun _ => ?_) (fun z => absurd z (by decide))
  have bad : num (S.2.1 5 1) v = none → ∀ a b, a ≤ 2000 → b ≤ 20000 → ∀ τ, Fr (fun _ _ => False) a b σ τ → ok0 τ x ∧ w_X0_beyond τ x (fun r16 σ17 => Q r16 σ17) := fun e a b ha hb τ f => by
    have eo : o_planAt S v w = noA S 5 := by unfold o_planAt; rw [e]
    rw [eo] at hQ
    have hk := hK.no hA f
    exact ⟨hk.1.1.1.1, c_bey2 hk hA f (fun _ _ z => z.elim) ha hb hQ⟩
  obtain ⟨p0, p1⟩ := hK.2.2.2
  refine ⟨hK.1.1.1.1, ?_⟩
  by_cases z : S.2.1 5 1 = 0
  · rw [p0 z]
    unfold mt
    refine c_vmx (by omega) (fun q τ f => ⟨rfl, bad ?_ _ _ (by decide) (by decide) τ f⟩)
    rcases num_cs (N := S.2.1 5 1) (by omega) v with ⟨n, hn, -, -⟩ | ⟨e, -⟩
    · omega
    · exact e
  obtain ⟨p, q1, q2, q3, q4, q5⟩ := p1 z
  rw [q1]
  unfold mt
  refine ⟨q2, fun hv => ?_, fun hv => ?_⟩
  · rcases num_cs (N := 120) (by decide) v with ⟨n, hn, ha, en⟩ | ⟨e, -⟩
    rotate_left
    · exact absurd hv (nvp (by decide) e)
    rw [ha, nI_clamp (by omega)]
    by_cases y : n < S.2.1 5 1
    · obtain ⟨o, o1, o2, -⟩ := q4 n y
      rw [o1]
      have eo : o_planAt S v w = (if k = 3 ∨ k = 4 ∨ k = 5 then eI (S.2.1 (6 + k) n) else nI (S.2.1 (6 + k) n), S) := by unfold o_planAt; rw [ha, num_some (by omega) y, ek]
      rw [eo] at hQ
      refine ⟨o2.1, ?_⟩
      rw [hw]
      exact c_told o2 hk (pv_13 hP y) (hQ σ cf_0 ⟨K, hK⟩)
    · rw [q5 n (by omega) hn]
      refine c_vmx (by omega) (fun q τ f => ⟨rfl, bad ?_ _ _ (by decide) (by decide) τ f⟩)
      rw [ha]
      exact num_hi (nI_le (by omega) (by omega))
  · refine c_vmx (by omega) (fun q τ f => ⟨rfl, bad ?_ _ _ (by decide) (by decide) τ f⟩)
    rcases num_cs (N := S.2.1 5 1) (by omega) v with ⟨n, hn, ha, -⟩ | ⟨e, -⟩
    · rw [ha] at hv; exact absurd (vp_inN (by omega) (by decide)) hv
    · exact e
theorem c_planCost {Q : Int64 → wS → Prop} {Xh : Nat → Nat → wS → Prop} {v : Int32} (hK : CK σ x K S) (hI : IV S) (hr : RM σ) (hQ : ∀ τ, Cf σ τ → CC τ x (o_planCost S v).2 → Q (o_planCost S v).1 τ) : w_X0_planCost σ x v Q Xh := by
  have hA := hI.1.2
  have hP := hI.2.1.1
  have h120 := hP.1
  obtain ⟨r1, r2⟩ := id hr
  unfold w_X0_planCost
  have bad : num (S.2.1 5 1) v = none → ∀ a b, a ≤ 2000 → b ≤ 20000 → ∀ τ, Fr (fun _ _ => False) a b σ τ → ok0 τ x ∧ w_X0_beyond τ x (fun r16 σ17 => Q r16.toInt64 σ17) := fun e a b ha hb τ f => by
    have eo : o_planCost S v = noL S 5 := by unfold o_planCost; rw [e]
    rw [eo] at hQ
    have hk := hK.no hA f
    exact ⟨hk.1.1.1.1, c_bey2 (Q := fun r16 σ17 => Q r16.toInt64 σ17) hk hA f (fun _ _ z => z.elim) ha hb hQ⟩
  obtain ⟨p0, p1⟩ := hK.2.2.2
  refine ⟨hK.1.1.1.1, ?_⟩
  by_cases z : S.2.1 5 1 = 0
  · rw [p0 z]
    unfold mt
    refine c_vmx (by omega) (fun q τ f => ⟨rfl, bad ?_ _ _ (by decide) (by decide) τ f⟩)
    rcases num_cs (N := S.2.1 5 1) (by omega) v with ⟨n, hn, -, -⟩ | ⟨e, -⟩
    · omega
    · exact e
  obtain ⟨p, q1, q2, q3, q4, q5⟩ := p1 z
  rw [q1]
  unfold mt
  refine ⟨q2, fun hv => ?_, fun hv => ?_⟩
  · rcases num_cs (N := 120) (by decide) v with ⟨n, hn, ha, en⟩ | ⟨e, -⟩
    rotate_left
    · exact absurd hv (nvp (by decide) e)
    rw [ha, nI_clamp (by omega)]
    by_cases y : n < S.2.1 5 1
    · obtain ⟨o, o1, o2, -⟩ := q4 n y
      rw [o1]
      have eo : o_planCost S v = (lN (S.2.1 14 n), S) := by unfold o_planCost; rw [ha, num_some (by omega) y]
      rw [eo] at hQ
      refine ⟨o2.1, ?_⟩
      rw [o2.2.2.2.2]
      exact hQ σ cf_0 ⟨K, hK⟩
    · rw [q5 n (by omega) hn]
      refine c_vmx (by omega) (fun q τ f => ⟨rfl, bad ?_ _ _ (by decide) (by decide) τ f⟩)
      rw [ha]
      exact num_hi (nI_le (by omega) (by omega))
  · refine c_vmx (by omega) (fun q τ f => ⟨rfl, bad ?_ _ _ (by decide) (by decide) τ f⟩)
    rcases num_cs (N := S.2.1 5 1) (by omega) v with ⟨n, hn, ha, -⟩ | ⟨e, -⟩
    · rw [ha] at hv; exact absurd (vp_inN (by omega) (by decide)) hv
    · exact e
end PC
