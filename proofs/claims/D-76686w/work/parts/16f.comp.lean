set_option linter.unusedVariables false
set_option maxRecDepth 10000
/-! ===== component: spell ===== -/
section PC
variable {σ τ υ σ0 : wS} {x m F t : Nat} {s : mS} {S : gS} {K K' : Nat → Nat} {P P' : Nat → Nat → Prop} {a b c d : Nat}
theorem CLt.wq {G : List Nat} {q : Nat} {l : List Int32} (h : CLt σ t l) (w : Wq G q σ τ) (d : ∀ g ∈ [44900, 4901], g ∉ G) : CLt τ t l := by
  unfold CLt
  rw [((w.sam (d 4901 (by decide))) t).1.1, ((w.sam (d 44900 (by decide))) t).1.2.2.2]
  exact h
theorem nwo_oc {n f q c : Nat} {A : wS → Prop} (hc : oC σ q = c) (h : nwo σ n (bnd (mkA σ f n) fun σ8 => A σ8)) : nwo σ n (bnd (mkA σ f n) fun σ8 => oC σ8 q = c ∧ A σ8) := ⟨h.1, fun a b σ8 e8 => ⟨by rw [e8]; exact hc, h.2 a b σ8 e8⟩⟩
theorem c_length {Q : Int32 → wS → Prop} {o k n : Nat} {f : Nat → Int64} (hR : RW σ o k n f) (hk : k < 4) (hQ : Q (nI n) σ) : v_X26v_length σ o Q := by
  obtain ⟨h1, h2, -⟩ := hR
  unfold v_X26v_length
  rw [h1]
  rcases (show k = 0 ∨ k = 1 ∨ k = 2 ∨ k = 3 by omega) with rfl | rfl | rfl | rfl
  · exact vT ⟨h1, n, h2, hQ⟩
  · exact vI (by decide) (vT ⟨h1, n, h2, hQ⟩)
  · exact vI (by decide) (vI (by decide) (vT ⟨h1, n, h2, hQ⟩))
  · exact vI (by decide) (vI (by decide) (vI (by decide) (vT ⟨h1, n, h2, hQ⟩)))
theorem c_putS {Q : wS → Prop} {Xh : Nat → Nat → wS → Prop} {o k n : Nat} {f : Nat → Int64} {l : List Int32} (hR : RW σ o k n f) (hk : k < 4) (hn : n ≤ 160) (ok : ok48 σ t) (hL : CLt σ t l) (hl : l.length < 1200) (hF : 1300 ≤ F) (hr : 1 ≤ rC σ ∧ 7 ≤ rS σ) (h1 : l.length ≤ n → ∀ τ, Wq GRow o σ τ → RW τ o k n (fun j => if j < l.length then nrw k (l.getD j 0).toInt64 else f j) → CLt τ t l → Q τ) (h0 : n < l.length → ∀ q τ, Fr (fun _ _ => False) 1 7 σ τ → RfX 7 σ τ q → Xh 25 q τ) : w_X48_put F σ t (some o) Q Xh := by
  refine ⟨ok, o, rfl, c_length hR hk ?_⟩
  rw [hL.1]
  by_cases z : n < l.length
  · rw [if_pos (nI_lt z (by omega))]
    exact c_need (b := 7) hr (fun y => absurd rfl y) (fun _ => h0 z)
  rw [if_neg (nI_nlt (by omega) (by omega))]
  refine c_need (b := 7) hr (fun _ => ?_) (fun y => absurd y (by decide))
  have hle : l.length ≤ n := by omega
  have key : ∀ j i τ, i ≤ l.length → l.length - i < j → Wq GRow o σ τ → RW τ o k n (fun m => if m < i then nrw k (l.getD m 0).toInt64 else f m) → CLt τ t l → l_X48_put_23 F t (some o) Q Xh j τ (nI i) := by
    intro j
    induction j with
    | zero => intro i _ _ h; omega
    | succ j ih =>
      intro i τ hi hj w R1 L1
      unfold l_X48_put_23
      refine ⟨ok48.ext ok w.ext, ?_⟩
      rw [L1.1]
      by_cases q : l.length ≤ i
      · rw [if_pos (nI_le q (by omega))]
        rw [show i = l.length by omega] at R1
        exact h1 hle τ w R1 L1
      · rw [if_neg (nI_ge (by omega) (by omega)), nI_clamp (by omega), L1.2 i (by omega)]
        refine ⟨vp_inN (by omega) (by decide), o, rfl, c_put R1 hk hn (fun j' hj' e1 e2 τ2 w2 R2 => ?_) (fun e => ?_)⟩
        · have ej : i = j' := (nI_eq (by omega) (by omega)).mp e2
          subst ej
          rw [nIl_1, nI_add]
          refine ih (i + 1) τ2 (by omega) (by omega) (w.trans w2) (R2.k (fun m hm => ?_)) (L1.wq w2 (by decide))
          by_cases y : m = i
          · rw [if_pos y, if_pos (show m < i + 1 by omega), y, gtD (by omega)]
          · rw [if_neg y]
            by_cases y2 : m < i
            · rw [if_pos y2, if_pos (show m < i + 1 by omega)]
            · rw [if_neg y2, if_neg (show ¬ m < i + 1 by omega)]
        · rw [num_some (by omega) (show i < n by omega)] at e
          cases e
  exact key F 0 σ (Nat.zero_le _) (by omega) Wq.refl (hR.k (fun m hm => if_neg (by omega))) hL
theorem c_spell {Q : Int32 → wS → Prop} {Xh : Nat → Nat → wS → Prop} {v : Int32} (hK : CK σ x K S) (hI : IV S) (hr : RM σ) (hF : 2000 ≤ F) (hQ : ∀ τ, Cf σ τ → CC τ x (o_spell S v).2 → Q (o_spell S v).1 τ) : w_X0_spell F σ x v Q Xh := by
  have hA := hI.1.2
  have hP := hI.2.1.1
  have h120 := hP.1
  obtain ⟨r1, r2⟩ := id hr
  unfold w_X0_spell
  refine ⟨hK.1.1.1.1, c_shelf hK hA hr (fun _ _ => rfl) (fun i hi ha ea => ?_) (fun ea => ?_)⟩
  rotate_left
  · have eo : o_spell S v = noA S 1 := by unfold o_spell; rw [ea]
    rw [eo] at hQ; exact hQ
  have eo : o_spell S v = if S.2.1 1 i = 2 then noA S 2 else if S.2.1 1 i = 0 then noA S 3 else if S.2.1 5 1 = 0 then noA S 5
    else if S.2.1 3 i < (spl S.2.1 122 0).1.length then noA S 7
    else (nI (spl S.2.1 122 0).1.length, sCl S (spc S.2.2.2.1 i (S.2.1 2 i) (spl S.2.1 122 0).1.length (spl S.2.1 122 0).1)) := by unfold o_spell; rw [ea]
  rw [eo] at hQ
  obtain ⟨n4, n160⟩ := iv_nl hA hi
  have ci := (hK.1.1.2.2.2.2.2.2.1 i hi).2
  refine ⟨K (10 + i), rfl, ci, c_rowX (Q := Q) hK hA hr hi (fun _ _ => rfl) (fun z => ?_) (fun z => ?_) (fun z => ?_)⟩
  rotate_left
  · rw [if_pos z] at hQ; exact hQ
  · rw [if_neg (by omega), if_pos z] at hQ; exact hQ
  rw [if_neg (by omega), if_neg (by omega)] at hQ
  obtain ⟨p0, p1⟩ := hK.2.2.2
  by_cases z5 : S.2.1 5 1 = 0
  · rw [if_pos z5] at hQ
    rw [p0 z5]
    unfold mt b_X0_spell_21
    exact c_needX (n := 5) (Q := Q) hK hA (by decide) (fr0 (σ := σ)) noP hr (by decide) (by decide) (fun _ _ => rfl) (fun z => absurd rfl z) (fun _ => hQ)
  rw [if_neg z5] at hQ
  obtain ⟨p, q1, q2, q3, q4, q5⟩ := p1 z5
  obtain ⟨s', d', L, ⟨m1, m2, m3⟩, h2, h3, h4⟩ := hP.2 z5
  rw [q1]
  unfold mt b_X0_spell_21
  refine c_needX (n := 5) (Q := Q) hK hA (by decide) (fr0 (σ := σ)) noP hr (by decide) (by decide) (fun _ _ => rfl) (fun _ => ?_) (fun z => absurd z (by decide))
  refine c_nwo (by omega) (fun τ1 f1 no _ => ?_)
  obtain ⟨g1, g2⟩ := f1.2.2.1
  unfold w_X48_init
  refine nwo_oc no.1 ?_
  refine c_mkv (P := fun _ _ => False) (by decide) (by decide) f1 no.2.1 no.1 (no.2.2 _).2.2.2 (by omega) (fun τ2 f2 b2 r2' e2 e3 => ?_)
  have k2 := hK.no hA f2
  have ht : ok48 τ2 (nx σ) := ⟨b2.1.trans no.1, e2⟩
  have L0 : CLt τ2 (nx σ) [] := ⟨by rw [(b2.2 4901 (by decide)).1.1.1]; exact (no.2.2 _).1, fun j hj => absurd hj (Nat.not_lt_zero _)⟩
  obtain ⟨-, p1'⟩ := k2.2.2.2
  obtain ⟨p', q1', q2', q3', q4', q5'⟩ := p1' z5
  refine ⟨k2.1.1.1.1, p', q1', q2', vp_inN (n := 0) (by decide) (by decide), ?_⟩
  have hs' := m1.1.1
  have sp9 := spl_9 hs' 122 d' 0 L 0 h2 h4
  refine c_spellR (t := nx σ) hs' m1.1.2.1 m1.2.1.1 (A := S.2.1) (p := p') h120 (by omega) 122 d' 0 L 0 τ2 [] _ m2 h2 h4 (by omega) ht q4' L0 (by rw [List.length_nil]; omega) (fun τ3 w3 l3 => ?_)
  rw [List.nil_append] at l3
  generalize (spl S.2.1 122 0).1 = l at *
  have f3 : Fr (fun _ _ => False) (1 + 1) (2 + 1200) σ τ3 := f2.w w3 (Or.inl no.2.1)
  have k3 := hK.no hA f3
  obtain ⟨g3, g4⟩ := f3.2.2.1
  have R3 := ((k3.2.1.1.1 i hi).2.1 z).2
  refine c_putS R3 n4 n160 (ok48.ext ht w3.ext) l3 (by omega) (by omega) (by omega) (fun hle τ4 w4 R4 l4 => ?_) (fun hlt q τ f r => Or.inl ⟨rfl, ?_⟩)
  · rw [if_neg (by omega)] at hQ
    have f4 : Fr (Psh K i (K (50 + i))) 2 1202 σ τ4 := (f3.mono (P' := Psh K i (K (50 + i))) (fun _ _ z => z.elim) (by decide) (by decide)).w w4 (Or.inr (fun g hg => Or.inr ⟨rfl, hg⟩))
    rw [l4.1]
    have e4 : oR τ3 2400 (K (10 + i)) = oR σ 2400 (K (10 + i)) := f3.R (c := 23) ci (fun z => z)
    refine hQ τ4 (f4.cf (psh_P hK hA hi (Or.inr (Or.inl ⟨z, rfl⟩))) (by decide) (by decide)) ⟨K, ck_row hK hA hi z f4 (fun j' hj' hji m hm => ?_) (R4.k (fun m hm => ?_)) (Or.inr ?_)⟩
    · unfold spc
      rw [if_neg (by omega)]
    · unfold spc
      by_cases y : m < l.length
      · rw [if_pos y, if_pos (by omega), show 160 * i + m - 160 * i = m by omega]
      · rw [if_neg y, if_neg (by omega)]
    · rw [((w4.sam (by decide)) _).1.2.2.1]; exact e4
  · rw [if_pos hlt] at hQ
    unfold b_X0_spell_57
    exact c_thr k3 hA (by decide) f3 (fun _ _ z => z.elim) (by decide) (by decide) f r hQ
end PC
