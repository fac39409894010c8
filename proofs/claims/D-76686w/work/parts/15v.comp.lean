set_option linter.unusedVariables false
set_option maxRecDepth 10000
/-! ===== component: draws ===== -/
section PC
variable {σ τ υ σ0 : wS} {x m F : Nat} {s : mS} {S : gS} {K K' : Nat → Nat} {P P' : Nat → Nat → Prop} {a b c d r : Nat}
theorem ck_20 {v : Nat} (hK : CK σ x K S) (hA : AV S) (w : Wq [2305] (K 0) σ τ) (e : oI τ 2305 (K 0) = nI v) : CK τ x K (sM S (s20 S.1 v)) := by
  obtain ⟨C, ⟨f1, f2, f3, f4, f5⟩, N⟩ := hK.1.2.1
  have f : Fr (fun g o => o = K 0 ∧ g ∈ [2305]) 0 0 σ τ := w.fr (fun g hg => ⟨rfl, hg⟩)
  have no : ∀ g, g ∉ [2305] → ∀ o, ¬ (o = K 0 ∧ g ∈ [2305]) := fun g hg o z => hg z.2
  have hm : oC σ (K 0) ≠ 0 := by rw [C.1.1.1]; decide
  have Fd : CFd τ (K 0) (s20 S.1 v) := by
    refine ⟨?_, ?_, ?_, ?_, ?_⟩
    · rw [(f.2.1 12313 _ hm (no _ (by decide) _)).1.2.1]; exact f1
    · rw [(f.2.1 2314 _ hm (no _ (by decide) _)).1.1.2.2.2]; exact f2
    · rw [(f.2.1 2303 _ hm (no _ (by decide) _)).1.1.1]; exact f3
    · rw [(f.2.1 2304 _ hm (no _ (by decide) _)).1.1.1]; exact f4
    · rw [e]
      show nI v = nI (up (S.1 20) 0 v 0)
      rw [up_s]
  exact ck_memo hK hA f (by decide) (s' := s20 S.1 v) ⟨C.fr f (fun g hg => no g (by revert g; decide) _) (fun g hg => no g (by revert g; decide)), Fd, cn_k (N.fr hm f (fun g hg => no g (by revert g; decide) _)) (fun k hk => st_n (by omega)) rfl (fun _ _ _ => rfl)⟩ (fun i hi _ => ⟨rfl, rfl⟩)
theorem c_draw {Q : Int32 → wS → Prop} {n : Nat} {B : Int32} (ok : ok22 σ m) (e : oI σ 2305 m = nI n) (hB : B = nI b) (hb : 0 < b) (hb2 : b < 1000) (hQ : ∀ τ, Wq [2305] m σ τ → oI τ 2305 m = nI (dsd n) → Q (nI (drw (dsd n) b)) τ) : w_X22_draw σ m B Q := by
  unfold w_X22_draw
  rw [e, hB]
  refine ⟨ok, bnd_I fun τ w v => ?_⟩
  have ev : oI τ 2305 m = nI (dsd n) := by
    rw [v, show (1103515245 : Int32) = nI 1103515245 from rfl, show (12345 : Int32) = nI 12345 from rfl, nI_mul, nI_add, ← nI_md]; rfl
  have hd : dsd n < 4294967296 := Nat.mod_lt _ (by decide)
  rw [ev, pk_ushrN (k := 16) (by omega) _ (by decide), show (2 : Nat) ^ 16 = 65536 from rfl, mod_I (by omega) hb (by omega)]
  exact ⟨fun z => nI_eqf (b := 0) (by omega) (by decide) (by omega) z, hQ τ w ev⟩
abbrev GDl : List Nat := 2305 :: GTe
theorem c_dealt2 {Q : wS → Prop} {v c y1 y2 : Nat} {s' : mS} (hK : CK σ x K (sM S (s20 S.1 v))) (hI : IV (sM S (s20 S.1 v))) (hG : mG S.1 ≤ 64) (c4 : c < 4) (x4 : y1 < mG S.1) (y4 : y2 < mG S.1) (es : s' = if mN S.1 = 64 ∨ mayK S.1 5 c y1 y2 = false ∨ lik S.1 5 c y1 y2 ≠ none then s20 S.1 v else nwx (s20 S.1 v) 5 c y1 y2) (hr : 1 ≤ rC σ ∧ 7 ≤ rS σ) (hF : 1000 ≤ F) (hQ : ∀ τ, Fr (fun g o => o = K 0 ∧ g ∈ GTe) 1 7 σ τ → CK τ x K (sM S s') → Q τ) : w_X0_pair F σ x (5 : Int32) (nI c) (nI y1) (nI y2) (fun _ σ21 => Q σ21) (fun c9 q9 τ9 => (c9 = 25 ∧ b_X0_dealt_51 F Q τ9 q9)) := by
  have n1 : num 4 (nI c) = some c := num_some (by decide) c4
  have n2 : num (mG (sM S (s20 S.1 v)).1) (nI y1) = some y1 := num_some (show mG S.1 < 2 ^ 31 by omega) x4
  have n3 : num (mG (sM S (s20 S.1 v)).1) (nI y2) = some y2 := num_some (show mG S.1 < 2 ^ 31 by omega) y4
  have em : mayK (sM S (s20 S.1 v)).1 5 c y1 y2 = mayK S.1 5 c y1 y2 := rfl
  have el : lik (sM S (s20 S.1 v)).1 5 c y1 y2 = lik S.1 5 c y1 y2 := rfl
  have eN : mN (sM S (s20 S.1 v)).1 = mN S.1 := rfl
  have e2 : ∀ s2, sM (sM S (s20 S.1 v)) s2 = sM S s2 := fun _ => rfl
  have e1 : (sM S (s20 S.1 v)).1 = s20 S.1 v := rfl
  have eo : o_two (sM S (s20 S.1 v)) 5 (nI c) (nI y1) (nI y2) = if mayK (sM S (s20 S.1 v)).1 5 c y1 y2 = true then tlo (sM S (s20 S.1 v)) 5 c y1 y2 else noA (sM S (s20 S.1 v)) 6 := by
    unfold o_two
    rw [n1, n2, n3]
  have et : ∀ r, lik (sM S (s20 S.1 v)).1 5 c y1 y2 = r → (tlo (sM S (s20 S.1 v)) 5 c y1 y2).2 = (match r with
    | some e => sM S (s20 S.1 v)
    | none => if mN S.1 = 64 then (noA (sM S (s20 S.1 v)) 7).2 else sM S (nwx (s20 S.1 v) 5 c y1 y2)) := fun r hr => by
    unfold tlo
    rw [hr]
    cases r with
    | some e => rfl
    | none =>
      dsimp only
      rw [eN, e2, e1]
      split <;> rfl
  generalize hT : sM S (s20 S.1 v) = T at *
  refine c_pair (k := 5) (Or.inl rfl) hK hI hr hF (fun τ f ck info => ?_) (fun n hn eno why q τ f r => ⟨rfl, ?_⟩)
  · obtain ⟨i1, i2⟩ := info c y1 y2 n1 n2 n3
    refine hQ τ f ?_
    rw [eo, if_pos i1] at ck
    rw [em] at i1
    rw [el, eN] at i2
    rw [es]
    cases hl : lik S.1 5 c y1 y2 with
    | some e =>
      rw [et _ (el.trans hl)] at ck
      rw [if_pos (Or.inr (Or.inr (fun z => nomatch z))), hT]
      exact ck
    | none =>
      rw [et _ (el.trans hl)] at ck
      have n64 := i2 hl
      dsimp only at ck
      rw [if_neg n64] at ck
      rw [if_neg (fun z => by
        rcases z with z | z | z
        · exact n64 z
        · rw [i1] at z; cases z
        · exact z rfl)]
      exact ck
  · have why2 : mayK S.1 5 c y1 y2 = false ∨ lik S.1 5 c y1 y2 = none ∧ mN S.1 = 64 := by
      rcases why with z | z | z | ⟨q, g, h, a1, a2, a3, z⟩
      · rw [n1] at z; cases z
      · rw [n2] at z; cases z
      · rw [n3] at z; cases z
      · rw [n1] at a1
        rw [n2] at a2
        rw [n3] at a3
        cases a1; cases a2; cases a3
        rw [em, el, eN] at z
        exact z
    refine hQ τ (f.mono (fun g o z => z.elim) (Nat.le_refl _) (Nat.le_refl _)) ?_
    rw [es, if_pos (by
      rcases why2 with z | z
      · exact Or.inr (Or.inl z)
      · exact Or.inl z.2), hT]
    exact hK.no hI.1.2 f
theorem c_dealt {Q : wS → Prop} (hK : CK σ x K S) (hI : IV S) (h0 : 0 < mG S.1) (hr : 1 ≤ rC σ ∧ 7 ≤ rS σ) (hF : 1000 ≤ F) (hQ : ∀ τ, Fr (fun g o => o = K 0 ∧ g ∈ GDl) 1 7 σ τ → CK τ x K (sM S (dl1 S.1).1) → Q τ) : w_X0_dealt F σ x Q := by
  have hA := hI.1.2
  have hG := hI.1.1.1.1.1.2.1
  have hN := hI.1.1.1.2.2
  obtain ⟨km, k22⟩ := ck_m hK
  have e5 := hK.1.2.1.2.1.2.2.2.2
  have eG := hK.1.2.1.1.1.2.2.2
  have c4 : drw (dsd (S.1 20 0)) 4 < 4 := drw_lt (by decide)
  have x4 : drw (dsd (dsd (S.1 20 0))) (mG S.1) < mG S.1 := drw_lt h0
  have y4 : drw (dsd (dsd (dsd (S.1 20 0)))) (mG S.1) < mG S.1 := drw_lt h0
  unfold w_X0_dealt
  refine ⟨hK.1.1.1.1, K 0, km, k22, c_draw (n := S.1 20 0) (b := 4) k22 e5 rfl (by decide) (by decide) (fun τ1 w1 e1 => ?_)⟩
  refine ⟨K 0, by rw [((w1.sam (by decide)) x).1.2.2.1]; exact km, ok22.ext k22 w1.ext, ?_⟩
  refine c_draw (b := mG S.1) (ok22.ext k22 w1.ext) e1 (by rw [((w1.sam (by decide)) (K 0)).1.1]; exact eG) h0 (by omega) (fun τ2 w2 e2 => ?_)
  have W2 := w1.trans w2
  refine ⟨K 0, by rw [((W2.sam (by decide)) x).1.2.2.1]; exact km, ok22.ext k22 W2.ext, ?_⟩
  refine c_draw (b := mG S.1) (ok22.ext k22 W2.ext) e2 (by rw [((W2.sam (by decide)) (K 0)).1.1]; exact eG) h0 (by omega) (fun τ3 w3 e3 => ?_)
  have W3 := W2.trans w3
  have hK3 := ck_20 hK hA W3 e3
  have hI3 := iv_sM hI (s20_mw (v := dsd (dsd (dsd (S.1 20 0)))) hI.1.1) (Nat.le_refl (mN S.1))
  have F3 : Fr (fun g o => o = K 0 ∧ g ∈ GDl) 0 0 σ τ3 := W3.fr (fun g hg => ⟨rfl, by rw [List.mem_singleton.mp hg]; decide⟩)
  have rC3 : rC τ3 = rC σ := W3.1.2.2.2.2.1
  have rS3 : rS τ3 = rS σ := W3.1.2.2.2.2.2
  refine c_dealt2 (s' := (dl1 S.1).1) hK3 hI3 (by omega) c4 x4 y4 ?_ (by omega) hF (fun τ f ck => ?_)
  · unfold dl1
    split <;> rfl
  · exact hQ τ ((F3.trans (f.mono (fun g o z => ⟨z.1, List.mem_cons_of_mem _ z.2⟩) (Nat.le_refl _) (Nat.le_refl _))).mono (fun _ _ z => z) (by decide) (by decide)) ck
theorem dl1_ct (h : MW s) : mN (dl1 s).1 = mN s + (dl1 s).2 ∧ (dl1 s).2 ≤ 1 := by
  unfold dl1
  split
  · exact ⟨rfl, Nat.zero_le _⟩
  · refine ⟨?_, Nat.le_refl _⟩
    obtain ⟨o1, o2, o3, o4, o5⟩ := nwx_old (s := s20 s (dsd (dsd (dsd (s 20 0))))) (k := 5) (p := drw (dsd (s 20 0)) 4) (x := drw (dsd (dsd (s 20 0))) (mG s)) (y := drw (dsd (dsd (dsd (s 20 0)))) (mG s)) h.1.1.1
    exact o4
theorem dll_ct : ∀ n (s : mS) k, MW s → 0 < mG s → mN (dll n s k).1 + k = mN s + (dll n s k).2 ∧ k ≤ (dll n s k).2 := by
  intro n
  induction n with
  | zero => intro s k _ _; exact ⟨rfl, Nat.le_refl _⟩
  | succ n ih =>
    intro s k h h0
    have e := dl1_ct h
    have d := dl1_mw h h0
    have i := ih (dl1 s).1 (k + (dl1 s).2) d.1 d.2.2
    show mN (dll n (dl1 s).1 (k + (dl1 s).2)).1 + k = mN s + (dll n (dl1 s).1 (k + (dl1 s).2)).2 ∧ k ≤ (dll n (dl1 s).1 (k + (dl1 s).2)).2
    omega
theorem c_deal {Q : Int32 → wS → Prop} {v : Int32} (hK : CK σ x K S) (hI : IV S) (hr : RM σ) (hF : 1000 ≤ F) (hQ : ∀ τ, Cf σ τ → CC τ x (o_deal S v).2 → Q (o_deal S v).1 τ) : w_X0_deal F σ x v Q := by
  have hA := hI.1.2
  have hG := hI.1.1.1.1.1.2.1
  have hN := hI.1.1.1.2.2
  obtain ⟨km, k22⟩ := ck_m hK
  unfold w_X0_deal
  refine ⟨hK.1.1.1.1, K 0, km, k22, ?_⟩
  rw [hK.1.2.1.1.1.2.2.2]
  by_cases z : mG S.1 = 0
  · have eo : o_deal S v = noA S 5 := by unfold o_deal; rw [if_pos z]
    rw [eo] at hQ
    rw [if_pos (show nI (mG S.1) ≤ 0 by rw [z]; decide)]
    exact c_needX (n := 5) (Q := Q) hK hA (by decide) (fr0 (σ := σ)) noP hr (by decide) (by decide) (fun _ _ => rfl) (fun z => absurd rfl z) (fun _ => hQ)
  rw [if_neg (show ¬ nI (mG S.1) ≤ 0 from nI_ge (a := 0) (b := mG S.1) (by omega) (by omega))]
  refine c_needX (n := 5) (Q := Q) hK hA (by decide) (fr0 (σ := σ)) noP hr (by decide) (by decide) (fun _ _ => rfl) (fun _ => ?_) (fun z => absurd z (by decide))
  refine c_in1 (N := 21) (by decide) (by decide) (fun e => ?_) (fun n n1 n2 hv e => ?_)
  · have eo : o_deal S v = noA S 6 := by
      unfold o_deal
      rw [if_neg z]
      rcases e with e | e
      · rw [e, show num 21 0 = some 0 from num_some (N := 21) (n := 0) (by decide) (by decide)]; rfl
      · rw [e]
    rw [eo] at hQ
    exact c_needX (n := 6) (Q := Q) hK hA (by decide) (fr0 (σ := σ)) noP hr (by decide) (by decide) (fun _ _ => rfl) (fun z => absurd rfl z) (fun _ => hQ)
  refine c_needX (n := 6) (Q := Q) hK hA (by decide) (fr0 (σ := σ)) noP hr (by decide) (by decide) (fun _ _ => rfl) (fun _ => ?_) (fun z => absurd z (by decide))
  have eo : o_deal S v = (nI (dll n S.1 0).2, sM S (dll n S.1 0).1) := by
    unfold o_deal
    rw [if_neg z, e]
    exact if_neg (by omega)
  rw [eo] at hQ
  obtain ⟨r1, r2⟩ := hr
  refine ⟨K 0, km, k22, ?_⟩
  rw [hv, hK.1.2.1.1.1.2.2.1]
  have key : ∀ j i τ s' k, i ≤ n → n - i < j → MW s' → 0 < mG s' → mN S.1 ≤ mN s' → Fr (fun g o => o = K 0 ∧ g ∈ GDl) i (7 * i) σ τ → CK τ x K (sM S s') → mN s' = mN S.1 + k → dll (n - i) s' k = dll n S.1 0 → l_X0_deal_44 F x (nI n) Q j τ (nI (mN S.1)) (nI i) := by
    intro j
    induction j with
    | zero => intro i _ _ _ _ h; omega
    | succ j ih =>
      intro i τ s' k hi hj hM h0 hle fr ck ect ed
      obtain ⟨km', k22'⟩ := ck_m ck
      unfold l_X0_deal_44
      by_cases q : n ≤ i
      · rw [if_pos (nI_le q (by omega))]
        refine ⟨ck.1.1.1.1, K 0, km', k22', ?_⟩
        rw [show n - i = 0 by omega] at ed
        have es : (dll n S.1 0).1 = s' := by rw [← ed]; rfl
        have ek : (dll n S.1 0).2 = k := by rw [← ed]; rfl
        have hN' : mN s' ≤ 64 := hM.1.2.2
        rw [es, ek] at hQ
        rw [ck.1.2.1.1.1.2.2.1, show mN (sM S s').1 = mN s' from rfl, sub_I hle, show mN s' - mN S.1 = k by omega]
        exact hQ τ (fr.cf (ck_P hK) (by omega) (by omega)) ⟨K, ck⟩
      · rw [if_neg (nI_ge (by omega) (by omega))]
        obtain ⟨g1, g2⟩ := fr.2.2.1
        have hI' : IV (sM S s') := iv_sM hI hM hle
        refine ⟨ck.1.1.1.1, c_dealt ck hI' h0 (by omega) hF (fun τ2 f2 ck2 => ?_)⟩
        have d := dl1_mw hM h0
        have dc := dl1_ct hM
        rw [nIl_1, nI_add]
        refine ih (i + 1) τ2 (dl1 s').1 (k + (dl1 s').2) (by omega) (by omega) d.1 d.2.2 (Nat.le_trans hle d.2.1) ((fr.trans f2).mono (fun _ _ z => z) (by omega) (by omega)) ck2 (by omega) ?_
        rw [← ed, show n - i = (n - (i + 1)) + 1 by omega]; rfl
  exact key F 0 σ S.1 0 (Nat.zero_le _) (by omega) hI.1.1 (by omega) (Nat.le_refl _) (fr0.mono (fun _ _ z => z.elim) (by decide) (by decide)) hK rfl rfl
end PC
