set_option linter.unusedVariables false
set_option maxRecDepth 10000
/-! ===== component: finds ===== -/
section PC
variable {σ τ υ σ0 : wS} {x m F : Nat} {s : mS} {S : gS} {K K' : Nat → Nat} {P P' : Nat → Nat → Prop} {a b c d r : Nat}
theorem fs_w (h : oR σ 303 (K 2) = some (K 0) ∧ oI σ 304 (K 2) = nI a ∧ oI σ 305 (K 2) = nI b) (w : Wq [306] (K 2) σ τ) : oR τ 303 (K 2) = some (K 0) ∧ oI τ 304 (K 2) = nI a ∧ oI τ 305 (K 2) = nI b := by
  rw [((w.sam (by decide)) _).1.2.2.1, ((w.sam (by decide)) _).1.1, ((w.sam (by decide)) _).1.1]
  exact h
theorem c_findsBy {Q : Int32 → wS → Prop} {e r : Nat} (hK : CK σ x K S) (hI : IV S) (he : e < mN S.1) (h8 : S.1 8 e = 0) (k1 : S.1 2 e ≠ 1) (h7 : r < 7) (hF : 1000 ≤ F) (fs : oR σ 303 (K 2) = some (K 0) ∧ oI σ 304 (K 2) = nI e ∧ oI σ 305 (K 2) = nI r)
    (h0 : sec S.1 e r = none → ∀ τ, Fr (PFi K) 0 0 σ τ → oR τ 303 (K 2) = some (K 0) ∧ oI τ 304 (K 2) = nI e ∧ oI τ 305 (K 2) = nI r → Q 0 τ) (hS : ∀ f, sec S.1 e r = some f → ∀ τ, Fr (PFi K) 0 0 σ τ → FS τ K e r f → Q 1 τ) : w_X2_findsBy F σ (K 2) (lN (mbs S.1 (R S.1 (S.1 4 e)) (mN S.1))) Q := by
  have hs := hI.1.1.1.1.1
  have hG := hs.2.1
  have hN := hI.1.1.1.2.2
  have Fbs := hI.1.1.1.2.1.2.2
  obtain ⟨C, ⟨f1, -⟩, -⟩ := hK.1.2.1
  obtain ⟨n, n1, n2, n3, n4⟩ := f1 e he r h7
  obtain ⟨oe, e1, xe⟩ := (C.2.1 e he).1
  obtain ⟨rr, rc⟩ := hK.1.1.2.2.2.2.1 r h7
  have f00 : Fr (PFi K) 0 0 σ σ := fr0.mono (fun _ _ z => z.elim) (by decide) (by decide)
  have ke := sx_2 hs he
  unfold w_X2_findsBy
  rw [fs.1, fs.2.1, fs.2.2, nIl_7, nI_mul, nI_add, nI_clamp (n := e * 7 + r) (by omega), nI_clamp (n := r) (by omega), nI_clamp (n := e) (by omega)]
  refine ⟨hK.1.1.2.1.2.1, K 0, rfl, C.1.1, vp_inN (by omega) (by decide), ?_⟩
  intro v6 hv6
  refine ⟨vp_inN h7 (by decide), vp_inN (by omega) (by decide), oe, e1, v_kind xe ke ⟨K (20 + r), rr, c_begins h7 rc ke ?_⟩⟩
  cases hb : bgr (S.1 2 e) r with
  | false =>
    rw [if_neg (show ¬ false = true by decide), if_pos rfl]
    exact h0 (sec_bg h7 hb) σ f00 fs
  | true =>
    rw [if_pos rfl, if_neg (by decide), fs.2.2, nI_clamp (n := r) (by omega)]
    refine ⟨vp_inN h7 (by decide), K (20 + r), rr, c_alone h7 rc ?_⟩
    by_cases r0 : r = 0
    · subst r0
      rw [if_pos rfl, if_neg (by decide)]
      have k5 : S.1 2 e = 5 := by unfold bgr at hb; simpa using hb
      refine bnd_I fun τ w v => ?_
      have fr := f00.fw w (by decide)
      have s2 := fs_w fs w
      have en : n = S.1 16 (wi e 0 64) := n3 rfl
      have es : sec S.1 e 0 = if S.1 2 e = 5 ∧ S.1 16 (wi e 0 64) = 0 then some 64 else none := rfl
      rw [hv6, n2]
      by_cases z : n = 0
      · rw [if_pos ((lN_0 n1).mpr z)]
        rw [if_pos ⟨k5, by omega⟩] at es
        exact hS 64 es τ fr ⟨s2.1, s2.2.1, s2.2.2, v⟩
      · rw [if_neg (fun y => z ((lN_0 n1).mp y))]
        rw [if_neg (fun y => z (by omega))] at es
        exact h0 es τ fr s2
    · rw [if_neg r0, if_pos rfl, hv6, n2, show (-1 : Int64) = lN (2 ^ 64 - 1) from by decide, xorL, andL]
      have es : sec S.1 e r = fnd (can S.1 e r) (mN S.1) 0 := by unfold sec; rw [if_neg r0, if_neg k1]
      have hm : mbs S.1 (R S.1 (S.1 4 e)) (mN S.1) < 2 ^ 64 := Nat.lt_of_lt_of_le (mbs_lt _) (Nat.pow_le_pow_right (by decide) hN)
      have bt : ∀ f, (mbs S.1 (R S.1 (S.1 4 e)) (mN S.1) &&& (n ^^^ (2 ^ 64 - 1))).testBit f = ((decide (f < mN S.1) && (decide (S.1 8 f = 0) && decide (R S.1 (S.1 6 f) = R S.1 (S.1 4 e)))) && decide (S.1 16 (wi e r f) = 0)) := fun f => by
        rw [Nat.testBit_and, mbs_bit, Nat.testBit_xor, Nat.testBit_two_pow_sub_one]
        by_cases q : f < mN S.1
        · rw [n4 r0 f (by omega), decide_eq_true (show f < 64 by omega), decide_eq_true q]
          have := Fbs (wi e r f)
          by_cases y : S.1 16 (wi e r f) = 0
          · simp [y]
          · simp [show S.1 16 (wi e r f) = 1 by omega]
        · simp [q]
      refine c_second hK hI he (by omega) h7 hb (Nat.lt_of_le_of_lt Nat.and_le_left hm) (fun f hf => ?_) (fun f hf hc => ?_) hF fs (fun z τ fr s2 => ⟨Or.inl rfl, h0 (es.trans z) τ fr s2⟩) (fun f z τ fr s2 => ⟨Or.inr rfl, hS f (es.trans z) τ fr s2⟩)
      · rw [bt f] at hf
        simp at hf
        exact ⟨hf.1.1, hf.1.2.1, hf.1.2.2, hf.2⟩
      · rw [bt f]
        unfold can at hc
        simp at hc
        simp [hf, hc.1, hc.2.1, hc.2.2.2]
theorem rlf_k1 {e : Nat} (k1 : s 2 e = 1) : ∀ n r, rlf s e n r = none := by
  intro n
  induction n with
  | zero => intro r; rfl
  | succ n ih =>
    intro r
    have : sec s e r = none := by
      unfold sec
      by_cases r0 : r = 0
      · rw [if_pos r0, if_neg (fun z => by omega)]
      · rw [if_neg r0, if_pos k1]
    unfold rlf
    rw [this]
    exact ih (r + 1)
theorem c_finds {Q : Int32 → wS → Prop} (hK : CK σ x K S) (hI : IV S) (hF : 1000 ≤ F) (h0 : fnx S.1 (mN S.1) 0 = none → ∀ τ, Fr (PFi K) 0 0 σ τ → Q 0 τ) (hS : ∀ e r f, fnx S.1 (mN S.1) 0 = some (e, r, f) → ∀ τ, Fr (PFi K) 0 0 σ τ → FS τ K e r f → Q 1 τ) : w_X2_finds F σ (K 2) (some (K 0)) Q := by
  have hs := hI.1.1.1.1.1
  have hG := hs.2.1
  have hN := hI.1.1.1.2.2
  have hA := hI.1.2
  have f00 : Fr (PFi K) 0 0 σ σ := fr0.mono (fun _ _ z => z.elim) (by decide) (by decide)
  unfold w_X2_finds
  refine ⟨hK.1.1.2.1.2.1, bnd_R fun τ1 w1 v1 => bnd_I fun τ2 w2 v2 => ?_⟩
  have key : ∀ n e τ, e ≤ mN S.1 → mN S.1 - e < n → Fr (PFi K) 0 0 σ τ → oR τ 303 (K 2) = some (K 0) → oI τ 304 (K 2) = nI e → fnx S.1 (mN S.1 - e) e = fnx S.1 (mN S.1) 0 → l_X2_finds_10 F (K 2) Q n τ := by
    intro n
    induction n with
    | zero => intro e _ _ h; omega
    | succ n ih =>
      intro e τ he hn fr s1 s2 ef
      have hk := ck_fi hK hA fr
      have C := hk.1.2.1.1
      have k2 := hk.1.1.2.1.2.1
      unfold l_X2_finds_10
      rw [s1, s2]
      refine ⟨k2, K 0, rfl, C.1.1, ?_⟩
      rw [C.1.2.2.1]
      by_cases q : mN S.1 ≤ e
      · rw [if_pos (nI_le q (by omega))]
        rw [show mN S.1 - e = 0 by omega] at ef
        exact h0 ef.symm τ fr
      rw [if_neg (nI_ge (by omega) (by omega))]
      have he' : e < mN S.1 := by omega
      have em : mN S.1 - e = (mN S.1 - (e + 1)) + 1 := by omega
      have ve := vp_inN (show e < 64 by omega) (by decide)
      have nxt : ∀ τ', Fr (PFi K) 0 0 σ τ' → oR τ' 303 (K 2) = some (K 0) → oI τ' 304 (K 2) = nI e → (S.1 8 e ≠ 0 ∨ rlf S.1 e 7 0 = none) → bnd (sI τ' 304 (K 2) (nI e + (1 : Int32))) fun σ51 => l_X2_finds_10 F (K 2) Q n σ51 := fun τ' fr' t1 t2 z => by
        refine bnd_I fun τ3 w3 v3 => ?_
        refine ih (e + 1) τ3 (by omega) (by omega) (fr'.fw w3 (by decide)) ?_ ?_ ?_
        · rw [((w3.sam (by decide)) _).1.2.2.1]; exact t1
        · rw [v3, nIl_1, nI_add]
        · rw [← ef, em]
          show _ = (if S.1 8 e = 0 then _ else _)
          by_cases y : S.1 8 e = 0
          · rw [if_pos y]
            rw [z.resolve_left (fun u => u y)]
          · rw [if_neg y]
      refine ⟨ve, ?_⟩
      rw [nI_clamp (by omega), (C.2.1 e he').2.2.2.1]
      have d8 := (sh_bnd hs he').2.2.2
      by_cases c8 : S.1 8 e = 0
      rotate_left
      · rw [if_neg (fun z => c8 ((nI_n0 (by omega)).mp z))]
        exact nxt τ fr s1 s2 (Or.inl c8)
      rw [if_pos ((nI_n0 (by omega)).mpr c8)]
      obtain ⟨oe, e1, xe⟩ := (C.2.1 e he').1
      have ke := sx_2 hs he'
      refine ⟨oe, e1, v_inputs xe ke ?_⟩
      by_cases k1 : S.1 2 e = 1
      · rw [if_pos (show nI (inp (S.1 2 e)) = 0 by rw [k1]; rfl), s2]
        exact nxt τ fr s1 s2 (Or.inr (rlf_k1 k1 _ _))
      have i0 : ¬ nI (inp (S.1 2 e)) = 0 := by
        have : 1 ≤ inp (S.1 2 e) ∧ inp (S.1 2 e) ≤ 2 := by unfold inp; rw [if_neg k1]; split <;> decide
        exact nI_eqf (b := 0) (by omega) (by decide) (by omega)
      rw [if_neg i0, s1, s2, nI_clamp (by omega)]
      obtain ⟨g, b1, b2, b3⟩ := (C.2.1 e he').2.1 k1
      refine ⟨K 0, rfl, C.1.1, ve, ?_⟩
      rw [b1]
      refine c_find C hs hN b2 (by omega) ?_
      have r4 := sh_lt hs (sx_4 hs he' k1)
      rw [b3]
      refine c_members C hs hN r4 (by omega) (bnd_I fun τ3 w3 v3 => ?_)
      have fr3 := fr.fw w3 (by decide)
      have efr : (match rlf S.1 e 7 0 with | some rf => some (e, rf) | none => fnx S.1 (mN S.1 - (e + 1)) (e + 1)) = fnx S.1 (mN S.1) 0 := by
        rw [← ef, em]
        show _ = (if S.1 8 e = 0 then _ else _)
        rw [if_pos c8]
        cases rlf S.1 e 7 0 <;> rfl
      have inner : ∀ j r τ', r ≤ 7 → 7 - r < j → Fr (PFi K) 0 0 σ τ' → oR τ' 303 (K 2) = some (K 0) → oI τ' 304 (K 2) = nI e → oI τ' 305 (K 2) = nI r → rlf S.1 e (7 - r) r = rlf S.1 e 7 0 → l_X2_finds_92 F (K 2) Q (fun σ46 => ok2 σ46 (K 2) ∧ bnd (sI σ46 304 (K 2) ((oI σ46 304 (K 2)) + (1 : Int32))) fun σ48 => l_X2_finds_10 F (K 2) Q n σ48) j τ' (lN (mbs S.1 (R S.1 (S.1 4 e)) (mN S.1))) := by
        intro j
        induction j with
        | zero => intro r _ _ h; omega
        | succ j ihj =>
          intro r τ' hr hj fr' t1 t2 t3 er
          have hk' := ck_fi hK hA fr'
          unfold l_X2_finds_92
          rw [t3]
          refine ⟨hk'.1.1.2.1.2.1, ?_⟩
          by_cases q : r = 7
          · rw [if_pos (show (7 : Int32) ≤ nI r from nI_le (a := 7) (by omega) (by omega))]
            refine ⟨hk'.1.1.2.1.2.1, ?_⟩
            rw [t2]
            rw [show 7 - r = 0 by omega] at er
            exact nxt τ' fr' t1 t2 (Or.inr er.symm)
          · rw [if_neg (show ¬ (7 : Int32) ≤ nI r from nI_ge (b := 7) (by omega) (by decide))]
            have em7 : 7 - r = (7 - (r + 1)) + 1 := by omega
            rw [em7] at er
            refine c_findsBy hk' hI he' c8 k1 (by omega) hF ⟨t1, t2, t3⟩ (fun hz τ4 f4 s4 => ?_) (fun f hz τ4 f4 s4 => ?_)
            · rw [if_pos rfl, s4.2.2]
              have fr4 : Fr (PFi K) 0 0 σ τ4 := fr'.trans f4
              refine bnd_I fun τ5 w5 v5 => ?_
              refine ihj (r + 1) τ5 (by omega) (by omega) (fr4.fw w5 (by decide)) ?_ ?_ ?_ ?_
              · rw [((w5.sam (by decide)) _).1.2.2.1]; exact s4.1
              · rw [((w5.sam (by decide)) _).1.1]; exact s4.2.1
              · rw [v5, nIl_1, nI_add]
              · rw [← er]
                show _ = (match sec S.1 e r with | some f => some (r, f) | none => _)
                rw [hz]
            · rw [if_neg (by decide)]
              have er2 : rlf S.1 e 7 0 = some (r, f) := by
                rw [← er]
                show (match sec S.1 e r with | some f => some (r, f) | none => _) = _
                rw [hz]
              rw [er2] at efr
              exact hS e r f efr.symm τ4 (fr'.trans f4) s4
      refine inner F 0 τ3 (by omega) (by omega) fr3 ?_ ?_ v3 rfl
      · rw [((w3.sam (by decide)) _).1.2.2.1]; exact s1
      · rw [((w3.sam (by decide)) _).1.1]; exact s2
  refine key F 0 τ2 (Nat.zero_le _) (by omega) ((f00.fw w1 (by decide)).fw w2 (by decide)) ?_ v2 rfl
  rw [((w2.sam (by decide)) _).1.2.2.1]; exact v1
end PC
