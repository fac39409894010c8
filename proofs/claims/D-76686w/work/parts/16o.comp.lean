set_option linter.unusedVariables false
set_option maxRecDepth 10000
/-! ===== component: telling what was read ===== -/
section PC
variable {σ τ υ σ0 : wS} {x m F t ro k n i : Nat} {s s0 : mS} {S : gS} {K K' : Nat → Nat} {P P' : Nat → Nat → Prop} {a b c d : Nat} {f : Nat → Int64} {L : Nat → Int32}
theorem pS1_inv {D kd p i0 j : Nat} (h : pS1 s0 L n D kd p i0 i = Sum.inr (j, c)) (hi : i ≤ n) : ∃ x1 x2, psr s0 L n D (i + 1) = Sum.inr (x1, x2) ∧ x2.testBit (kcl kd p) = true ∧ j = x1 + 1 ∧ i + 1 ≤ n := by
  unfold pS1 at h
  cases h3 : mst L n [40] i with
  | inl z => rw [h3] at h; cases h
  | inr j1 =>
    rw [h3] at h
    dsimp only at h
    obtain ⟨e1, l1⟩ := mst_inr _ _ _ hi h3
    have e1' : j1 = i + 1 := e1
    subst e1'
    cases h4 : psr s0 L n D (i + 1) with
    | inl z => rw [h4] at h; cases h
    | inr y =>
      obtain ⟨y1, y2⟩ := y
      rw [h4] at h
      dsimp only at h
      cases h5 : mst L n [41] y1 with
      | inl z => rw [h5] at h; cases h
      | inr j3 =>
        rw [h5] at h
        dsimp only at h
        rw [mst1] at h5
        split at h5
        · cases h5
          split at h
          · rename_i hb
            cases h
            exact ⟨y1, y2, rfl, hb, rfl, l1⟩
          · cases h
        · cases h5
theorem pS2_inv {D kd p i0 j : Nat} (h : pS2 s0 L n D kd p i0 i = Sum.inr (j, c)) (hi : i ≤ n) : ∃ x1 x2 y1 y2, psr s0 L n D (i + 1) = Sum.inr (x1, x2) ∧ psr s0 L n D (x1 + 1) = Sum.inr (y1, y2) ∧ (x2.testBit p = true ∧ y2.testBit p = true) ∧ j = y1 + 1 ∧ i + 1 ≤ n ∧ x1 + 1 ≤ n := by
  unfold pS2 at h
  cases h3 : mst L n [40] i with
  | inl z => rw [h3] at h; cases h
  | inr j1 =>
    rw [h3] at h
    dsimp only at h
    obtain ⟨e1, l1⟩ := mst_inr _ _ _ hi h3
    have e1' : j1 = i + 1 := e1
    subst e1'
    cases h4 : psr s0 L n D (i + 1) with
    | inl z => rw [h4] at h; cases h
    | inr y =>
      obtain ⟨x1, x2⟩ := y
      rw [h4] at h
      dsimp only at h
      cases h5 : mst L n [44] x1 with
      | inl z => rw [h5] at h; cases h
      | inr j3 =>
        rw [h5] at h
        dsimp only at h
        have e3 : j3 = x1 + 1 ∧ x1 + 1 ≤ n := by
          rw [mst1] at h5
          split at h5
          · rename_i hh
            cases h5
            exact ⟨rfl, hh.1⟩
          · cases h5
        obtain ⟨e3, l3⟩ := e3
        subst e3
        cases h6 : psr s0 L n D (x1 + 1) with
        | inl z => rw [h6] at h; cases h
        | inr w =>
          obtain ⟨w1, w2⟩ := w
          rw [h6] at h
          dsimp only at h
          cases h7 : mst L n [41] w1 with
          | inl z => rw [h7] at h; cases h
          | inr j5 =>
            rw [h7] at h
            dsimp only at h
            rw [mst1] at h7
            split at h7
            · cases h7
              split at h
              · rename_i hb
                cases h
                simp at hb
                exact ⟨x1, x2, w1, w2, rfl, h6, hb, rfl, l1, l3⟩
              · cases h
            · cases h7
theorem psr_inv {D j kd : Nat} (hk : kdl (ltr L n i) = kd) (h : psr s0 L n (D + 1) i = Sum.inr (j, c)) (hi : i ≤ n) (hu : und s0 kd < 1000) : kd ≠ 0 ∧ ∃ p, p < und s0 kd ∧ p = dgv L (i + (WB (lix kd)).length) ∧ pS0 s0 L n D kd i (i + (WB (lix kd)).length) = Sum.inr (j, c) ∧ i + (WB (lix kd)).length < n ∧ dgt L n (und s0 kd) (i + (WB (lix kd)).length) = some p := by
  have kc := kdl_c (ltr L n i)
  have k0 : kd ≠ 0 := fun z => by rw [psr_k hk, if_pos z] at h; cases h
  rw [psr_2 hk k0] at h
  have e := (wdx_b kd (by omega)).1
  cases h1 : mst L n (WB (wdx kd)) i with
  | inl z => rw [h1] at h; cases h
  | inr j0 =>
    rw [h1] at h
    dsimp only at h
    have e0 := (mst_inr _ _ _ hi h1).1
    have el : i + (WB (lix kd)).length = j0 + 1 := by rw [e, List.length_append, e0]; rfl
    split at h
    · refine ⟨k0, ?_⟩
      rw [el]
      have h' := h
      unfold pS0 at h
      cases h2 : dgt L n (und s0 kd) (j0 + 1) with
      | none => rw [h2] at h; cases h
      | some p =>
        obtain ⟨p1, p2, p3, -⟩ := dgt_some hu h2
        exact ⟨p, p2, p3, h', p1, rfl⟩
    · cases h
def PT (m g o : Nat) : Prop := o = m ∧ g ∈ GTe
/-- what telling does -/
def TlX (F m n : Nat) (s0 : mS) (L : Nat → Int32) (D : Nat) : Prop := ∀ (i j c R' : Nat) (σ : wS) (s : mS) (o : Nat) (Q : Int32 → wS → Prop) (Xh : Nat → Nat → wS → Prop) (Dd : Nat → Prop), D ≤ R' → psr s0 L n D i = Sum.inr (j, c) → SD Dd σ s0 L n D i o → CM σ m s → CFd σ m s → MW s → (∀ k, 10 ≤ k → s k = s0 k) → i ≤ n → oI σ 2318 m = 0 → (j - i ≤ rC σ ∧ 7 * (j - i) ≤ rS σ) →
  (mN (tlr s0 L n D i s).1 ≤ 64 → ∀ τ, Fr (PT m) (j - i) (7 * (j - i)) σ τ → CM τ m (tlr s0 L n D i s).1 → CFd τ m (tlr s0 L n D i s).1 → oI τ 2318 m = 0 → Q (nI (tlr s0 L n D i s).2) τ) →
  (64 < mN (tlr s0 L n D i s).1 → ∀ q σ1 τ, Fr (PT m) (j - i) (7 * (j - i)) σ σ1 → Fr (fun _ _ => False) 1 7 σ1 τ → RfX 7 σ1 τ q → Xh 25 q τ) → v_X41v_tell F R' σ o (some m) Q Xh
/-- the last telling -/
theorem c_telR {a : mS} {y : X4} {A B : Nat} {Q : Int32 → wS → Prop} {Xh : Nat → Nat → wS → Prop} {X Y : Int32} (hC : CM σ m a) (hf : CFd σ m a) (hW : MW a) (ho : ok4x a y) (hx : Im (y.1 ≠ 1) (Po a X y.2.2.1)) (hy : Im (5 ≤ y.1) (Po a Y y.2.2.2)) (n0 : oI σ 2318 m = 0) (f0 : Fr (PT m) A B σ0 σ) (hr : 1 ≤ rC σ ∧ 7 ≤ rS σ) (hF : 200 ≤ F)
    (ok : mN (tel a y).1 ≤ 64 → ∀ τ, Fr (PT m) (A + 1) (B + 7) σ0 τ → CM τ m (tel a y).1 → CFd τ m (tel a y).1 → oI τ 2318 m = 0 → Q (nI (tel a y).2) τ)
    (full : 64 < mN (tel a y).1 → ∀ q σ1 τ, Fr (PT m) (A + 1) (B + 7) σ0 σ1 → Fr (fun _ _ => False) 1 7 σ1 τ → RfX 7 σ1 τ q → Xh 25 q τ) : w_X22_tell F σ m (nI y.1) (nI y.2.1) X Y Q Xh := by
  have hN := hW.1.2.2
  have f1 : Fr (PT m) (A + 1) (B + 7) σ0 σ := f0.mono (fun _ _ z => z) (by omega) (by omega)
  have et : tel a y = (match lik a y.1 y.2.1 y.2.2.1 y.2.2.2 with
    | some i => (a, R a (a 6 i))
    | none => (nwx a y.1 y.2.1 y.2.2.1 y.2.2.2, mG a)) := by
    unfold tel lk4
    cases lik a y.1 y.2.1 y.2.2.1 y.2.2.2 <;> rfl
  refine c_tell hC hf hW ho hx hy hr hF (fun e hl => ?_) (fun hl h64 q τ f r => ?_) (fun hl hlt τ f C2 D2 n2 => ?_)
  · rw [hl] at et
    dsimp only at et
    rw [et] at ok
    exact ok hN σ f1 hC hf n0
  · rw [hl] at et
    dsimp only at et
    rw [et] at full
    refine full ?_ q σ τ f1 f r
    have := (nwx_old (s := a) (k := y.1) (p := y.2.1) (x := y.2.2.1) (y := y.2.2.2) hW.1.1.1).2.2.2.1
    show 64 < mN (nwx a y.1 y.2.1 y.2.2.1 y.2.2.2)
    omega
  · rw [hl] at et
    dsimp only at et
    rw [et] at ok
    have := (nwx_old (s := a) (k := y.1) (p := y.2.1) (x := y.2.2.1) (y := y.2.2.2) hW.1.1.1).2.2.2.1
    exact ok (show mN (nwx a y.1 y.2.1 y.2.2.1 y.2.2.2) ≤ 64 by omega) τ (f0.trans f) C2 D2 n2
theorem und_le {kd : Nat} (h8 : s0 10 0 ≤ 8) : und s0 kd ≤ 8 := by unfold und; split; exact h8; split <;> decide
theorem c_tells (hF : 1000 ≤ F) (hn : n ≤ 160) (hb : ∀ p, p < s0 10 0 → s0 12 p < 16) (h8 : s0 10 0 ≤ 8) : ∀ D, TlX F m n s0 L D := by
  intro D
  induction D with
  | zero => intro i j c R' σ s o Q Xh Dd _ h; cases h
  | succ D ih =>
    intro i j c R' σ s o Q Xh Dd hR hp sd hC hf hW hk hi n0 hr ok full
    obtain ⟨⟨hs, l, no⟩, hmv, hN⟩ := id hW.1
    have kc := kdl_c (ltr L n i)
    have hu := und_le (kd := kdl (ltr L n i)) h8
    have hpb := psr_b hb h8 hn (D + 1) i j c hi hp
    obtain ⟨k0, p, p1, p2, hp0, hin, hdg⟩ := psr_inv rfl hp hi (by omega)
    obtain ⟨len, -⟩ := lix_len (k := kdl (ltr L n i)) (by omega)
    have etl := tlr_k (s := s0) (L := L) (n := n) (D := D) (i := i) (m := s) rfl
    obtain ⟨R'', rfl⟩ : ∃ R'', R' = R'' + 1 := ⟨R' - 1, by omega⟩
    obtain ⟨-, sd⟩ := sd
    generalize kdl (ltr L n i) = kd at *
    have e10 : s 10 = s0 10 := hk 10 (by decide)
    have e12 : s 12 = s0 12 := hk 12 (by decide)
    have fr00 : Fr (PT m) 0 0 σ σ := fr0.mono (fun _ _ z => z.elim) (by decide) (by decide)
    show vm_X41v_tell F (v_X41v_tell F R'') σ o (some m) Q Xh
    unfold vm_X41v_tell
    unfold pS0 at hp0
    rw [hdg] at hp0
    dsimp only at hp0
    have mwT : ∀ (s' : mS) i' j' c', MW s' → (∀ k, 10 ≤ k → s' k = s0 k) → i' ≤ n → psr s0 L n D i' = Sum.inr (j', c') → TOK s0 L n D i' s' j' c' := fun s' i' j' c' h1 h2 h3 h4 => tlr_ok hn hb h8 D i' s' j' c' h1.1.1.1 h1.1.1.2.1 h1.1.1.2.2 h2 (by have := h1.1.2.2; omega) h3 h4
    have mwR : ∀ (s' : mS) i' j' c', MW s' → TOK s0 L n D i' s' j' c' → mN (tlr s0 L n D i' s').1 ≤ 64 → MW (tlr s0 L n D i' s').1 := fun s' i' j' c' h1 h2 h3 => mw_k h1 h2.1 h2.2.1.1.2.2.2 h2.2.1.1.1.1 h3
    by_cases k1 : kd = 1
    · subst k1
      rw [if_pos rfl] at sd etl hp0
      cases hp0
      have l5 : (WB (lix 1)).length = 5 := by rw [len]; rfl
      rw [l5] at p2
      rw [sd.1]
      refine vT ⟨sd.1, m, rfl, hC.1.1, ?_⟩
      rw [sd.2, ← p2]
      rw [← p2] at etl
      rw [etl] at ok full
      have hp' : p < s0 10 0 := p1
      refine c_telR (y := (1, p, 0, 0)) hC hf hW ⟨Or.inl rfl, fun _ => ⟨by show p < s 10 0; rw [e10]; exact hp', by show s 12 p < 16; rw [e12]; exact hb p hp'⟩, fun z => absurd z (show ¬ 1 = 3 by decide), fun z => absurd z (show ¬ 4 ≤ 1 by decide), fun z => absurd rfl z, fun z => absurd z (show ¬ 5 ≤ 1 by decide), fun z => absurd z (show ¬ 1 = 4 by decide)⟩ (fun z => absurd rfl z) (fun z => absurd z (show ¬ 5 ≤ 1 by decide)) n0 fr00 (by omega) (by omega) (fun h64 τ f' => ok h64 τ (f'.mono (fun _ _ z => z) (by omega) (by omega))) (fun h64 q σ1 τ f' => full h64 q σ1 τ (f'.mono (fun _ _ z => z) (by omega) (by omega)))
    rw [if_neg k1] at sd etl hp0
    by_cases k5 : kd < 5
    · rw [if_pos k5] at sd etl hp0
      have k34 : kd = 3 ∨ kd = 4 := by omega
      obtain ⟨x1, x2, q1, q2, q3, q4⟩ := pS1_inv hp0 (by omega)
      obtain ⟨s1, s2, s3, o1, s4, s5⟩ := sd
      have i1 : i + (WB (lix kd)).length + 1 + 1 = i + (WB (lix kd)).length + 2 := by omega
      rw [i1] at q1
      have l5 : 5 ≤ (WB (lix kd)).length := by rw [len]; split <;> decide
      have pb := psr_b hb h8 hn D _ x1 x2 (by omega) q1
      have T := mwT s _ x1 x2 hW hk (by omega) q1
      rw [← p2] at s3 etl
      obtain ⟨t1, t2, t3, t4, t5, -⟩ := id T
      rw [s1]
      refine vI (by decide) (vT ⟨s1, o1, s4, ?_⟩)
      have hpk : p < (if kd = 3 then 8 else 4) := by
        have : und s0 kd = if kd = 3 then 8 else 4 := by unfold und; rw [if_neg k1]
        rw [← this]; exact p1
      refine ih _ x1 x2 R'' σ s o1 _ _ Dd (by omega) q1 s5 hC hf hW hk (by omega) n0 (by omega) (fun h64 τ f1 C1 D1 n1 => ?_) (fun h64 q σ1 τ f1 => ?_)
      · refine ⟨m, rfl, C1.1.1, ?_⟩
        rw [s2, s3]
        have W1 := mwR s _ x1 x2 hW T h64
        rw [etl] at ok full
        generalize htl : tlr s0 L n D (i + (WB (lix kd)).length + 2) s = r at *
        obtain ⟨g1, g2⟩ := f1.2.2.1
        refine c_telR (y := (kd, p, r.2, r.2)) C1 D1 W1 ⟨by omega, fun z => absurd z k1, fun z => ?_, fun z => ?_, fun _ => t3, fun _ => t3, fun z => ?_⟩ (fun _ => ⟨r.2, rfl, t3, rfl⟩) (fun z => absurd z (show ¬ 5 ≤ kd by omega)) n1 f1 (by omega) (by omega) (fun h64' τ' f' => ok h64' τ' (f'.mono (fun _ _ z => z) (by omega) (by omega))) (fun h64' q' σ1' τ' f' => full h64' q' σ1' τ' (f'.mono (fun _ _ z => z) (by omega) (by omega)))
        · have z' : kd = 3 := z
          rw [if_pos z'] at hpk; exact hpk
        · have z' : 4 ≤ kd := z
          rw [if_neg (by omega)] at hpk; exact hpk
        · have z' : kd = 4 := z
          show (r.1 9 (R r.1 r.2)).testBit p = true
          rw [t4, t5]
          unfold kcl at q2
          rw [if_neg (by omega)] at q2
          exact q2
      · refine full ?_ q σ1 τ (f1.mono (fun _ _ z => z) (by omega) (by omega))
        rw [etl]
        have := (tel_oldR (x := (kd, p, (tlr s0 L n D (i + (WB (lix kd)).length + 2) s).2, (tlr s0 L n D (i + (WB (lix kd)).length + 2) s).2)) t1.1).1.1.1
        omega
    · rw [if_neg k5] at sd etl hp0
      have k56 : kd = 5 ∨ kd = 6 := by omega
      obtain ⟨x1, x2, y1, y2, q1, q2, q3, q4, q5, q6⟩ := pS2_inv hp0 (by omega)
      obtain ⟨s1, s2, s3, o1, o2, s4, s5, s6, s7⟩ := sd
      have l5 : (WB (lix kd)).length = 5 := by rw [len, if_neg (by omega)]
      rw [l5] at p2
      have i1 : i + (WB (lix kd)).length + 1 + 1 = i + 7 := by omega
      rw [i1] at q1
      have epse : pse s0 L n D (i + 7) = x1 := by unfold pse; rw [q1]
      rw [epse] at s7 etl
      have pb := psr_b hb h8 hn D _ x1 x2 (by omega) q1
      have pb2 := psr_b hb h8 hn D _ y1 y2 (by omega) q2
      have T := mwT s _ x1 x2 hW hk (by omega) q1
      rw [← p2] at s3 etl
      obtain ⟨t1, t2, t3, t4, t5, t6, -⟩ := id T
      have hka : ∀ k, 10 ≤ k → (tlr s0 L n D (i + 7) s).1 k = s0 k := fun k hk' => (t2.1.2.2.2 k hk').trans (hk k hk')
      have T2 : TOK s0 L n D (x1 + 1) (tlr s0 L n D (i + 7) s).1 y1 y2 := tlr_ok hn hb h8 D _ _ y1 y2 t1.1 t1.2.1 t1.2.2 hka (by omega) (by omega) q2
      obtain ⟨u1, u2, u3, u4, u5, -⟩ := id T2
      have hpk : p < 4 := by
        have : und s0 kd = 4 := by unfold und; rw [if_neg k1, if_neg (by omega)]
        rw [← this]; exact p1
      rw [s1]
      refine vI (by decide) (vI (by decide) (vT ⟨s1, o1, s4, ?_⟩))
      have big : mN (tlr s0 L n D (x1 + 1) (tlr s0 L n D (i + 7) s).1).1 ≤ mN (tlr s0 L n (D + 1) i s).1 := by
        rw [etl]
        exact (tel_oldR (x := (kd, p, (tlr s0 L n D (i + 7) s).2, (tlr s0 L n D (x1 + 1) (tlr s0 L n D (i + 7) s).1).2)) u1.1).1.1.1
      refine ih _ x1 x2 R'' σ s o1 _ _ Dd (by omega) q1 s6 hC hf hW hk (by omega) n0 (by omega) (fun h64 τ f1 C1 D1 n1 => ?_) (fun h64 q σ1 τ f1 => ?_)
      rotate_left
      · refine full ?_ q σ1 τ (f1.mono (fun _ _ z => z) (by omega) (by omega))
        have := u2.1.1.1
        omega
      have W1 := mwR s _ x1 x2 hW T h64
      obtain ⟨g1, g2⟩ := f1.2.2.1
      have nGd : ∀ g ∈ GSd, g ∉ GTe := by decide
      have oc : oC σ o = 44 + 1 := s1
      have s5' : oR τ 4504 o = some o2 := by rw [f1.R oc (fun z => absurd z.2 (nGd _ (by decide)))]; exact s5
      have s7' := s7.fr (fun o h => h) f1 (fun g hg o _ z => nGd g hg z.2) _ _ _
      refine ⟨o2, s5', ?_⟩
      refine ih _ y1 y2 R'' τ _ o2 _ _ Dd (by omega) q2 s7' C1 D1 W1 hka (by omega) n1 (by omega) (fun h64' τ2 f2 C2 D2 n2 => ?_) (fun h64' q σ1 τ' f2 => ?_)
      rotate_left
      · refine full (by omega) q σ1 τ' ((f1.trans f2).mono (fun _ _ z => z) (by omega) (by omega))
      have W2 := mwR _ _ y1 y2 W1 T2 h64'
      refine ⟨m, rfl, C2.1.1, ?_⟩
      have k2 : oI τ 4502 o = nI kd := by rw [f1.I oc (fun z => absurd z.2 (nGd _ (by decide)))]; exact s2
      have k3 : oI τ 4200 o = nI p := by rw [f1.I oc (fun z => absurd z.2 (nGd _ (by decide)))]; exact s3
      rw [k2, k3]
      rw [etl] at ok full
      have F2 := f1.trans f2
      obtain ⟨g3, g4⟩ := F2.2.2.1
      have hx1 : (tlr s0 L n D (i + 7) s).2 < mG (tlr s0 L n D (x1 + 1) (tlr s0 L n D (i + 7) s).1).1 := Nat.lt_of_lt_of_le t3 u2.1.1.2
      generalize (tlr s0 L n D (i + 7) s).2 = ga at *
      generalize tlr s0 L n D (x1 + 1) (tlr s0 L n D (i + 7) s).1 = r at *
      refine c_telR (y := (kd, p, ga, r.2)) C2 D2 W2 ⟨by omega, fun z => absurd z k1, fun z => ?_, fun _ => hpk, fun _ => hx1, fun _ => u3, fun z => ?_⟩ (fun _ => ⟨ga, rfl, hx1, rfl⟩) (fun _ => ⟨r.2, rfl, u3, rfl⟩) n2 F2 (by omega) (by omega) (fun h64' τ' f' => ok h64' τ' (f'.mono (fun _ _ z => z) (by omega) (by omega))) (fun h64' q' σ1' τ' f' => full h64' q' σ1' τ' (f'.mono (fun _ _ z => z) (by omega) (by omega)))
      · have z' : kd = 3 := z
        omega
      · have z' : kd = 4 := z
        omega
end PC
