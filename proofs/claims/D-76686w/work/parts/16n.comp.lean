set_option linter.unusedVariables false
set_option maxRecDepth 10000
/-! ===== component: reading, whole expressions ===== -/
section PC
variable {σ τ υ σ0 : wS} {x m F t ro k n i : Nat} {s : mS} {S : gS} {K K' : Nat → Nat} {P P' : Nat → Nat → Prop} {a b c d : Nat} {f : Nat → Int64}
theorem XF.mono {Xh : Nat → Nat → wS → Prop} {A B A' B' z : Nat} (h : XF Xh t A B σ z) (hA : A' ≤ A) (hB : B' ≤ B) : XF Xh t A' B' σ z := fun q τ f => h q τ (f.mono (fun _ _ z => z) hA hB)
def pS1 (s : mS) (L : Nat → Int32) (n R kd p i0 i : Nat) : Nat ⊕ (Nat × Nat) := match mst L n [40] i with
      | Sum.inl z => Sum.inl z
      | Sum.inr j1 => match psr s L n R j1 with
        | Sum.inl z => Sum.inl z
        | Sum.inr y => match mst L n [41] y.1 with
          | Sum.inl z => Sum.inl z
          | Sum.inr j3 => if y.2.testBit (kcl kd p) = true then Sum.inr (j3, if kd = 4 then 2 ^ p else y.2) else Sum.inl i0
def pS2 (s : mS) (L : Nat → Int32) (n R kd p i0 i : Nat) : Nat ⊕ (Nat × Nat) := match mst L n [40] i with
      | Sum.inl z => Sum.inl z
      | Sum.inr j1 => match psr s L n R j1 with
        | Sum.inl z => Sum.inl z
        | Sum.inr y => match mst L n [44] y.1 with
          | Sum.inl z => Sum.inl z
          | Sum.inr j3 => match psr s L n R j3 with
            | Sum.inl z => Sum.inl z
            | Sum.inr w => match mst L n [41] w.1 with
              | Sum.inl z => Sum.inl z
              | Sum.inr j5 => if (y.2.testBit p && w.2.testBit p) = true then Sum.inr (j5, if kd = 5 then y.2 ||| w.2 else y.2) else Sum.inl i0
def pS0 (s : mS) (L : Nat → Int32) (n R kd i0 i : Nat) : Nat ⊕ (Nat × Nat) := match dgt L n (und s kd) i with
  | none => Sum.inl i
  | some p => if kd = 1 then Sum.inr (i + 1, s 12 p) else if kd < 5 then pS1 s L n R kd p i0 (i + 1) else pS2 s L n R kd p i0 (i + 1)
theorem psr_2 {L : Nat → Int32} {R i kd : Nat} (hk : kdl (ltr L n i) = kd) (k0 : kd ≠ 0) : psr s L n (R + 1) i = match mst L n (WB (wdx kd)) i with
    | Sum.inl z => Sum.inl z
    | Sum.inr j => if j < n ∧ L j = 32 then pS0 s L n R kd i (j + 1) else Sum.inl j := by
  have kc := kdl_c (ltr L n i)
  rw [psr_k hk, if_neg k0, (wdx_b kd (by omega)).1, mst_app]
  cases mst L n (WB (wdx kd)) i with
  | inl z => rfl
  | inr j =>
    dsimp only
    rw [mst1]
    by_cases q : j < n ∧ L j = 32
    · rw [if_pos q, if_pos q]
      dsimp only
      unfold pS0
      cases dgt L n (und s kd) (j + 1) with
      | none => rfl
      | some p =>
        dsimp only
        by_cases k1 : kd = 1
        · rw [if_pos k1, if_pos k1]
        rw [if_neg k1, if_neg k1]
        by_cases k5 : kd < 5
        · rw [if_pos k5]
          unfold pS1
          cases mst L n [40] (j + 1 + 1) with
          | inl z => rfl
          | inr j1 =>
            dsimp only
            cases psr s L n R j1 with
            | inl z => rfl
            | inr y =>
              dsimp only
              rw [if_pos k5]
              cases mst L n [41] y.1 <;> rfl
        · rw [if_neg k5]
          unfold pS2
          cases mst L n [40] (j + 1 + 1) with
          | inl z => rfl
          | inr j1 =>
            dsimp only
            cases psr s L n R j1 with
            | inl z => rfl
            | inr y =>
              dsimp only
              rw [if_neg k5]
              cases mst L n [44] y.1 with
              | inl z => rfl
              | inr j3 =>
                dsimp only
                cases psr s L n R j3 with
                | inl z => rfl
                | inr w =>
                  dsimp only
                  cases mst L n [41] w.1 <;> rfl
    · rw [if_neg q, if_neg q]
/-- a whole expression of this kind, its digit read -/
theorem c_sgl {R kd p j0 : Nat} {Q : Option Nat → wS → Prop} {Xh : Nat → Nat → wS → Prop} (rc : RdX F t ro m k n f s R) (hb : ∀ p, p < s 10 0 → s 12 p < 16) (h8 : s 10 0 ≤ 8) (hk : kdl (ltr (Lf f) n i) = kd) (h34 : kd = 3 ∨ kd = 4) (hp : p < 8) (hi : i ≤ n) (hR : 210 ≤ i + 7 * (R + 1)) (hr : n - i + 1 ≤ rC σ ∧ 5 * (n - i) + 7 ≤ rS σ) (hj : i + (WB (lix kd)).length = j0) (hpv : p = dgv (Lf f) j0) (f2 : Fr (P4 t) 0 0 σ τ) (hd : Rd τ t ro m k n f s (j0 + 1)) (hn : j0 + 1 ≤ n) (hps : psr s (Lf f) n (R + 1) i = pS1 s (Lf f) n R kd p i (j0 + 1))
    (ok : ∀ j c, psr s (Lf f) n (R + 1) i = Sum.inr (j, c) → ∀ τ o, Fr (P4 t) (j - i) (5 * (j - i)) σ τ → Rd τ t ro m k n f s j → SD (fun o => oC σ o = 0) τ s (Lf f) n (R + 1) i o → oI τ 4201 o = nI c → Q (some o) τ)
    (hX : ∀ z, psr s (Lf f) n (R + 1) i = Sum.inl z → XF Xh t (n - i + 1) (5 * (n - i) + 7) σ z) : w_X39_single F (w_X39_expression F R) τ t (nI kd) (nI p) (nI i) Q Xh := by
  have n160 := hd.2.1.2.2
  obtain ⟨len, -⟩ := lix_len (k := kd) (by omega)
  have l5 : 5 ≤ (WB (lix kd)).length := by rw [len]; split <;> decide
  generalize hlen : (WB (lix kd)).length = len' at l5 hj len
  clear len
  obtain ⟨x2, y2⟩ := f2.2.2.1
  refine c_single rc hb h8 h34 hp hd hn (by omega) (by omega) (res := psr s (Lf f) n (R + 1) i) hps.symm (fun j c he υ o fr hd2 ho sd hc => ?_) (fun z he q υ f' => ?_)
  · have jb := psr_b hb h8 n160 (R + 1) i j c hi he
    refine ok j c he υ o ((f2.trans fr).mono (fun _ _ z => z) (by omega) (by omega)) hd2 ⟨oC0 f2.1 ho, ?_⟩ hc
    rw [hk, if_neg (by omega), if_pos (by omega), hlen]
    obtain ⟨s1, s2, s3, o1, s4, s5⟩ := sd
    refine ⟨s1, s2, by rw [s3, hpv, hj], o1, s4, ?_⟩
    rw [show i + len' + 2 = j0 + 1 + 1 by omega]
    exact s5.fr (fun o h => oC0 f2.1 h) (Fr.refl (P := fun _ _ => False)) (fun _ _ _ _ z => z) _ _ _
  · exact (hX z he) q υ ((f2.trans f').mono (fun _ _ z => z) (by omega) (by omega))
theorem c_prs {R kd p j0 : Nat} {Q : Option Nat → wS → Prop} {Xh : Nat → Nat → wS → Prop} (rc : RdX F t ro m k n f s R) (hb : ∀ p, p < s 10 0 → s 12 p < 16) (h8 : s 10 0 ≤ 8) (hk : kdl (ltr (Lf f) n i) = kd) (h56 : kd = 5 ∨ kd = 6) (hp : p < 8) (hi : i ≤ n) (hR : 210 ≤ i + 7 * (R + 1)) (hr : n - i + 1 ≤ rC σ ∧ 5 * (n - i) + 7 ≤ rS σ) (hj : i + 5 = j0) (hpv : p = dgv (Lf f) j0) (f2 : Fr (P4 t) 0 0 σ τ) (hd : Rd τ t ro m k n f s (j0 + 1)) (hn : j0 + 1 ≤ n) (hps : psr s (Lf f) n (R + 1) i = pS2 s (Lf f) n R kd p i (j0 + 1))
    (ok : ∀ j c, psr s (Lf f) n (R + 1) i = Sum.inr (j, c) → ∀ τ o, Fr (P4 t) (j - i) (5 * (j - i)) σ τ → Rd τ t ro m k n f s j → SD (fun o => oC σ o = 0) τ s (Lf f) n (R + 1) i o → oI τ 4201 o = nI c → Q (some o) τ)
    (hX : ∀ z, psr s (Lf f) n (R + 1) i = Sum.inl z → XF Xh t (n - i + 1) (5 * (n - i) + 7) σ z) : w_X39_pair F (w_X39_expression F R) τ t (nI kd) (nI p) (nI i) Q Xh := by
  have n160 := hd.2.1.2.2
  obtain ⟨x2, y2⟩ := f2.2.2.1
  refine c_pairR rc hb h8 h56 hp hd hn (by omega) (by omega) (res := psr s (Lf f) n (R + 1) i) hps.symm (fun j c he υ o fr hd2 ho sd hc => ?_) (fun z he q υ f' => ?_)
  · have jb := psr_b hb h8 n160 (R + 1) i j c hi he
    refine ok j c he υ o ((f2.trans fr).mono (fun _ _ z => z) (by omega) (by omega)) hd2 ⟨oC0 f2.1 ho, ?_⟩ hc
    rw [hk, if_neg (by omega), if_neg (by omega)]
    obtain ⟨s1, s2, s3, o1, o2, s4, s5, s6, s7⟩ := sd
    rw [show i + 7 = j0 + 1 + 1 by omega]
    refine ⟨s1, s2, by rw [s3, hpv, hj], o1, o2, s4, s5, ?_, ?_⟩
    · exact s6.fr (fun o h => oC0 f2.1 h) (Fr.refl (P := fun _ _ => False)) (fun _ _ _ _ z => z) _ _ _
    · exact s7.fr (fun o h => oC0 f2.1 h) (Fr.refl (P := fun _ _ => False)) (fun _ _ _ _ z => z) _ _ _
  · exact (hX z he) q υ ((f2.trans f').mono (fun _ _ z => z) (by omega) (by omega))
def x3k (kd : Nat) : Int32 := if kd = 1 then 0 else if kd = 3 then 1 else if kd = 4 then 2 else if kd = 5 then 3 else -1
theorem c_hash {kd : Nat} {B : Int32 → wS → Prop} (hk : kd = 1 ∨ kd = 3 ∨ kd = 4 ∨ kd = 5 ∨ kd = 6) (h : B (x3k kd) σ) : wdx kd < 15 ∧ w_J6_hashCode σ (wdx kd) (fun r6 σ7 => (if r6 = (3267882 : Int32) then w_J6_equals σ7 (wdx kd) (3 : Nat) (fun r10 σ11 => (if r10 = 0 then B (-1) σ11 else B 3 σ11)) else if r6 = (3287941 : Int32) then w_J6_equals σ7 (wdx kd) (1 : Nat) (fun r71 σ72 => (if r71 = 0 then B (-1) σ72 else B 1 σ72)) else if r6 = (3524221 : Int32) then w_J6_equals σ7 (wdx kd) (0 : Nat) (fun r76 σ77 => (if r76 = 0 then B (-1) σ77 else B 0 σ77)) else if r6 = (110125420 : Int32) then w_J6_equals σ7 (wdx kd) (2 : Nat) (fun r81 σ82 => (if r81 = 0 then B (-1) σ82 else B 2 σ82)) else B (-1) σ7)) := by
  unfold w_J6_hashCode w_J6_equals
  rcases hk with rfl | rfl | rfl | rfl | rfl
  · refine ⟨by decide, by decide, by decide, ?_⟩
    rw [show wd_hsh.getD (wdx 1) 0 = 3524221 from rfl]
    dsimp only
    rw [if_neg (by decide), if_neg (by decide), if_pos rfl]
    exact ⟨rfl, by rw [if_neg (by decide)]; exact h⟩
  · refine ⟨by decide, by decide, by decide, ?_⟩
    rw [show wd_hsh.getD (wdx 3) 0 = 3287941 from rfl]
    dsimp only
    rw [if_neg (by decide), if_pos rfl]
    exact ⟨rfl, by rw [if_neg (by decide)]; exact h⟩
  · refine ⟨by decide, by decide, by decide, ?_⟩
    rw [show wd_hsh.getD (wdx 4) 0 = 110125420 from rfl]
    dsimp only
    rw [if_neg (by decide), if_neg (by decide), if_neg (by decide), if_pos rfl]
    exact ⟨rfl, by rw [if_neg (by decide)]; exact h⟩
  · refine ⟨by decide, by decide, by decide, ?_⟩
    rw [show wd_hsh.getD (wdx 5) 0 = 3267882 from rfl]
    dsimp only
    rw [if_pos rfl]
    exact ⟨rfl, by rw [if_neg (by decide)]; exact h⟩
  · refine ⟨by decide, by decide, by decide, ?_⟩
    rw [show wd_hsh.getD (wdx 6) 0 = 3194931 from rfl]
    dsimp only
    rw [if_neg (by decide), if_neg (by decide), if_neg (by decide), if_neg (by decide)]
    exact h
theorem c_113 {R kd j0 : Nat} {Q : Option Nat → wS → Prop} {Xh : Nat → Nat → wS → Prop} (hF : 1000 ≤ F) (rc : RdX F t ro m k n f s R) (hb : ∀ p, p < s 10 0 → s 12 p < 16) (h8 : s 10 0 ≤ 8) (hk : kdl (ltr (Lf f) n i) = kd) (k5 : kd = 1 ∨ kd = 3 ∨ kd = 4 ∨ kd = 5 ∨ kd = 6) (hi : i ≤ n) (hR : 210 ≤ i + 7 * (R + 1)) (hr : n - i + 1 ≤ rC σ ∧ 5 * (n - i) + 7 ≤ rS σ) (hj : i + (WB (wdx kd)).length = j0) (f1 : Fr (P4 t) 0 0 σ τ) (hd : Rd τ t ro m k n f s j0) (hn : j0 ≤ n) (hps : psr s (Lf f) n (R + 1) i = if j0 < n ∧ Lf f j0 = 32 then pS0 s (Lf f) n R kd i (j0 + 1) else Sum.inl j0)
    (ok : ∀ j c, psr s (Lf f) n (R + 1) i = Sum.inr (j, c) → ∀ τ o, Fr (P4 t) (j - i) (5 * (j - i)) σ τ → Rd τ t ro m k n f s j → SD (fun o => oC σ o = 0) τ s (Lf f) n (R + 1) i o → oI τ 4201 o = nI c → Q (some o) τ)
    (hX : ∀ z, psr s (Lf f) n (R + 1) i = Sum.inl z → XF Xh t (n - i + 1) (5 * (n - i) + 7) σ z) : b_X39_expression_113 F (w_X39_expression F R) t Q Xh τ (nI i) (x3k kd) := by
  have n160 := hd.2.1.2.2
  obtain ⟨x1, y1⟩ := f1.2.2.1
  have hu8 : und s kd ≤ 8 := by unfold und; split; exact h8; split <;> decide
  have len2 : (WB (lix kd)).length = (WB (wdx kd)).length + 1 := by rw [(wdx_b kd k5).1, List.length_append]; rfl
  have dg : ∀ (Q2 : Int32 → wS → Prop), (∀ p, p < und s kd → p = dgv (Lf f) (j0 + 1) → j0 + 2 ≤ n → psr s (Lf f) n (R + 1) i = (if kd = 1 then Sum.inr (j0 + 2, s 12 p) else if kd < 5 then pS1 s (Lf f) n R kd p i (j0 + 2) else pS2 s (Lf f) n R kd p i (j0 + 2)) → ∀ τ2, Fr (P4 t) 0 0 σ τ2 → Rd τ2 t ro m k n f s (j0 + 2) → Q2 (nI p) τ2) → w_X39_digit τ t (nI (und s kd)) Q2 Xh := fun Q2 hk2 => by
    refine c_digitR hu8 hd hn (by omega) (fun p hin h32 hdg τ2 f2 hd2 => ?_) (fun z => ?_) (fun hin h32 hdg => ?_)
    · rw [if_pos ⟨hin, h32⟩] at hps
      unfold pS0 at hps
      rw [hdg] at hps
      obtain ⟨g1, g2, g3, -⟩ := dgt_some (by omega) hdg
      exact hk2 p g2 g3 (by omega) hps τ2 (f1.trans f2) hd2
    · rw [if_neg z] at hps
      intro q υ f'
      exact (hX j0 hps) q υ ((f1.trans f').mono (fun _ _ z => z) (by omega) (by omega))
    · rw [if_pos ⟨hin, h32⟩] at hps
      unfold pS0 at hps
      rw [hdg] at hps
      intro q υ f'
      exact (hX (j0 + 1) hps) q υ ((f1.trans f').mono (fun _ _ z => z) (by omega) (by omega))
  unfold b_X39_expression_113
  rcases k5 with rfl | rfl | rfl | rfl | rfl
  · rw [if_pos (show x3k 1 = 0 from rfl), hd.1.2.2.1]
    refine ⟨hd.1.1, m, rfl, hd.2.2.1.1, ?_⟩
    rw [hd.2.2.1.2.1]
    refine dg _ (fun p hpu pv hn2 hps2 τ2 f2 hd2 => ?_)
    rw [if_pos rfl] at hps2
    have hpu' : p < s 10 0 := hpu
    obtain ⟨x2, y2⟩ := f2.2.2.1
    refine c_nwo (by omega) (fun τ3 f3 no _ => ?_)
    have f3' : Fr (P4 t) 1 2 τ2 τ3 := f3.mono (fun _ _ z => z.elim) (Nat.le_refl _) (Nat.le_refl _)
    have hd3 := hd2.mv f3' (by rw [f3.I (c := 39) hd2.1.1 (fun z => z)]; exact hd2.1.2.2.2)
    have qt : nx τ2 ≠ t := fun z => by have := no.2.1; rw [z, show oC τ2 t = 40 from hd2.1.1] at this; cases this
    obtain ⟨to, t1, t2, t3, t4, t5, t6⟩ := hd3.2.2.2.2.2.1 p hpu'
    refine ⟨m, hd3.1.2.2.1, hd3.2.2.1.1, vp_inN (by omega) (by decide), to, by rw [nI_clamp (by omega)]; exact t1, t2, ?_⟩
    unfold w_X42_init
    rw [t4]
    refine c_sd41 (Or.inl no.1) (fun τ4 w4 v4 u4 => ?_)
    have hq0 : oC σ (nx τ2) = 0 := oC0 f2.1 no.2.1
    have l4 : (WB (wdx 1)).length = 4 := rfl
    refine ok (j0 + 2) (s 12 p) hps2 τ4 (nx τ2) (((f2.trans f3').w w4 (Or.inl hq0)).mono (fun _ _ z => z) (by omega) (by omega)) (hd3.wq w4 qt (by decide)) ⟨hq0, ?_⟩ u4
    rw [hk, if_pos rfl]
    exact ⟨by rw [w4.1.1]; exact no.1, by rw [v4, pv, show i + 5 = j0 + 1 by omega]⟩
  · rw [if_neg (show ¬ x3k 3 = 0 by decide), if_pos (show x3k 3 = 1 from rfl)]
    refine ⟨hd.1.1, dg _ (fun p hpu pv hn2 hps2 τ2 f2 hd2 => ?_)⟩
    rw [if_neg (by decide), if_pos (by decide)] at hps2
    exact c_sgl rc hb h8 hk (Or.inl rfl) hpu hi hR hr (by rw [len2, ← hj]; rfl) pv f2 hd2 hn2 hps2 ok hX
  · rw [if_neg (show ¬ x3k 4 = 0 by decide), if_neg (show ¬ x3k 4 = 1 by decide), if_pos (show x3k 4 = 2 from rfl)]
    refine ⟨hd.1.1, dg _ (fun p hpu pv hn2 hps2 τ2 f2 hd2 => ?_)⟩
    rw [if_neg (by decide), if_pos (by decide)] at hps2
    have hpu' : p < 4 := hpu
    exact c_sgl rc hb h8 hk (Or.inr rfl) (by omega) hi hR hr (by rw [len2, ← hj]; rfl) pv f2 hd2 hn2 hps2 ok hX
  · rw [if_neg (show ¬ x3k 5 = 0 by decide), if_neg (show ¬ x3k 5 = 1 by decide), if_neg (show ¬ x3k 5 = 2 by decide), if_pos (show x3k 5 = 3 from rfl)]
    refine ⟨hd.1.1, dg _ (fun p hpu pv hn2 hps2 τ2 f2 hd2 => ?_)⟩
    rw [if_neg (by decide), if_neg (by decide)] at hps2
    have hpu' : p < 4 := hpu
    have l4 : (WB (wdx 5)).length = 4 := rfl
    exact c_prs rc hb h8 hk (Or.inl rfl) (by omega) hi hR hr (by omega) pv f2 hd2 hn2 hps2 ok hX
  · rw [if_neg (show ¬ x3k 6 = 0 by decide), if_neg (show ¬ x3k 6 = 1 by decide), if_neg (show ¬ x3k 6 = 2 by decide), if_neg (show ¬ x3k 6 = 3 by decide)]
    refine ⟨hd.1.1, dg _ (fun p hpu pv hn2 hps2 τ2 f2 hd2 => ?_)⟩
    rw [if_neg (by decide), if_neg (by decide)] at hps2
    have hpu' : p < 4 := hpu
    have l4 : (WB (wdx 6)).length = 4 := rfl
    exact c_prs rc hb h8 hk (Or.inr rfl) (by omega) hi hR hr (by omega) pv f2 hd2 hn2 hps2 ok hX
theorem c_expr (hF : 1000 ≤ F) (hb : ∀ p, p < s 10 0 → s 12 p < 16) (h8 : s 10 0 ≤ 8) : ∀ R, RdX F t ro m k n f s R := by
  intro R
  induction R with
  | zero =>
    intro i σ Q Xh h hi hR
    have := h.2.1.2.2
    omega
  | succ R ih =>
    intro i σ Q Xh h hi hR hr ok hX
    have kc := kdl_c (ltr (Lf f) n i)
    show wm_X39_expression F (w_X39_expression F R) σ t Q Xh
    unfold wm_X39_expression
    refine ⟨h.1.1, c_word h hi (by omega) (by omega) (fun k0 j0 hj0 τ1 f1 hd1 => ?_) (fun z hz => ?_)⟩
    · obtain ⟨e0, l0⟩ := mst_inr _ _ _ hi hj0
      have hp := psr_2 (s := s) (R := R) (n := n) (L := Lf f) (i := i) rfl k0
      rw [hj0] at hp
      rw [h.1.2.2.2]
      refine c_hash (B := fun v σ11 => b_X39_expression_113 F (w_X39_expression F R) t Q Xh σ11 (nI i) v) (by omega) ?_
      exact c_113 hF ih hb h8 rfl (by omega) hi hR hr e0.symm f1 hd1 l0 hp ok hX
    · refine (hX z ?_).mono (by omega) (by omega)
      rcases hz with ⟨z1, z2⟩ | ⟨z1, z2⟩
      · rw [psr_k z1, if_pos rfl, z2]
      · rw [psr_2 rfl z1, z2]
end PC
